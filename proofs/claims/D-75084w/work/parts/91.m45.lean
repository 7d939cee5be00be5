/-! the hash of a text (printed by gen/m45.py) -/
set_option maxRecDepth 100000
/-- a text's hash -/
def hsh (f : Nat → Int32) : Nat → Int32
  | 0 => 0
  | n + 1 => 31 * hsh f n + (f n &&& 255)
theorem zadd (x : Int32) : 0 + x = x := by
  apply Int32.toBitVec_inj.mp
  show 0#32 + x.toBitVec = x.toBitVec
  exact BitVec.zero_add _
theorem lk3 (n : Nat) : n = 0 ∨ n = 1 ∨ 2 ≤ n := by omega
theorem lk_d {n : Nat} (h : 2 ≤ n) (hn : n < 2 ^ 31) : Op.lookupswitch.offset [(0, 26), (1, 30)] 40 (nI n).toInt = 40 := by
  have e : (nI n).toInt = (n : Int) := nI_toInt hn
  rw [e]
  have h0 : ¬ (0 : Int) = (n : Int) := by omega
  have h1 : ¬ (1 : Int) = (n : Int) := by omega
  simp [Op.lookupswitch.offset, h0, h1]
theorem hsh1 (f : Nat → Int32) : hsh f 1 = f 0 &&& 255 := by
  show 31 * 0 + (f 0 &&& 255) = f 0 &&& 255
  rw [show (31 : Int32) * 0 = 0 by decide, zadd]
set_option maxHeartbeats 4000000 in
theorem j_sHash (l : Launch) (D : va_G) (k : Nat → ClassId) (g : Nat → Nat) (q3 nt : Nat) (f : Nat → Int32) (hnt : nt ≤ 900) : sM l D k yJ12_signedHashCode cJ12_signedHashCode 6 (some .int) 0 0 [.int 0, .ref q3, .int 0, .int (nI nt)] (hKX (fun HH => va_P D clA [(q3, .inl (k 1, nt, .inl f))] HH) g) (some (.int (hsh f nt))) := by
  refine sM_of (by decide) (Nat.le_of_ble_eq_true rfl) ?_
  intro p e s m below meth c ls C hK ⟨hF, hX⟩ hl
  have hS : va_S (G0 g) s.heap s.heap [] := va_S.rf
  have hAN : ∀ q, G0 g q → g 0 ≤ q := fun _ h => h
  have hN : NW s := hX.nw
  obtain ⟨hx, hb, hr, hml, hown, hts, hlk⟩ := id C
  have hl : lv_has ls 6 [(0, .int 0), (1, .ref q3), (2, .int 0), (3, .int (nI nt))] := hl
  refine lv_iload_n hx hb dJ12_signedHashCode_0 rfl (lv_at hl 2 rfl) ?_
  refine lv_iload_n hx hb dJ12_signedHashCode_1 rfl (lv_at hl 3 rfl) ?_
  refine lv_iadd hx hb dJ12_signedHashCode_2 ?_
  refine w_topi (y := nI nt) (zadd _) ?_
  refine lv_istore (lv' := [(4, .int (nI nt)), (0, .int 0), (1, .ref q3), (2, .int 0), (3, .int (nI nt))]) hx hb dJ12_signedHashCode_3 hl (by decide) rfl (fun ls hl => ?_)
  refine lv_iload_n hx hb dJ12_signedHashCode_5 rfl (lv_at hl 3 rfl) ?_
  refine lv_istore (lv' := [(5, .int 0), (4, .int (nI nt)), (0, .int 0), (1, .ref q3), (2, .int 0), (3, .int (nI nt))]) hx hb dJ12_signedHashCode_6 hl (by decide) rfl (fun ls hl => ?_)
  have loop_8 : ∀ (n : Nat) (j : Nat), (j ≤ nt) → (nt + 1 ≤ j + n) → ∀ (ls : Array Slot), lv_has ls 6 [(0, .int (hsh f j)), (1, .ref q3), (2, .int 0), (3, .int (nI nt)), (4, .int (nI nt)), (5, .int (nI j))] → W p l e (Rm 0 0 0 0) s m ([.int 0, .ref q3, .int 0, .int (nI nt)] : List Value).toArray below meth c s.heap [] 0 0 (MQ below (rQ (some (.int (hsh f nt)))) ([.int 0, .ref q3, .int 0, .int (nI nt)] : List Value).toArray s 0 0 (fun _ => False)) (F0 m 8 ls []) := by
    intro n
    induction n with
    | zero =>
      intro j hj hn
      exact absurd hn (by omega)
    | succ n ih_8 =>
      intro j hj hn ls hl
      refine lv_iload hx hb dJ12_signedHashCode_8 (lv_at hl 5 rfl) ?_
      refine lv_iload hx hb dJ12_signedHashCode_10 (lv_at hl 4 rfl) ?_
      refine lv_icmp_ge (tgt := 35) hx hb dJ12_signedHashCode_12 (by decide) (fun c_12 => ?_) (fun c_12 => ?_)
      · have g_12 := nI_le' c_12 (by omega) (by omega)
        refine lv_iload_n hx hb dJ12_signedHashCode_35 rfl (lv_at hl 0 rfl) ?_
        exact r_iret C (by rw [show j = nt by omega]) dJ12_signedHashCode_36
      · have g_12 := nI_nle' c_12 (by omega) (by omega)
        refine lv_bipush (v := 31) hx hb dJ12_signedHashCode_15 rfl ?_
        refine lv_iload_n hx hb dJ12_signedHashCode_17 rfl (lv_at hl 0 rfl) ?_
        refine lv_imul hx hb dJ12_signedHashCode_18 ?_
        refine lv_aload_n hx hb dJ12_signedHashCode_19 rfl (lv_at hl 1 rfl) ?_
        refine lv_iload hx hb dJ12_signedHashCode_20 (lv_at hl 5 rfl) ?_
        refine w_bald hx hb hK hF 0 rfl j rfl (by omega) (by omega) dJ12_signedHashCode_22 ?_
        refine lv_sipush (v := 255) hx hb dJ12_signedHashCode_23 rfl ?_
        refine lv_iand hx hb dJ12_signedHashCode_26 ?_
        refine lv_iadd hx hb dJ12_signedHashCode_27 ?_
        refine w_topi (y := hsh f (j + 1)) rfl ?_
        refine lv_istore_n (lv' := [(0, .int (hsh f (j + 1))), (1, .ref q3), (2, .int 0), (3, .int (nI nt)), (4, .int (nI nt)), (5, .int (nI j))]) hx hb dJ12_signedHashCode_28 rfl hl (by decide) rfl (fun ls hl => ?_)
        refine lv_iinc (v := nI (j + 1)) (lv' := [(5, .int (nI (j + 1))), (0, .int (hsh f (j + 1))), (1, .ref q3), (2, .int 0), (3, .int (nI nt)), (4, .int (nI nt))]) hx hb dJ12_signedHashCode_29 hl (k := 5) rfl (nI_1 j) (by decide) rfl (fun ls hl => ?_)
        refine lv_goto (tgt := 8) hx hb dJ12_signedHashCode_32 (by decide) ?_
        exact ih_8 (j + 1) (by omega) (by omega) ls (lv_sub hl [1, 2, 3, 4, 5, 0] rfl)
  exact loop_8 (nt + 1) 0 (Nat.zero_le _) (by omega) ls (lv_sub hl [2, 3, 4, 5, 1, 0] rfl)
set_option maxHeartbeats 4000000 in
theorem j_vHash (l : Launch) (D : va_G) (k : Nat → ClassId) (g : Nat → Nat) (q3 nt : Nat) (f : Nat → Int32) (hnt : nt ≤ 900) : sM l D k yJ12_vectorizedHashCode cJ12_vectorizedHashCode 5 (some .int) 1 25 [.ref q3, .int 0, .int (nI nt), .int 0, .int 4] (hKX (fun HH => va_P D clA [(q3, .inl (k 1, nt, .inl f))] HH) g) (some (.int (hsh f nt))) := by
  refine sM_of (by decide) (Nat.le_of_ble_eq_true rfl) ?_
  intro p e s m below meth c ls C hK ⟨hF, hX⟩ hl
  have hS : va_S (G0 g) s.heap s.heap [] := va_S.rf
  have hAN : ∀ q, G0 g q → g 0 ≤ q := fun _ h => h
  have hN : NW s := hX.nw
  obtain ⟨hx, hb, hr, hml, hown, hts, hlk⟩ := id C
  have hl : lv_has ls 5 [(0, .ref q3), (1, .int 0), (2, .int (nI nt)), (3, .int 0), (4, .int 4)] := hl
  refine lv_iload hx hb dJ12_vectorizedHashCode_0 (lv_at hl 4 rfl) ?_
  refine lv_tableIn (off := 42) (tgt := 44) hx hb dJ12_vectorizedHashCode_2 (by decide) (by decide) (by decide) (by decide) ?_
  refine lv_iload_n hx hb dJ12_vectorizedHashCode_44 rfl (lv_at hl 3 rfl) ?_
  refine lv_aload_n hx hb dJ12_vectorizedHashCode_45 rfl (lv_at hl 0 rfl) ?_
  refine va_castA hx hb hown (hts _ q800) hF 0 rfl (va_nm_byte (hK.2 1 _ rfl).2) dJ12_vectorizedHashCode_46 ?_
  refine lv_iload_n hx hb dJ12_vectorizedHashCode_49 rfl (lv_at hl 1 rfl) ?_
  refine lv_iload_n hx hb dJ12_vectorizedHashCode_50 rfl (lv_at hl 2 rfl) ?_
  refine r_after (va_runS (As := [.int 0, .ref q3, .int 0, .int (nI nt)]) (rest := []) (g := F0 m 51 ls [.int (nI nt), .int 0, .ref q3, .int 0]) C.fix (j_sHash l D k g q3 nt f hnt) (va_cwS 4 hts (lw_S q801 q802 q86 q803) rfl rfl rfl (by decide +kernel) ⟨Nat.le_of_ble_eq_true rfl, Nat.le_of_ble_eq_true rfl⟩) (preS mv2_hKX hK (fun U hU hW => (hKX_at hX hS hAN (va_cons (hF 0 _ rfl) va_nil) hU hW))) rfl rfl hl.1 rfl (lv_room (Nat.le_of_ble_eq_true rfl)) dJ12_vectorizedHashCode_51 ⟨(by first | exact Nat.le_of_ble_eq_true rfl | omega | (dsimp only [Rm]; omega)), (by first | exact Nat.le_of_ble_eq_true rfl | omega | (dsimp only [Rm]; omega))⟩) ?_
  refine lv_goto (tgt := 157) hx hb dJ12_vectorizedHashCode_54 (by decide) ?_
  exact r_iret C rfl dJ12_vectorizedHashCode_157
set_option maxHeartbeats 4000000 in
theorem j_L1hash (l : Launch) (D : va_G) (k : Nat → ClassId) (g : Nat → Nat) (q3 nt : Nat) (f : Nat → Int32) (hnt : nt ≤ 900) : sM l D k yJ15_hashCode cJ15_hashCode 1 (some .int) 2 49 [.ref q3] (hKX (fun HH => va_P D clA [(q3, .inl (k 1, nt, .inl f))] HH) g) (some (.int (hsh f nt))) := by
  refine sM_of (by decide) (Nat.le_of_ble_eq_true rfl) ?_
  intro p e s m below meth c ls C hK ⟨hF, hX⟩ hl
  have hS : va_S (G0 g) s.heap s.heap [] := va_S.rf
  have hAN : ∀ q, G0 g q → g 0 ≤ q := fun _ h => h
  have hN : NW s := hX.nw
  obtain ⟨hx, hb, hr, hml, hown, hts, hlk⟩ := id C
  have hl : lv_has ls 1 [(0, .ref q3)] := hl
  refine lv_aload_n hx hb dJ15_hashCode_0 rfl (lv_at hl 0 rfl) ?_
  refine va_alen (v := nI nt) hx hb hK hF 0 1 rfl rfl rfl dJ15_hashCode_1 ?_
  rcases lk3 nt with h0 | h1 | h2
  · refine lv_lookup (off := 26) (tgt := 28) hx hb dJ15_hashCode_2 (by decide) (by rw [h0]; decide) (by decide) ?_
    refine lv_iconst (v := 0) hx hb dJ15_hashCode_28 rfl ?_
    refine lv_goto (tgt := 51) hx hb dJ15_hashCode_29 (by decide) ?_
    exact r_iret C (by first | rfl | (rw [h0]; rfl) | (rw [h1]; exact (hsh1 f).symm)) dJ15_hashCode_51
  · refine lv_lookup (off := 30) (tgt := 32) hx hb dJ15_hashCode_2 (by decide) (by rw [h1]; decide) (by decide) ?_
    refine lv_aload_n hx hb dJ15_hashCode_32 rfl (lv_at hl 0 rfl) ?_
    refine lv_iconst (v := 0) hx hb dJ15_hashCode_33 rfl ?_
    refine w_bald hx hb hK hF 0 rfl 0 rfl (by omega) (by omega) dJ15_hashCode_34 ?_
    refine lv_sipush (v := 255) hx hb dJ15_hashCode_35 rfl ?_
    refine lv_iand hx hb dJ15_hashCode_38 ?_
    refine lv_goto (tgt := 51) hx hb dJ15_hashCode_39 (by decide) ?_
    exact r_iret C (by first | rfl | (rw [h0]; rfl) | (rw [h1]; exact (hsh1 f).symm)) dJ15_hashCode_51
  · refine lv_lookup (off := 40) (tgt := 42) hx hb dJ15_hashCode_2 (by decide) (lk_d h2 (by omega)) (by decide) ?_
    refine lv_aload_n hx hb dJ15_hashCode_42 rfl (lv_at hl 0 rfl) ?_
    refine lv_iconst (v := 0) hx hb dJ15_hashCode_43 rfl ?_
    refine lv_aload_n hx hb dJ15_hashCode_44 rfl (lv_at hl 0 rfl) ?_
    refine va_alen (v := nI nt) hx hb hK hF 0 1 rfl rfl rfl dJ15_hashCode_45 ?_
    refine lv_iconst (v := 0) hx hb dJ15_hashCode_46 rfl ?_
    refine lv_iconst (v := 4) hx hb dJ15_hashCode_47 rfl ?_
    refine r_after (va_runS (As := [.ref q3, .int 0, .int (nI nt), .int 0, .int 4]) (rest := []) (g := F0 m 48 ls [.int 4, .int 0, .int (nI nt), .int 0, .ref q3]) C.fix (j_vHash l D k g q3 nt f hnt) (va_cwS 5 hts (lw_S q797 q798 q86 q799) rfl rfl rfl (by decide +kernel) ⟨Nat.le_of_ble_eq_true rfl, Nat.le_of_ble_eq_true rfl⟩) (preS mv2_hKX hK (fun U hU hW => (hKX_at hX hS hAN (va_cons (hF 0 _ rfl) va_nil) hU hW))) rfl rfl hl.1 rfl (lv_room (Nat.le_of_ble_eq_true rfl)) dJ15_hashCode_48 ⟨(by first | exact Nat.le_of_ble_eq_true rfl | omega | (dsimp only [Rm]; omega)), (by first | exact Nat.le_of_ble_eq_true rfl | omega | (dsimp only [Rm]; omega))⟩) ?_
    exact r_iret C (by first | rfl | (rw [h0]; rfl) | (rw [h1]; exact (hsh1 f).symm)) dJ15_hashCode_51
set_option maxHeartbeats 4000000 in
theorem j_txLatin (l : Launch) (D : va_G) (k : Nat → ClassId) (g : Nat → Nat) (tx q3 : Nat) : sM l D k yJ10_isLatin1 cJ10_isLatin1 1 (some .boolean) 0 0 [.ref tx] (hKX (fun HH => va_P D clA [(tx, .inr (14, [.ref q3, .int 0, .int 0, .int 0]))] HH) g) (some (.int (bI True))) := by
  refine sM_of (by decide) (Nat.le_of_ble_eq_true rfl) ?_
  intro p e s m below meth c ls C hK ⟨hF, hX⟩ hl
  have hS : va_S (G0 g) s.heap s.heap [] := va_S.rf
  have hAN : ∀ q, G0 g q → g 0 ≤ q := fun _ h => h
  have hN : NW s := hX.nw
  obtain ⟨hx, hb, hr, hml, hown, hts, hlk⟩ := id C
  have hl : lv_has ls 1 [(0, .ref tx)] := hl
  have hSg := hS
  refine va_gets (v := .int 1) hx hb hX.en.1 hSg hown (hts _ q730) (fun _ h => h) dJ10_isLatin1_0 ?_
  refine lv_if_eq (tgt := 17) hx hb dJ10_isLatin1_3 (by decide) (fun c_3 => ?_) (fun c_3 => ?_)
  · exact absurd c_3 (by decide)
  · refine lv_aload_n hx hb dJ10_isLatin1_6 rfl (lv_at hl 0 rfl) ?_
    refine va_get hx hb hts in_J10 hown hK hF 0 rfl rfl 1 (by decide) (hts _ q773) (fun _ h => h) rfl dJ10_isLatin1_7 ?_
    refine lv_if_ne (tgt := 17) hx hb dJ10_isLatin1_10 (by decide) (fun c_10 => ?_) (fun c_10 => ?_)
    · exact absurd rfl c_10
    · refine lv_iconst (v := 1) hx hb dJ10_isLatin1_13 rfl ?_
      refine lv_goto (tgt := 18) hx hb dJ10_isLatin1_14 (by decide) ?_
      exact r_zret C (bI_t trivial) dJ10_isLatin1_18
set_option maxHeartbeats 4000000 in
theorem j_strHash (l : Launch) (D : va_G) (k : Nat → ClassId) (g : Nat → Nat) (tx q3 nt : Nat) (f : Nat → Int32) (hnt : nt ≤ 900) : jM l D k yJ10_hashCode cJ10_hashCode 2 (some .int) 3 69 0 0 [.ref tx] g [(tx, .inr (14, [.ref q3, .int 0, .int 0, .int 0])), (q3, .inl (k 1, nt, .inl f))] (fun HH => True) (fun xx : Int32 × Int32 => some (.int (hsh f nt))) (fun _ _ => True) (fun xx : Int32 × Int32 => [(tx, .inr (14, [.ref q3, .int 0, .int xx.1, .int xx.2])), (q3, .inl (k 1, nt, .inl f))]) := by
  refine jM_of (by decide) (Nat.le_of_ble_eq_true rfl) ?_
  intro p e s m below meth c ls A hAe C hnm hmn hK hP hD hA hAN _ hX hS hl
  have hN : NW s := hX.nw
  obtain ⟨hx, hb, hr, hml, hown, hts, hlk⟩ := id C
  have hl : lv_has ls 2 [(0, .ref tx)] := hl
  refine lv_aload_n hx hb dJ10_hashCode_0 rfl (lv_at hl 0 rfl) ?_
  refine va_get hx hb hts in_J10 hown hK hP 0 rfl rfl 2 (by decide) (hts _ q774) (fun _ h => h) rfl dJ10_hashCode_1 ?_
  refine lv_istore_n (lv' := [(1, .int 0), (0, .ref tx)]) hx hb dJ10_hashCode_4 rfl hl (by decide) rfl (fun ls hl => ?_)
  refine lv_iload_n hx hb dJ10_hashCode_5 rfl (lv_at hl 0 rfl) ?_
  refine lv_if_ne (tgt := 58) hx hb dJ10_hashCode_6 (by decide) (fun c_6 => ?_) (fun c_6 => ?_)
  · exact absurd rfl c_6
  · refine lv_aload_n hx hb dJ10_hashCode_9 rfl (lv_at hl 1 rfl) ?_
    refine va_get hx hb hts in_J10 hown hK hP 0 rfl rfl 3 (by decide) (hts _ q775) (fun _ h => h) rfl dJ10_hashCode_10 ?_
    refine lv_if_ne (tgt := 58) hx hb dJ10_hashCode_13 (by decide) (fun c_13 => ?_) (fun c_13 => ?_)
    · exact absurd rfl c_13
    · refine lv_aload_n hx hb dJ10_hashCode_16 rfl (lv_at hl 1 rfl) ?_
      refine r_after (va_runV (As := []) (rest := []) (g := F0 m 17 ls [.ref tx]) C.fix (j_txLatin l D k g tx q3) (cwV 0 hts (lw_V q790 q791 q792 q84 q793) rfl rfl rfl (by decide +kernel) ⟨Nat.le_of_ble_eq_true rfl, Nat.le_of_ble_eq_true rfl⟩) (preV mv2_hKX hK (va_recv hK hP (ci := 14) (q0 := 0) rfl rfl) (fun U hU hW => (hKX_at hX hS hAN (va_cons (hP 0 _ rfl) va_nil) hU hW))) rfl rfl hl.1 rfl (lv_room (Nat.le_of_ble_eq_true rfl)) dJ10_hashCode_17 ⟨(by first | exact Nat.le_of_ble_eq_true rfl | omega | (dsimp only [Rm]; omega)), (by first | exact Nat.le_of_ble_eq_true rfl | omega | (dsimp only [Rm]; omega))⟩) ?_
      refine lv_if_eq (tgt := 33) hx hb dJ10_hashCode_20 (by decide) (fun c_20 => ?_) (fun c_20 => ?_)
      · exact absurd trivial (bI_0.mp c_20)
      · have b_20 := bI_nz c_20
        refine lv_aload_n hx hb dJ10_hashCode_23 rfl (lv_at hl 1 rfl) ?_
        refine va_get hx hb hts in_J10 hown hK hP 0 rfl rfl 0 (by decide) (hts _ q772) (fun _ h => h) rfl dJ10_hashCode_24 ?_
        refine r_after (va_runS (As := [.ref q3]) (rest := []) (g := F0 m 27 ls [.ref q3]) C.fix (j_L1hash l D k g q3 nt f hnt) (va_cwS 1 hts (lw_S q794 q795 q90 q796) rfl rfl rfl (by decide +kernel) ⟨Nat.le_of_ble_eq_true rfl, Nat.le_of_ble_eq_true rfl⟩) (preS mv2_hKX hK (fun U hU hW => (hKX_at hX hS hAN (va_cons (hP 1 _ rfl) va_nil) hU hW))) rfl rfl hl.1 rfl (lv_room (Nat.le_of_ble_eq_true rfl)) dJ10_hashCode_27 ⟨(by first | exact Nat.le_of_ble_eq_true rfl | omega | (dsimp only [Rm]; omega)), (by first | exact Nat.le_of_ble_eq_true rfl | omega | (dsimp only [Rm]; omega))⟩) ?_
        refine lv_goto (tgt := 40) hx hb dJ10_hashCode_30 (by decide) ?_
        refine lv_istore_n (lv' := [(1, .int (hsh f nt)), (0, .ref tx)]) hx hb dJ10_hashCode_40 rfl hl (by decide) rfl (fun ls hl => ?_)
        refine lv_iload_n hx hb dJ10_hashCode_41 rfl (lv_at hl 0 rfl) ?_
        refine lv_if_ne (tgt := 53) hx hb dJ10_hashCode_42 (by decide) (fun c_42 => ?_) (fun c_42 => ?_)
        · refine lv_aload_n hx hb dJ10_hashCode_53 rfl (lv_at hl 1 rfl) ?_
          refine lv_iload_n hx hb dJ10_hashCode_54 rfl (lv_at hl 0 rfl) ?_
          refine va_put hx hb hts in_J10 tyJ10 tyJ10_ok nmJ10 hown hK hP (va_D_of hD rfl) hS 0 rfl rfl 2 (by decide) (hts _ q774) (fun _ h => h) rfl rfl rfl rfl (Nat.le_of_ble_eq_true rfl) dJ10_hashCode_55 (fun H locs hP _ hS => ?_)
          have hP : va_P D clA [(tx, .inr (14, [.ref q3, .int 0, .int (hsh f nt), .int 0])), (q3, .inl (k 1, nt, .inl f))] H := hP
          refine lv_iload_n hx hb dJ10_hashCode_58 rfl (lv_at hl 0 rfl) ?_
          exact j_iret hAe C (hsh f nt, 0) rfl trivial hP (va_D_of hD rfl) hS (by first | exact Nat.le_of_ble_eq_true rfl | omega | (dsimp only [Rm]; omega)) (by first | exact Nat.le_of_ble_eq_true rfl | omega | (dsimp only [Rm]; omega)) dJ10_hashCode_59
        · refine lv_aload_n hx hb dJ10_hashCode_45 rfl (lv_at hl 1 rfl) ?_
          refine lv_iconst (v := 1) hx hb dJ10_hashCode_46 rfl ?_
          refine va_put hx hb hts in_J10 tyJ10 tyJ10_ok nmJ10 hown hK hP (va_D_of hD rfl) hS 0 rfl rfl 3 (by decide) (hts _ q775) (fun _ h => h) rfl rfl rfl rfl (Nat.le_of_ble_eq_true rfl) dJ10_hashCode_47 (fun H locs hP _ hS => ?_)
          have hP : va_P D clA [(tx, .inr (14, [.ref q3, .int 0, .int 0, .int 1])), (q3, .inl (k 1, nt, .inl f))] H := hP
          refine lv_goto (tgt := 58) hx hb dJ10_hashCode_50 (by decide) ?_
          refine lv_iload_n hx hb dJ10_hashCode_58 rfl (lv_at hl 0 rfl) ?_
          exact j_iret hAe C (0, 1) rfl trivial hP (va_D_of hD rfl) hS (by first | exact Nat.le_of_ble_eq_true rfl | omega | (dsimp only [Rm]; omega)) (by first | exact Nat.le_of_ble_eq_true rfl | omega | (dsimp only [Rm]; omega)) dJ10_hashCode_59
