/-! texts are compared (printed by gen/m43.py) -/
set_option maxRecDepth 100000
theorem stX_old {A : Nat → Prop} {a v n : Nat} {f : Nat → Int32} {s : State} (h : stX A a v n f s) : ¬ A a := by
  obtain ⟨⟨cell, h1, h2, h3, h4⟩, -⟩ := h
  exact h4
set_option maxHeartbeats 4000000 in
theorem j_L1eq (l : Launch) (D : va_G) (k : Nat → ClassId) (g : Nat → Nat) (q3 nt ix : Nat) (f : Nat → Int32) (hnt : nt ≤ 900) (hix : ix < 9) : sM l D k yJ15_equals cJ15_equals 3 (some .boolean) 0 0 [.ref q3, .ref (g (30 + ix))] (hKX (fun HH => va_P D clA [(q3, .inl (k 1, nt, .inl f))] HH) g) (some (.int (bI (nt = mLen ix ∧ ∀ j, j < nt → f j = (mBy ix).getD j 0)))) := by
  refine sM_of (by decide) (Nat.le_of_ble_eq_true rfl) ?_
  intro p e s m below meth c ls C hK ⟨hF, hX⟩ hl
  have hS : va_S (G0 g) s.heap s.heap [] := va_S.rf
  have hAN : ∀ q, G0 g q → g 0 ≤ q := fun _ h => h
  have hN : NW s := hX.nw
  obtain ⟨hx, hb, hr, hml, hown, hts, hlk⟩ := id C
  have hl : lv_has ls 3 [(0, .ref q3), (1, .ref (g (30 + ix)))] := hl
  have hTx := (hX.ps ix hix).2
  have hSg := hS
  have hml9 := mLen_le ix
  refine lv_aload_n hx hb dJ15_equals_0 rfl (lv_at hl 0 rfl) ?_
  refine va_alen (v := nI nt) hx hb hK hF 0 1 rfl rfl rfl dJ15_equals_1 ?_
  refine lv_aload_n hx hb dJ15_equals_2 rfl (lv_at hl 1 rfl) ?_
  refine va_tlen (v := nI (mLen ix)) hx hb hTx.2.2.2 hS rfl dJ15_equals_3 ?_
  refine lv_icmp_ne (tgt := 34) hx hb dJ15_equals_4 (by decide) (fun c_4 => ?_) (fun c_4 => ?_)
  · refine lv_iconst (v := 0) hx hb dJ15_equals_34 rfl ?_
    exact r_zret C (bI_f (fun h => c_4 (by rw [h.1]))) dJ15_equals_35
  · have hnl : nt = mLen ix := nI_eq' c_4 (by omega) (by omega)
    refine lv_iconst (v := 0) hx hb dJ15_equals_7 rfl ?_
    refine lv_istore_n (lv' := [(2, .int 0), (0, .ref q3), (1, .ref (g (30 + ix)))]) hx hb dJ15_equals_8 rfl hl (by decide) rfl (fun ls hl => ?_)
    have loop_9 : ∀ (n : Nat) (j : Nat), (j ≤ nt) → (∀ a, a < j → f a = (mBy ix).getD a 0) → (nt + 1 ≤ j + n) → ∀ (ls : Array Slot), lv_has ls 3 [(0, .ref q3), (1, .ref (g (30 + ix))), (2, .int (nI j))] → W p l e (Rm 0 0 0 0) s m ([.ref q3, .ref (g (30 + ix))] : List Value).toArray below meth c s.heap [] 0 0 (MQ below (rQ (some (.int (bI (nt = mLen ix ∧ ∀ j, j < nt → f j = (mBy ix).getD j 0))))) ([.ref q3, .ref (g (30 + ix))] : List Value).toArray s 0 0 (fun _ => False)) (F0 m 9 ls []) := by
      intro n
      induction n with
      | zero =>
        intro j hj hsm hn
        exact absurd hn (by omega)
      | succ n ih_9 =>
        intro j hj hsm hn ls hl
        refine lv_iload_n hx hb dJ15_equals_9 rfl (lv_at hl 2 rfl) ?_
        refine lv_aload_n hx hb dJ15_equals_10 rfl (lv_at hl 0 rfl) ?_
        refine va_alen (v := nI nt) hx hb hK hF 0 1 rfl rfl rfl dJ15_equals_11 ?_
        refine lv_icmp_ge (tgt := 32) hx hb dJ15_equals_12 (by decide) (fun c_12 => ?_) (fun c_12 => ?_)
        · have g_12 := nI_le' c_12 (by omega) (by omega)
          refine lv_iconst (v := 1) hx hb dJ15_equals_32 rfl ?_
          exact r_zret C (bI_t ⟨hnl, fun a ha => hsm a (by omega)⟩) dJ15_equals_33
        · have g_12 := nI_nle' c_12 (by omega) (by omega)
          refine lv_aload_n hx hb dJ15_equals_15 rfl (lv_at hl 0 rfl) ?_
          refine lv_iload_n hx hb dJ15_equals_16 rfl (lv_at hl 2 rfl) ?_
          refine w_bald hx hb hK hF 0 rfl j rfl (by omega) (by omega) dJ15_equals_17 ?_
          refine lv_aload_n hx hb dJ15_equals_18 rfl (lv_at hl 1 rfl) ?_
          refine lv_iload_n hx hb dJ15_equals_19 rfl (lv_at hl 2 rfl) ?_
          refine va_tb (i := nI j) (v := .int ((fun j => (mBy ix).getD j 0) j)) hx hb hTx.2.2.2 hS (vp_in_nI (by omega) (by omega)) (by rw [nI_clamp (by omega)]) dJ15_equals_20 ?_
          refine lv_icmp_eq (tgt := 26) hx hb dJ15_equals_21 (by decide) (fun c_21 => ?_) (fun c_21 => ?_)
          · refine lv_iinc (v := nI (j + 1)) (lv' := [(2, .int (nI (j + 1))), (0, .ref q3), (1, .ref (g (30 + ix)))]) hx hb dJ15_equals_26 hl (k := 2) rfl (nI_1 j) (by decide) rfl (fun ls hl => ?_)
            refine lv_goto (tgt := 9) hx hb dJ15_equals_29 (by decide) ?_
            exact ih_9 (j + 1) (by omega) (lt_s hsm c_21) (by omega) ls (lv_sub hl [1, 2, 0] rfl)
          · refine lv_iconst (v := 0) hx hb dJ15_equals_24 rfl ?_
            exact r_zret C (bI_f (fun h => c_21 (h.2 j (by omega)))) dJ15_equals_25
    exact loop_9 (nt + 1) 0 (Nat.zero_le _) (fun a h => absurd h (by omega)) (by omega) ls (lv_sub hl [1, 2, 0] rfl)
set_option maxHeartbeats 4000000 in
theorem j_strEq (l : Launch) (D : va_G) (k : Nat → ClassId) (g : Nat → Nat) (tx q3 nt ix : Nat) (hh hz : Int32) (f : Nat → Int32) (hnt : nt ≤ 900) (hix : ix < 9) (htx : g 0 ≤ tx) : sM l D k yJ10_equals cJ10_equals 3 (some .boolean) 1 22 [.ref tx, .ref (g (20 + ix))] (hKX (fun HH => va_P D clA [(tx, .inr (14, [.ref q3, .int 0, .int hh, .int hz])), (q3, .inl (k 1, nt, .inl f))] HH) g) (some (.int (bI (nt = mLen ix ∧ ∀ j, j < nt → f j = (mBy ix).getD j 0)))) := by
  refine sM_of (by decide) (Nat.le_of_ble_eq_true rfl) ?_
  intro p e s m below meth c ls C hK ⟨hF, hX⟩ hl
  have hS : va_S (G0 g) s.heap s.heap [] := va_S.rf
  have hAN : ∀ q, G0 g q → g 0 ≤ q := fun _ h => h
  have hN : NW s := hX.nw
  obtain ⟨hx, hb, hr, hml, hown, hts, hlk⟩ := id C
  have hl : lv_has ls 3 [(0, .ref tx), (1, .ref (g (20 + ix)))] := hl
  have hTx := (hX.ps ix hix).2
  have hSg := hS
  have hml9 := mLen_le ix
  refine lv_aload_n hx hb dJ10_equals_0 rfl (lv_at hl 0 rfl) ?_
  refine lv_aload_n hx hb dJ10_equals_1 rfl (lv_at hl 1 rfl) ?_
  refine lv_acmp_ne (rx := some tx) (ry := some (g (20 + ix))) (tgt := 7) hx hb dJ10_equals_2 (by decide) (fun c_2 => ?_) (fun c_2 => ?_)
  · refine lv_aload_n hx hb dJ10_equals_7 rfl (lv_at hl 1 rfl) ?_
    refine va_instY hx hb hown (hts _ q852) (cast_self (hK.1 14 _ rfl)) (stX_rc hTx hS) dJ10_equals_8 ?_
    refine lv_if_eq (tgt := 54) hx hb dJ10_equals_11 (by decide) (fun c_11 => ?_) (fun c_11 => ?_)
    · exact absurd c_11 (by decide)
    · refine lv_aload_n hx hb dJ10_equals_14 rfl (lv_at hl 1 rfl) ?_
      refine va_castY hx hb hown (hts _ q852) (cast_self (hK.1 14 _ rfl)) (stX_rc hTx hS) dJ10_equals_15 ?_
      refine lv_astore_n (lv' := [(2, .ref (g (20 + ix))), (0, .ref tx), (1, .ref (g (20 + ix)))]) hx hb dJ10_equals_18 rfl hl (by decide) rfl (fun ls hl => ?_)
      refine va_gets (v := .int 1) hx hb hX.en.1 hSg hown (hts _ q730) (fun _ h => h) dJ10_equals_19 ?_
      refine lv_if_eq (tgt := 36) hx hb dJ10_equals_22 (by decide) (fun c_22 => ?_) (fun c_22 => ?_)
      · exact absurd c_22 (by decide)
      · refine lv_aload_n hx hb dJ10_equals_25 rfl (lv_at hl 1 rfl) ?_
        refine va_get hx hb hts in_J10 hown hK hF 0 rfl rfl 1 (by decide) (hts _ q773) (fun _ h => h) rfl dJ10_equals_26 ?_
        refine lv_aload_n hx hb dJ10_equals_29 rfl (lv_at hl 0 rfl) ?_
        refine vk_getf hx hb hTx.2.1 hS hown (hts _ q773) (fun _ h => h) dJ10_equals_30 ?_
        refine lv_icmp_ne (tgt := 54) hx hb dJ10_equals_33 (by decide) (fun c_33 => ?_) (fun c_33 => ?_)
        · exact absurd rfl c_33
        · refine lv_aload_n hx hb dJ10_equals_36 rfl (lv_at hl 1 rfl) ?_
          refine va_get hx hb hts in_J10 hown hK hF 0 rfl rfl 0 (by decide) (hts _ q772) (fun _ h => h) rfl dJ10_equals_37 ?_
          refine lv_aload_n hx hb dJ10_equals_40 rfl (lv_at hl 0 rfl) ?_
          refine vk_getf hx hb hTx.2.2.1 hS hown (hts _ q772) (fun _ h => h) dJ10_equals_41 ?_
          refine r_after (va_runS (As := [.ref q3, .ref (g (30 + ix))]) (rest := []) (g := F0 m 44 ls [.ref (g (30 + ix)), .ref q3]) C.fix (j_L1eq l D k g q3 nt ix f hnt hix) (va_cwS 2 hts (lw_S q853 q854 q90 q855) rfl rfl rfl (by decide +kernel) ⟨Nat.le_of_ble_eq_true rfl, Nat.le_of_ble_eq_true rfl⟩) (preS mv2_hKX hK (fun U hU hW => (hKX_at hX hS hAN (va_cons (hF 1 _ rfl) va_nil) hU hW))) rfl rfl hl.1 rfl (lv_room (Nat.le_of_ble_eq_true rfl)) dJ10_equals_44 ⟨(by first | exact Nat.le_of_ble_eq_true rfl | omega | (dsimp only [Rm]; omega)), (by first | exact Nat.le_of_ble_eq_true rfl | omega | (dsimp only [Rm]; omega))⟩) ?_
          refine lv_if_eq (tgt := 54) hx hb dJ10_equals_47 (by decide) (fun c_47 => ?_) (fun c_47 => ?_)
          · have b_47 := bI_0.mp c_47
            refine lv_iconst (v := 0) hx hb dJ10_equals_54 rfl ?_
            exact r_zret C (by first | exact bI_t (bI_nz c_47) | exact bI_f (bI_0.mp c_47)) dJ10_equals_55
          · have b_47 := bI_nz c_47
            refine lv_iconst (v := 1) hx hb dJ10_equals_50 rfl ?_
            refine lv_goto (tgt := 55) hx hb dJ10_equals_51 (by decide) ?_
            exact r_zret C (by first | exact bI_t (bI_nz c_47) | exact bI_f (bI_0.mp c_47)) dJ10_equals_55
  · exact absurd c_2 (fun h => stX_old hTx (by rw [← Option.some.inj h]; exact htx))
