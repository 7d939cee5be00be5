/-! StringBuilder.toString (printed by gen/m41.py) -/
set_option maxRecDepth 100000
theorem gO_len : GoodIn lw_all (va_wsO "java/lang/String" 549 "java/lang/StringBuilder" "java/lang/AbstractStringBuilder" yJ8_length yJ9_length (ws_ yJ9_length cJ9_length 1 (some .int))) := by
  refine lw_app ?_ (lw_meth q657)
  intro w hw
  have hm : w ∈ lw_all := by
    simp only [List.mem_cons, List.not_mem_nil, or_false] at hw
    rcases hw with e | e | e | e | e | e
    · rw [e]; exact q652
    · rw [e]; exact q654
    · rw [e]; exact q653
    · rw [e]; exact q655
    · rw [e]; exact q656
    · rw [e]; exact q83
  exact hm
theorem mn_nI2 {a b : Nat} (h : b ≤ a) (hb : a < 2 ^ 31) : mn (nI a) (nI b) = nI b := by
  unfold mn
  split
  · rename_i z
    have := nI_lt' z hb (by omega)
    omega
  · rfl
theorem sub_0 (x : Int32) : x - 0 = x := by
  apply Int32.toBitVec_inj.mp
  show x.toBitVec - 0#32 = x.toBitVec
  exact BitVec.sub_zero _
section ROWS41
variable {p : Program} {l : Launch} {e : Env} {R : Room} {s : State} {m : MethodId} {args : Array Value} {below : List Frame} {meth : Method} {c : Code} {H : Heap} {locs : List Loc} {cells slots : Nat} {Q : State → Prop}
variable {cc : ByteArray} {own : String} {pc : Nat} {ls : Array Slot} {rest : List Value} {D : va_G} {k : Nat → ClassId} {A : Nat → Prop} {ws : va_W} {H0 : Heap}
theorem b_clone {index : Nat} (hexec : p.tables.exec = Jvm.exec) (hb : c.code = cc) (hml : c.maxLocals = ls.size) (hown : s.vm.findClass own = some m.cls) (hlink : (Cond.methodLink own index ⟨"[B", "clone", "()Ljava/lang/Object;"⟩).before args s = true) (hts : ∀ w ∈ lw_all, w.before args s = true) (hN : NW s)
    (hK : KA D k s) (hP : va_P D clA ws H) (hD : va_D A ws) (hS : va_S A H0 H locs) (hA : ∀ q, H0.size ≤ q → A q) (q0 : Nat) {a n : Nat} {f : Nat → Int32} (ha : ws[q0]? = some (a, .inl (k 1, n, .inl f))) (hfit : bfit f)
    (hframes : 1 ≤ R.frames) (hlocals : (rest.map fun v => v.category).sum + 14 ≤ R.locals) (hcells : cells + 1 ≤ R.cells) (hslots : slots + n ≤ R.slots) (hdg : decode cc pc = .ok (.invokevirtual index, 3))
    (kk : ∀ (q : Nat) (H1 : Heap), va_P D clA (ws ++ [(q, .inl (k 1, n, .inl f))]) H1 → va_D A (ws ++ [(q, .inl (k 1, n, .inl f))]) → va_S A H0 H1 locs → W p l e R s m args below meth c H1 locs (cells + 1) (slots + n) Q (F0 m (pc + 3) ls (.ref q :: rest))) : W p l e R s m args below meth c H locs cells slots Q (F0 m pc ls (.ref a :: rest)) := by
  refine va_clone (ad := "[B") (ty := .byte) hexec hb hml hown hlink (hts _ q571) (hts _ q572) (hts _ q573) (hts _ q574) (hN _ q575 rfl) hK hP hD hS hA q0 1 ha rfl (va_nm_byte (hK.2 1 _ rfl).2) ?_ hframes hlocals hcells hslots hdg (fun q H1 _ hP hD hS => kk q H1 hP hD hS)
  intro i v hv
  have hv2 : (arrV (k 1) n (fun j => Value.int (f j))).slots[i]? = some v := hv
  simp only [arrV] at hv2
  rw [Array.getElem?_ofFn] at hv2
  split at hv2
  · cases hv2; exact hfit _
  · cases hv2
end ROWS41
set_option maxHeartbeats 4000000 in
theorem j_chkLen (l : Launch) (D : va_G) (k : Nat → ClassId) (g : Nat → Nat) (n : Nat) (hn : n ≤ 40000) : jM l D k yJ14_checkLength cJ14_checkLength 2 none 0 0 0 0 [.int 0, .int (nI n)] g [] (fun HH => True) (fun _ : Unit => none) (fun _ _ => True) (fun _ : Unit => []) := by
  refine jM_of (by decide) (Nat.le_of_ble_eq_true rfl) ?_
  intro p e s m below meth c ls A hAe C hnm hmn hK hP hD hA hAN _ hX hS hl
  have hN : NW s := hX.nw
  obtain ⟨hx, hb, hr, hml, hown, hts, hlk⟩ := id C
  have hl : lv_has ls 2 [(0, .int 0), (1, .int (nI n))] := hl
  refine lv_iload_n hx hb dJ14_checkLength_0 rfl (lv_at hl 1 rfl) ?_
  refine lv_iload_n hx hb dJ14_checkLength_1 rfl (lv_at hl 0 rfl) ?_
  refine lv_icmp_ge (tgt := 37) hx hb dJ14_checkLength_2 (by decide) (fun c_2 => ?_) (fun c_2 => ?_)
  · exact j_vret hAe C () rfl trivial hP (va_D_of hD rfl) hS (by first | exact Nat.le_of_ble_eq_true rfl | omega | (dsimp only [Rm]; omega)) (by first | exact Nat.le_of_ble_eq_true rfl | omega | (dsimp only [Rm]; omega)) dJ14_checkLength_37
  · exact absurd ((nI_leI (a := 0) (by decide) (by omega)).mpr (Nat.zero_le _)) c_2
set_option maxHeartbeats 4000000 in
theorem j_cpRB (l : Launch) (D : va_G) (k : Nat → ClassId) (g : Nat → Nat) (va cp n : Nat) (f : Nat → Int32) (hcp : cp ≤ 40000) (hn : n ≤ cp) (hfit : bfit f) : jM l D k yJ14_copyOfRangeByte cJ14_copyOfRangeByte 5 (some (.array .byte)) 1 40 1 n [.ref va, .int 0, .int (nI n)] g [(va, .inl (k 1, cp, .inl f))] (fun HH => True) (fun xx : Nat => some (.ref xx)) (fun _ _ => True) (fun xx : Nat => [(xx, .inl (k 1, n, .inl (va_cpy f (fun _ => 0) 0 0 n))), (va, .inl (k 1, cp, .inl f))]) := by
  refine jM_of (by decide) (Nat.le_of_ble_eq_true rfl) ?_
  intro p e s m below meth c ls A hAe C hnm hmn hK hP hD hA hAN _ hX hS hl
  have hN : NW s := hX.nw
  obtain ⟨hx, hb, hr, hml, hown, hts, hlk⟩ := id C
  have hl : lv_has ls 5 [(0, .ref va), (1, .int 0), (2, .int (nI n))] := hl
  refine lv_iload_n hx hb dJ14_copyOfRangeByte_0 rfl (lv_at hl 1 rfl) ?_
  refine lv_iload_n hx hb dJ14_copyOfRangeByte_1 rfl (lv_at hl 2 rfl) ?_
  refine j_after (w1 := []) (w2 := [(va, .inl (k 1, cp, .inl f))]) (va_runS (As := [.int 0, .int (nI n)]) (rest := []) (g := F0 m 2 ls [.int (nI n), .int 0]) C.fix (j_chkLen l D k g n (by omega)) (va_cwS 2 hts (lw_S q667 q668 q88 q669) rfl rfl rfl (by decide +kernel) ⟨Nat.le_of_ble_eq_true rfl, Nat.le_of_ble_eq_true rfl⟩) (preS mv2_jPre hK (fun U hU hW => jPre_at (w1 := []) (w2 := [(va, .inl (k 1, cp, .inl f))]) hP (va_D_of hD rfl) hAN hX hS trivial hU hW)) rfl rfl hl.1 rfl (lv_room (Nat.le_of_ble_eq_true rfl)) dJ14_copyOfRangeByte_2 ⟨(by first | exact Nat.le_of_ble_eq_true rfl | omega | (dsimp only [Rm]; omega)), (by first | exact Nat.le_of_ble_eq_true rfl | omega | (dsimp only [Rm]; omega))⟩) hP (va_D_of hD rfl) hS hA (fun xx H locs hB hP hD hS hsz hk => ?_)
  have hP : va_P D clA [(va, .inl (k 1, cp, .inl f))] H := hP
  have hD : va_D A [(va, .inl (k 1, cp, .inl f))] := hD
  refine lv_iload_n hx hb dJ14_copyOfRangeByte_5 rfl (lv_at hl 2 rfl) ?_
  refine lv_iload_n hx hb dJ14_copyOfRangeByte_6 rfl (lv_at hl 1 rfl) ?_
  refine lv_isub hx hb dJ14_copyOfRangeByte_7 ?_
  refine w_topi (y := nI n) (sub_0 _) ?_
  refine lv_istore_n (lv' := [(3, .int (nI n)), (0, .ref va), (1, .int 0), (2, .int (nI n))]) hx hb dJ14_copyOfRangeByte_8 rfl hl (by decide) rfl (fun ls hl => ?_)
  refine lv_iload_n hx hb dJ14_copyOfRangeByte_9 rfl (lv_at hl 0 rfl) ?_
  refine n_newa (atype := .byte) (a0 := (n, .inl (fun _ => 0))) hx hb (hts _ q135) hK hP (va_D_of hD rfl) hS hA 1 rfl (fun _ => rfl) (nI_pos (by omega)) (nI_clamp (by omega)) (by show (n) * 1 ≤ 536870912; omega) (by first | exact Nat.le_of_ble_eq_true rfl | omega | (dsimp only [Rm]; omega)) (by first | exact Nat.le_of_ble_eq_true rfl | omega | (dsimp only [Rm]; omega)) dJ14_copyOfRangeByte_10 (fun q3 H _ hP hD hS => ?_)
  refine lv_astore (lv' := [(4, .ref q3), (3, .int (nI n)), (0, .ref va), (1, .int 0), (2, .int (nI n))]) hx hb dJ14_copyOfRangeByte_12 hl (by decide) rfl (fun ls hl => ?_)
  refine lv_aload_n hx hb dJ14_copyOfRangeByte_14 rfl (lv_at hl 2 rfl) ?_
  refine lv_iload_n hx hb dJ14_copyOfRangeByte_15 rfl (lv_at hl 3 rfl) ?_
  refine lv_aload hx hb dJ14_copyOfRangeByte_16 (lv_at hl 0 rfl) ?_
  refine lv_iconst (v := 0) hx hb dJ14_copyOfRangeByte_18 rfl ?_
  refine lv_aload_n hx hb dJ14_copyOfRangeByte_19 rfl (lv_at hl 2 rfl) ?_
  refine va_alen (v := nI cp) hx hb hK hP 1 1 rfl rfl rfl dJ14_copyOfRangeByte_20 ?_
  refine lv_iload_n hx hb dJ14_copyOfRangeByte_21 rfl (lv_at hl 3 rfl) ?_
  refine lv_isub hx hb dJ14_copyOfRangeByte_22 ?_
  refine w_topi (y := nI cp) (sub_0 _) ?_
  refine lv_iload_n hx hb dJ14_copyOfRangeByte_23 rfl (lv_at hl 1 rfl) ?_
  refine va_mmin hx hb (hml.trans hl.1.symm) hown (hts _ q577) (hts _ q578) (hts _ q87) (hts _ q579) (Nat.le_of_ble_eq_true rfl) (Nat.le_of_ble_eq_true rfl) (by first | exact Nat.le_of_ble_eq_true rfl | omega | (dsimp only [Rm]; omega)) (by first | exact Nat.le_of_ble_eq_true rfl | omega | (dsimp only [Rm]; omega)) dJ14_copyOfRangeByte_24 ?_
  refine w_topi (y := mn (nI cp) (nI n)) (mn_if _ _) ?_
  refine w_topi (y := nI n) (mn_nI2 (by omega) (by omega)) ?_
  refine b_copy hx hb (hml.trans hl.1.symm) hown (hts _ q580) (hts _ q582) (hts _ q581) (hts _ q89) hK hP (va_D_of hD rfl) hS 1 0 rfl rfl (by omega) (by omega) (by omega) hfit (by first | exact Nat.le_of_ble_eq_true rfl | omega | (dsimp only [Rm]; omega)) (by first | decide | exact Nat.le_of_ble_eq_true rfl) dJ14_copyOfRangeByte_27 (fun H locs hP _ hS => ?_)
  have hP : va_P D clA [(q3, .inl (k 1, n, .inl (va_cpy f (fun _ => 0) 0 0 n))), (va, .inl (k 1, cp, .inl f))] H := hP
  refine lv_aload hx hb dJ14_copyOfRangeByte_30 (lv_at hl 0 rfl) ?_
  exact j_aret hAe C (Or.inr ⟨_, rfl⟩) q3 rfl trivial hP (va_D_of hD rfl) hS (by first | exact Nat.le_of_ble_eq_true rfl | omega | (dsimp only [Rm]; omega)) (by first | exact Nat.le_of_ble_eq_true rfl | omega | (dsimp only [Rm]; omega)) dJ14_copyOfRangeByte_32
set_option maxHeartbeats 4000000 in
theorem j_cpR (l : Launch) (D : va_G) (k : Nat → ClassId) (g : Nat → Nat) (va cp n : Nat) (f : Nat → Int32) (hcp : cp ≤ 40000) (hn : n < cp) (hfit : bfit f) : jM l D k yJ14_copyOfRange cJ14_copyOfRange 3 (some (.array .byte)) 2 64 1 n [.ref va, .int 0, .int (nI n)] g [(va, .inl (k 1, cp, .inl f))] (fun HH => True) (fun xx : Nat => some (.ref xx)) (fun _ _ => True) (fun xx : Nat => [(xx, .inl (k 1, n, .inl (va_cpy f (fun _ => 0) 0 0 n))), (va, .inl (k 1, cp, .inl f))]) := by
  refine jM_of (by decide) (Nat.le_of_ble_eq_true rfl) ?_
  intro p e s m below meth c ls A hAe C hnm hmn hK hP hD hA hAN _ hX hS hl
  have hN : NW s := hX.nw
  obtain ⟨hx, hb, hr, hml, hown, hts, hlk⟩ := id C
  have hl : lv_has ls 3 [(0, .ref va), (1, .int 0), (2, .int (nI n))] := hl
  refine lv_iload_n hx hb dJ14_copyOfRange_0 rfl (lv_at hl 1 rfl) ?_
  refine lv_if_ne (tgt := 10) hx hb dJ14_copyOfRange_1 (by decide) (fun c_1 => ?_) (fun c_1 => ?_)
  · exact absurd rfl c_1
  · refine lv_iload_n hx hb dJ14_copyOfRange_4 rfl (lv_at hl 2 rfl) ?_
    refine lv_aload_n hx hb dJ14_copyOfRange_5 rfl (lv_at hl 0 rfl) ?_
    refine va_alen (v := nI cp) hx hb hK hP 0 1 rfl rfl rfl dJ14_copyOfRange_6 ?_
    refine lv_icmp_eq (tgt := 17) hx hb dJ14_copyOfRange_7 (by decide) (fun c_7 => ?_) (fun c_7 => ?_)
    · exact absurd (nI_eq' c_7 (by omega) (by omega)) (by omega)
    · refine lv_aload_n hx hb dJ14_copyOfRange_10 rfl (lv_at hl 0 rfl) ?_
      refine lv_iload_n hx hb dJ14_copyOfRange_11 rfl (lv_at hl 1 rfl) ?_
      refine lv_iload_n hx hb dJ14_copyOfRange_12 rfl (lv_at hl 2 rfl) ?_
      refine j_after (w1 := [(va, .inl (k 1, cp, .inl f))]) (w2 := []) (va_runS (As := [.ref va, .int 0, .int (nI n)]) (rest := []) (g := F0 m 13 ls [.int (nI n), .int 0, .ref va]) C.fix (j_cpRB l D k g va cp n f hcp (by omega) hfit) (va_cwS 3 hts (lw_S q664 q665 q88 q666) rfl rfl rfl (by decide +kernel) ⟨Nat.le_of_ble_eq_true rfl, Nat.le_of_ble_eq_true rfl⟩) (preS mv2_jPre hK (fun U hU hW => jPre_at (w1 := [(va, .inl (k 1, cp, .inl f))]) (w2 := []) hP (va_D_of hD rfl) hAN hX hS trivial hU hW)) rfl rfl hl.1 rfl (lv_room (Nat.le_of_ble_eq_true rfl)) dJ14_copyOfRange_13 ⟨(by first | exact Nat.le_of_ble_eq_true rfl | omega | (dsimp only [Rm]; omega)), (by first | exact Nat.le_of_ble_eq_true rfl | omega | (dsimp only [Rm]; omega))⟩) hP (va_D_of hD rfl) hS hA (fun q3 H locs hB hP hD hS hsz hk => ?_)
      have hP : va_P D clA [(q3, .inl (k 1, n, .inl (va_cpy f (fun _ => 0) 0 0 n))), (va, .inl (k 1, cp, .inl f))] H := hP
      have hD : va_D A [(q3, .inl (k 1, n, .inl (va_cpy f (fun _ => 0) 0 0 n))), (va, .inl (k 1, cp, .inl f))] := hD
      exact j_aret hAe C (Or.inr ⟨_, rfl⟩) q3 rfl trivial hP (va_D_of hD rfl) hS (by first | exact Nat.le_of_ble_eq_true rfl | omega | (dsimp only [Rm]; omega)) (by first | exact Nat.le_of_ble_eq_true rfl | omega | (dsimp only [Rm]; omega)) dJ14_copyOfRange_16
set_option maxHeartbeats 4000000 in
theorem j_cpE (l : Launch) (D : va_G) (k : Nat → ClassId) (g : Nat → Nat) (va cp : Nat) (f : Nat → Int32) (hcp : cp ≤ 40000) (hfit : bfit f) : jM l D k yJ14_copyOfRange cJ14_copyOfRange 3 (some (.array .byte)) 1 22 1 cp [.ref va, .int 0, .int (nI cp)] g [(va, .inl (k 1, cp, .inl f))] (fun HH => True) (fun xx : Nat => some (.ref xx)) (fun _ _ => True) (fun xx : Nat => [(xx, .inl (k 1, cp, .inl f)), (va, .inl (k 1, cp, .inl f))]) := by
  refine jM_of (by decide) (Nat.le_of_ble_eq_true rfl) ?_
  intro p e s m below meth c ls A hAe C hnm hmn hK hP hD hA hAN _ hX hS hl
  have hN : NW s := hX.nw
  obtain ⟨hx, hb, hr, hml, hown, hts, hlk⟩ := id C
  have hl : lv_has ls 3 [(0, .ref va), (1, .int 0), (2, .int (nI cp))] := hl
  refine lv_iload_n hx hb dJ14_copyOfRange_0 rfl (lv_at hl 1 rfl) ?_
  refine lv_if_ne (tgt := 10) hx hb dJ14_copyOfRange_1 (by decide) (fun c_1 => ?_) (fun c_1 => ?_)
  · exact absurd rfl c_1
  · refine lv_iload_n hx hb dJ14_copyOfRange_4 rfl (lv_at hl 2 rfl) ?_
    refine lv_aload_n hx hb dJ14_copyOfRange_5 rfl (lv_at hl 0 rfl) ?_
    refine va_alen (v := nI cp) hx hb hK hP 0 1 rfl rfl rfl dJ14_copyOfRange_6 ?_
    refine lv_icmp_eq (tgt := 17) hx hb dJ14_copyOfRange_7 (by decide) (fun c_7 => ?_) (fun c_7 => ?_)
    · refine lv_aload_n hx hb dJ14_copyOfRange_17 rfl (lv_at hl 0 rfl) ?_
      refine b_clone hx hb (hml.trans hl.1.symm) hown (hts _ q570) hts hN hK hP (va_D_of hD rfl) hS hA 0 rfl hfit (by first | exact Nat.le_of_ble_eq_true rfl | omega | (dsimp only [Rm]; omega)) (by first | decide | exact Nat.le_of_ble_eq_true rfl) (by first | exact Nat.le_of_ble_eq_true rfl | omega | (dsimp only [Rm]; omega)) (by first | exact Nat.le_of_ble_eq_true rfl | omega | (dsimp only [Rm]; omega)) dJ14_copyOfRange_18 (fun q3 H hP hD hS => ?_)
      have hP : va_P D clA [(va, .inl (k 1, cp, .inl f)), (q3, .inl (k 1, cp, .inl f))] H := hP
      have hD : va_D A [(va, .inl (k 1, cp, .inl f)), (q3, .inl (k 1, cp, .inl f))] := hD
      refine va_castA hx hb hown (hts _ q576) hP 1 rfl (va_nm_byte (hK.2 1 _ rfl).2) dJ14_copyOfRange_21 ?_
      exact j_aret hAe C (Or.inr ⟨_, rfl⟩) q3 rfl trivial (hP.sub [1, 0] rfl) (va_D_of (D_sub (ws' := [(q3, .inl (k 1, cp, .inl f)), (va, .inl (k 1, cp, .inl f))]) (va_D_of (ws' := [(va, .inl (k 1, cp, .inl f)), (q3, .inl (k 1, cp, .inl f))]) hD rfl) [1, 0] rfl rfl) rfl) hS (by first | exact Nat.le_of_ble_eq_true rfl | omega | (dsimp only [Rm]; omega)) (by first | exact Nat.le_of_ble_eq_true rfl | omega | (dsimp only [Rm]; omega)) dJ14_copyOfRange_24
    · exact absurd rfl c_7
set_option maxHeartbeats 4000000 in
theorem j_ASBlen (l : Launch) (D : va_G) (k : Nat → ClassId) (g : Nat → Nat) (sb va : Nat) (n0 : Int32) : sM l D k yJ8_length cJ8_length 1 (some .int) 0 0 [.ref sb] (hKX (fun HH => va_P D clA [(sb, .inr (13, [.ref va, .int 0, .int 0, .int n0]))] HH) g) (some (.int n0)) := by
  refine sM_of (by decide) (Nat.le_of_ble_eq_true rfl) ?_
  intro p e s m below meth c ls C hK ⟨hF, hX⟩ hl
  have hS : va_S (G0 g) s.heap s.heap [] := va_S.rf
  have hAN : ∀ q, G0 g q → g 0 ≤ q := fun _ h => h
  have hN : NW s := hX.nw
  obtain ⟨hx, hb, hr, hml, hown, hts, hlk⟩ := id C
  have hl : lv_has ls 1 [(0, .ref sb)] := hl
  refine lv_aload_n hx hb dJ8_length_0 rfl (lv_at hl 0 rfl) ?_
  refine va_get hx hb hts in_J9 hown hK hF 0 rfl rfl 3 (by decide) (hts _ q524) (fun _ h => h) rfl dJ8_length_1 ?_
  exact r_iret C rfl dJ8_length_4
set_option maxHeartbeats 4000000 in
theorem j_SBlen (l : Launch) (D : va_G) (k : Nat → ClassId) (g : Nat → Nat) (sb va : Nat) (n0 : Int32) : sM l D k yJ9_length cJ9_length 1 (some .int) 1 20 [.ref sb] (hKX (fun HH => va_P D clA [(sb, .inr (13, [.ref va, .int 0, .int 0, .int n0]))] HH) g) (some (.int n0)) := by
  refine sM_of (by decide) (Nat.le_of_ble_eq_true rfl) ?_
  intro p e s m below meth c ls C hK ⟨hF, hX⟩ hl
  have hS : va_S (G0 g) s.heap s.heap [] := va_S.rf
  have hAN : ∀ q, G0 g q → g 0 ≤ q := fun _ h => h
  have hN : NW s := hX.nw
  obtain ⟨hx, hb, hr, hml, hown, hts, hlk⟩ := id C
  have hl : lv_has ls 1 [(0, .ref sb)] := hl
  refine lv_aload_n hx hb dJ9_length_0 rfl (lv_at hl 0 rfl) ?_
  refine r_after (va_runP (As := []) (rest := []) (g := F0 m 1 ls [.ref sb]) C.fix (j_ASBlen l D k g sb va n0) (callB_of 0 hts (lw_meth q659) rfl rfl rfl (hts _ q82) (hts _ q658) (by decide +kernel) ⟨Nat.le_of_ble_eq_true rfl, Nat.le_of_ble_eq_true rfl⟩) (by decide) (hts _ q653) (hts _ q654) (hts _ q533) (preV mv2_hKX hK (va_recv hK hF (ci := 13) (q0 := 0) rfl rfl) (fun U hU hW => (hKX_at hX hS hAN (va_cons (hF 0 _ rfl) va_nil) hU hW))) rfl rfl hl.1 rfl (lv_room (Nat.le_of_ble_eq_true rfl)) dJ9_length_1 ⟨(by first | exact Nat.le_of_ble_eq_true rfl | omega | (dsimp only [Rm]; omega)), (by first | exact Nat.le_of_ble_eq_true rfl | omega | (dsimp only [Rm]; omega))⟩) ?_
  exact r_iret C rfl dJ9_length_4
set_option maxHeartbeats 4000000 in
theorem j_getValue (l : Launch) (D : va_G) (k : Nat → ClassId) (g : Nat → Nat) (sb va : Nat) (n0 : Int32) : jM l D k yJ8_getValue cJ8_getValue 1 (some (.array .byte)) 0 0 0 0 [.ref sb] g [(sb, .inr (13, [.ref va, .int 0, .int 0, .int n0]))] (fun HH => True) (fun _ : Unit => some (.ref va)) (fun _ _ => True) (fun _ : Unit => [(sb, .inr (13, [.ref va, .int 0, .int 0, .int n0]))]) := by
  refine jM_of (by decide) (Nat.le_of_ble_eq_true rfl) ?_
  intro p e s m below meth c ls A hAe C hnm hmn hK hP hD hA hAN _ hX hS hl
  have hN : NW s := hX.nw
  obtain ⟨hx, hb, hr, hml, hown, hts, hlk⟩ := id C
  have hl : lv_has ls 1 [(0, .ref sb)] := hl
  refine lv_aload_n hx hb dJ8_getValue_0 rfl (lv_at hl 0 rfl) ?_
  refine va_get hx hb hts in_J9 hown hK hP 0 rfl rfl 0 (by decide) (hts _ q521) (fun _ h => h) rfl dJ8_getValue_1 ?_
  exact j_aret hAe C (Or.inr ⟨_, rfl⟩) () rfl trivial hP (va_D_of hD rfl) hS (by first | exact Nat.le_of_ble_eq_true rfl | omega | (dsimp only [Rm]; omega)) (by first | exact Nat.le_of_ble_eq_true rfl | omega | (dsimp only [Rm]; omega)) dJ8_getValue_4
set_option maxHeartbeats 4000000 in
theorem j_StrI2 (l : Launch) (D : va_G) (k : Nat → ClassId) (g : Nat → Nat) (tx : Nat) (sb va cp n : Nat) (f : Nat → Int32) (hcp : cp ≤ 40000) (hn : n < cp) (hfit : bfit f) : jM l D k yJ10_init_2 cJ10_init_2 5 none 3 86 1 n [.ref tx, .ref sb, .null] g [(tx, .inr (14, [.null, .int 0, .int 0, .int 0])), (sb, .inr (13, [.ref va, .int 0, .int 0, .int (nI n)])), (va, .inl (k 1, cp, .inl f))] (fun HH => True) (fun xx : Nat => none) (fun _ _ => True) (fun xx : Nat => [(tx, .inr (14, [.ref xx, .int 0, .int 0, .int 0])), (xx, .inl (k 1, n, .inl (va_cpy f (fun _ => 0) 0 0 n))), (sb, .inr (13, [.ref va, .int 0, .int 0, .int (nI n)])), (va, .inl (k 1, cp, .inl f))]) := by
  refine jM_of (by decide) (Nat.le_of_ble_eq_true rfl) ?_
  intro p e s m below meth c ls A hAe C hnm hmn hK hP hD hA hAN _ hX hS hl
  have hN : NW s := hX.nw
  obtain ⟨hx, hb, hr, hml, hown, hts, hlk⟩ := id C
  have hl : lv_has ls 5 [(0, .ref tx), (1, .ref sb), (2, .null)] := hl
  refine lv_aload_n hx hb dJ10_init_2_0 rfl (lv_at hl 0 rfl) ?_
  refine W.objInit hx hb hown (hts _ q646) (hts _ q112) (hts _ q113) rfl (by rw [hml]; exact hl.1) rfl dJ10_init_2_1 (Nat.le_of_ble_eq_true rfl) (Nat.le_of_ble_eq_true rfl) ?_
  refine lv_aload_n hx hb dJ10_init_2_4 rfl (lv_at hl 1 rfl) ?_
  have hP : va_P D clA [(sb, .inr (13, [.ref va, .int 0, .int 0, .int (nI n)])), (tx, .inr (14, [.null, .int 0, .int 0, .int 0])), (va, .inl (k 1, cp, .inl f))] s.heap := P_prm [1, 0, 2] 3 rfl (by decide) hP
  have hD : va_D A [(sb, .inr (13, [.ref va, .int 0, .int 0, .int (nI n)])), (tx, .inr (14, [.null, .int 0, .int 0, .int 0])), (va, .inl (k 1, cp, .inl f))] := D_prm [1, 0, 2] 3 rfl (by decide) (va_D_of (ws' := [(tx, .inr (14, [.null, .int 0, .int 0, .int 0])), (sb, .inr (13, [.ref va, .int 0, .int 0, .int (nI n)])), (va, .inl (k 1, cp, .inl f))]) hD rfl)
  refine j_after (w1 := [(sb, .inr (13, [.ref va, .int 0, .int 0, .int (nI n)]))]) (w2 := [(tx, .inr (14, [.null, .int 0, .int 0, .int 0])), (va, .inl (k 1, cp, .inl f))]) (va_runV (As := []) (rest := []) (g := F0 m 5 ls [.ref sb]) C.fix (j_getValue l D k g sb va (nI n)) (cwQ 0 hts q647 q648 q82 q651 (hts _ q650) rfl rfl (by decide +kernel) ⟨Nat.le_of_ble_eq_true rfl, Nat.le_of_ble_eq_true rfl⟩) (preV mv2_jPre hK (va_recv hK hP (ci := 13) (q0 := 0) rfl rfl) (fun U hU hW => jPre_at (w1 := [(sb, .inr (13, [.ref va, .int 0, .int 0, .int (nI n)]))]) (w2 := [(tx, .inr (14, [.null, .int 0, .int 0, .int 0])), (va, .inl (k 1, cp, .inl f))]) hP (va_D_of hD rfl) hAN hX hS trivial hU hW)) rfl rfl hl.1 rfl (lv_room (Nat.le_of_ble_eq_true rfl)) dJ10_init_2_5 ⟨(by first | exact Nat.le_of_ble_eq_true rfl | omega | (dsimp only [Rm]; omega)), (by first | exact Nat.le_of_ble_eq_true rfl | omega | (dsimp only [Rm]; omega))⟩) hP (va_D_of hD rfl) hS hA (fun xx H locs hB hP hD hS hsz hk => ?_)
  have hP : va_P D clA [(sb, .inr (13, [.ref va, .int 0, .int 0, .int (nI n)])), (tx, .inr (14, [.null, .int 0, .int 0, .int 0])), (va, .inl (k 1, cp, .inl f))] H := hP
  have hD : va_D A [(sb, .inr (13, [.ref va, .int 0, .int 0, .int (nI n)])), (tx, .inr (14, [.null, .int 0, .int 0, .int 0])), (va, .inl (k 1, cp, .inl f))] := hD
  refine lv_astore_n (lv' := [(3, .ref va), (0, .ref tx), (1, .ref sb), (2, .null)]) hx hb dJ10_init_2_8 rfl hl (by decide) rfl (fun ls hl => ?_)
  refine lv_aload_n hx hb dJ10_init_2_9 rfl (lv_at hl 2 rfl) ?_
  refine r_after (va_runU (As := []) (rest := []) (g := F0 m 10 ls [.ref sb]) C.fix (j_SBlen l D k g sb va (nI n)) (va_cwO (owner := "java/lang/AbstractStringBuilder") (x := yJ8_length) (y := yJ9_length) 0 hts gO_len rfl rfl rfl q659 (by decide +kernel) ⟨Nat.le_of_ble_eq_true rfl, Nat.le_of_ble_eq_true rfl⟩) (preV mv2_hKX hK (va_recv hK hP (ci := 13) (q0 := 0) rfl rfl) (fun U hU hW => (hKX_at hX hS hAN (va_cons (hP 0 _ rfl) va_nil) hU hW))) rfl rfl hl.1 rfl (lv_room (Nat.le_of_ble_eq_true rfl)) dJ10_init_2_10 ⟨(by first | exact Nat.le_of_ble_eq_true rfl | omega | (dsimp only [Rm]; omega)), (by first | exact Nat.le_of_ble_eq_true rfl | omega | (dsimp only [Rm]; omega))⟩) ?_
  refine lv_istore (lv' := [(4, .int (nI n)), (3, .ref va), (0, .ref tx), (1, .ref sb), (2, .null)]) hx hb dJ10_init_2_13 hl (by decide) rfl (fun ls hl => ?_)
  refine lv_aload_n hx hb dJ10_init_2_15 rfl (lv_at hl 3 rfl) ?_
  refine r_after (va_runV (As := []) (rest := []) (g := F0 m 16 ls [.ref sb]) C.fix (j_sbLatin l D k g sb va (nI n)) (cwQ 0 hts q660 q584 q82 q587 (hts _ q586) rfl rfl (by decide +kernel) ⟨Nat.le_of_ble_eq_true rfl, Nat.le_of_ble_eq_true rfl⟩) (preV mv2_hKX hK (va_recv hK hP (ci := 13) (q0 := 0) rfl rfl) (fun U hU hW => (hKX_at hX hS hAN (va_cons (hP 0 _ rfl) va_nil) hU hW))) rfl rfl hl.1 rfl (lv_room (Nat.le_of_ble_eq_true rfl)) dJ10_init_2_16 ⟨(by first | exact Nat.le_of_ble_eq_true rfl | omega | (dsimp only [Rm]; omega)), (by first | exact Nat.le_of_ble_eq_true rfl | omega | (dsimp only [Rm]; omega))⟩) ?_
  show W p l e (Rm 3 86 1 n) s m ([.ref tx, .ref sb, .null] : List Value).toArray below meth c H locs (0 + 0 + 0 + 0) (0 + 0 + 0 + 0) (MQ below (jQ D (fun xx : Nat => none) (fun _ _ => True) (fun xx : Nat => [(tx, .inr (14, [.ref xx, .int 0, .int 0, .int 0])), (xx, .inl (k 1, n, .inl (va_cpy f (fun _ => 0) 0 0 n))), (sb, .inr (13, [.ref va, .int 0, .int 0, .int (nI n)])), (va, .inl (k 1, cp, .inl f))]) (inL [(tx, .inr (14, [.null, .int 0, .int 0, .int 0])), (sb, .inr (13, [.ref va, .int 0, .int 0, .int (nI n)])), (va, .inl (k 1, cp, .inl f))])) ([.ref tx, .ref sb, .null] : List Value).toArray s 1 n (inL [(tx, .inr (14, [.null, .int 0, .int 0, .int 0])), (sb, .inr (13, [.ref va, .int 0, .int 0, .int (nI n)])), (va, .inl (k 1, cp, .inl f))])) (F0 m 19 ls [.int (bI True)])
  refine lv_if_eq (tgt := 41) hx hb dJ10_init_2_19 (by decide) (fun c_19 => ?_) (fun c_19 => ?_)
  · exact absurd trivial (bI_0.mp c_19)
  · have b_19 := bI_nz c_19
    refine lv_aload_n hx hb dJ10_init_2_22 rfl (lv_at hl 2 rfl) ?_
    refine lv_iconst (v := 0) hx hb dJ10_init_2_23 rfl ?_
    refine va_putF hx hb hts in_J10 tyJ10 tyJ10_ok nmJ10 hown hK hP (va_D_of hD rfl) hS 1 rfl rfl 1 (by decide) (hts _ q773) (fun _ h => h) rfl hnm rfl rfl rfl rfl (Nat.le_of_ble_eq_true rfl) dJ10_init_2_24 (fun H locs hP _ hS => ?_)
    have hP : va_P D clA [(sb, .inr (13, [.ref va, .int 0, .int 0, .int (nI n)])), (tx, .inr (14, [.null, .int 0, .int 0, .int 0])), (va, .inl (k 1, cp, .inl f))] H := hP
    refine lv_aload_n hx hb dJ10_init_2_27 rfl (lv_at hl 2 rfl) ?_
    refine lv_aload_n hx hb dJ10_init_2_28 rfl (lv_at hl 1 rfl) ?_
    refine lv_iconst (v := 0) hx hb dJ10_init_2_29 rfl ?_
    refine lv_iload hx hb dJ10_init_2_30 (lv_at hl 0 rfl) ?_
    have hP : va_P D clA [(va, .inl (k 1, cp, .inl f)), (sb, .inr (13, [.ref va, .int 0, .int 0, .int (nI n)])), (tx, .inr (14, [.null, .int 0, .int 0, .int 0]))] H := P_prm [2, 0, 1] 3 rfl (by decide) hP
    have hD : va_D A [(va, .inl (k 1, cp, .inl f)), (sb, .inr (13, [.ref va, .int 0, .int 0, .int (nI n)])), (tx, .inr (14, [.null, .int 0, .int 0, .int 0]))] := D_prm [2, 0, 1] 3 rfl (by decide) (va_D_of (ws' := [(sb, .inr (13, [.ref va, .int 0, .int 0, .int (nI n)])), (tx, .inr (14, [.null, .int 0, .int 0, .int 0])), (va, .inl (k 1, cp, .inl f))]) hD rfl)
    refine j_after (w1 := [(va, .inl (k 1, cp, .inl f))]) (w2 := [(sb, .inr (13, [.ref va, .int 0, .int 0, .int (nI n)])), (tx, .inr (14, [.null, .int 0, .int 0, .int 0]))]) (va_runS (As := [.ref va, .int 0, .int (nI n)]) (rest := [.ref tx]) (g := F0 m 32 ls [.int (nI n), .int 0, .ref va, .ref tx]) C.fix (j_cpR l D k g va cp n f hcp hn hfit) (va_cwS 3 hts (lw_S q661 q662 q88 q663) rfl rfl rfl (by decide +kernel) ⟨Nat.le_of_ble_eq_true rfl, Nat.le_of_ble_eq_true rfl⟩) (preS mv2_jPre hK (fun U hU hW => jPre_at (w1 := [(va, .inl (k 1, cp, .inl f))]) (w2 := [(sb, .inr (13, [.ref va, .int 0, .int 0, .int (nI n)])), (tx, .inr (14, [.null, .int 0, .int 0, .int 0]))]) hP (va_D_of hD rfl) hAN hX hS trivial hU hW)) rfl rfl hl.1 rfl (lv_room (Nat.le_of_ble_eq_true rfl)) dJ10_init_2_32 ⟨(by first | exact Nat.le_of_ble_eq_true rfl | omega | (dsimp only [Rm]; omega)), (by first | exact Nat.le_of_ble_eq_true rfl | omega | (dsimp only [Rm]; omega))⟩) hP (va_D_of hD rfl) hS hA (fun q3 H locs hB hP hD hS hsz hk => ?_)
    have hP : va_P D clA [(q3, .inl (k 1, n, .inl (va_cpy f (fun _ => 0) 0 0 n))), (va, .inl (k 1, cp, .inl f)), (sb, .inr (13, [.ref va, .int 0, .int 0, .int (nI n)])), (tx, .inr (14, [.null, .int 0, .int 0, .int 0]))] H := hP
    have hD : va_D A [(q3, .inl (k 1, n, .inl (va_cpy f (fun _ => 0) 0 0 n))), (va, .inl (k 1, cp, .inl f)), (sb, .inr (13, [.ref va, .int 0, .int 0, .int (nI n)])), (tx, .inr (14, [.null, .int 0, .int 0, .int 0]))] := hD
    refine va_putF hx hb hts in_J10 tyJ10 tyJ10_ok nmJ10 hown hK hP (va_D_of hD rfl) hS 3 rfl rfl 0 (by decide) (hts _ q772) (fun _ h => h) rfl hnm rfl rfl rfl rfl (Nat.le_of_ble_eq_true rfl) dJ10_init_2_35 (fun H locs hP _ hS => ?_)
    have hP : va_P D clA [(q3, .inl (k 1, n, .inl (va_cpy f (fun _ => 0) 0 0 n))), (va, .inl (k 1, cp, .inl f)), (sb, .inr (13, [.ref va, .int 0, .int 0, .int (nI n)])), (tx, .inr (14, [.ref q3, .int 0, .int 0, .int 0]))] H := hP
    refine lv_goto (tgt := 97) hx hb dJ10_init_2_38 (by decide) ?_
    exact j_vret hAe C q3 rfl trivial (hP.sub [3, 0, 2, 1] rfl) (va_D_of (D_sub (ws' := [(tx, .inr (14, [.ref q3, .int 0, .int 0, .int 0])), (q3, .inl (k 1, n, .inl (va_cpy f (fun _ => 0) 0 0 n))), (sb, .inr (13, [.ref va, .int 0, .int 0, .int (nI n)])), (va, .inl (k 1, cp, .inl f))]) (va_D_of (ws' := [(q3, .inl (k 1, n, .inl (va_cpy f (fun _ => 0) 0 0 n))), (va, .inl (k 1, cp, .inl f)), (sb, .inr (13, [.ref va, .int 0, .int 0, .int (nI n)])), (tx, .inr (14, [.ref q3, .int 0, .int 0, .int 0]))]) hD rfl) [3, 0, 2, 1] rfl rfl) rfl) hS (by first | exact Nat.le_of_ble_eq_true rfl | omega | (dsimp only [Rm]; omega)) (by first | exact Nat.le_of_ble_eq_true rfl | omega | (dsimp only [Rm]; omega)) dJ10_init_2_97
set_option maxHeartbeats 4000000 in
theorem j_StrI (l : Launch) (D : va_G) (k : Nat → ClassId) (g : Nat → Nat) (tx : Nat) (sb va cp n : Nat) (f : Nat → Int32) (hcp : cp ≤ 40000) (hn : n < cp) (hfit : bfit f) : jM l D k yJ10_init cJ10_init 2 none 4 110 1 n [.ref tx, .ref sb] g [(tx, .inr (14, [.null, .int 0, .int 0, .int 0])), (sb, .inr (13, [.ref va, .int 0, .int 0, .int (nI n)])), (va, .inl (k 1, cp, .inl f))] (fun HH => True) (fun xx : Nat => none) (fun _ _ => True) (fun xx : Nat => [(tx, .inr (14, [.ref xx, .int 0, .int 0, .int 0])), (xx, .inl (k 1, n, .inl (va_cpy f (fun _ => 0) 0 0 n))), (sb, .inr (13, [.ref va, .int 0, .int 0, .int (nI n)])), (va, .inl (k 1, cp, .inl f))]) := by
  refine jM_of (by decide) (Nat.le_of_ble_eq_true rfl) ?_
  intro p e s m below meth c ls A hAe C hnm hmn hK hP hD hA hAN _ hX hS hl
  have hN : NW s := hX.nw
  obtain ⟨hx, hb, hr, hml, hown, hts, hlk⟩ := id C
  have hl : lv_has ls 2 [(0, .ref tx), (1, .ref sb)] := hl
  refine lv_aload_n hx hb dJ10_init_0 rfl (lv_at hl 0 rfl) ?_
  refine lv_aload_n hx hb dJ10_init_1 rfl (lv_at hl 1 rfl) ?_
  refine lv_null hx hb dJ10_init_2 ?_
  refine j_after (w1 := [(tx, .inr (14, [.null, .int 0, .int 0, .int 0])), (sb, .inr (13, [.ref va, .int 0, .int 0, .int (nI n)])), (va, .inl (k 1, cp, .inl f))]) (w2 := []) (va_runI (As := [.ref sb, .null]) (rest := []) (g := F0 m 3 ls [.null, .ref sb, .ref tx]) C.fix (j_StrI2 l D k g tx sb va cp n f hcp hn hfit) (cwC 2 hts q643 q644 q84 q645 rfl rfl rfl (by decide +kernel) ⟨Nat.le_of_ble_eq_true rfl, Nat.le_of_ble_eq_true rfl⟩) (preS mv2_jPre hK (fun U hU hW => jPre_at (w1 := [(tx, .inr (14, [.null, .int 0, .int 0, .int 0])), (sb, .inr (13, [.ref va, .int 0, .int 0, .int (nI n)])), (va, .inl (k 1, cp, .inl f))]) (w2 := []) hP (va_D_of hD rfl) hAN hX hS trivial hU hW)) rfl rfl hl.1 rfl (lv_room (Nat.le_of_ble_eq_true rfl)) dJ10_init_3 ⟨(by first | exact Nat.le_of_ble_eq_true rfl | omega | (dsimp only [Rm]; omega)), (by first | exact Nat.le_of_ble_eq_true rfl | omega | (dsimp only [Rm]; omega))⟩) hP (va_D_of hD rfl) hS hA (fun q3 H locs hB hP hD hS hsz hk => ?_)
  have hP : va_P D clA [(tx, .inr (14, [.ref q3, .int 0, .int 0, .int 0])), (q3, .inl (k 1, n, .inl (va_cpy f (fun _ => 0) 0 0 n))), (sb, .inr (13, [.ref va, .int 0, .int 0, .int (nI n)])), (va, .inl (k 1, cp, .inl f))] H := hP
  have hD : va_D A [(tx, .inr (14, [.ref q3, .int 0, .int 0, .int 0])), (q3, .inl (k 1, n, .inl (va_cpy f (fun _ => 0) 0 0 n))), (sb, .inr (13, [.ref va, .int 0, .int 0, .int (nI n)])), (va, .inl (k 1, cp, .inl f))] := hD
  exact j_vret hAe C q3 rfl trivial hP (va_D_of hD rfl) hS (by first | exact Nat.le_of_ble_eq_true rfl | omega | (dsimp only [Rm]; omega)) (by first | exact Nat.le_of_ble_eq_true rfl | omega | (dsimp only [Rm]; omega)) dJ10_init_6
set_option maxHeartbeats 4000000 in
theorem j_toStr (l : Launch) (D : va_G) (k : Nat → ClassId) (g : Nat → Nat) (sb va cp n : Nat) (f : Nat → Int32) (hcp : cp ≤ 40000) (hn : n < cp) (hfit : bfit f) : jM l D k yJ9_toString cJ9_toString 1 (some (.object "java/lang/String")) 5 131 2 (n + 4) [.ref sb] g [(sb, .inr (13, [.ref va, .int 0, .int 0, .int (nI n)])), (va, .inl (k 1, cp, .inl f))] (fun HH => True) (fun xx : Nat × Nat => some (.ref xx.1)) (fun _ _ => True) (fun xx : Nat × Nat => [(xx.1, .inr (14, [.ref xx.2, .int 0, .int 0, .int 0])), (xx.2, .inl (k 1, n, .inl (va_cpy f (fun _ => 0) 0 0 n))), (sb, .inr (13, [.ref va, .int 0, .int 0, .int (nI n)])), (va, .inl (k 1, cp, .inl f))]) := by
  refine jM_of (by decide) (Nat.le_of_ble_eq_true rfl) ?_
  intro p e s m below meth c ls A hAe C hnm hmn hK hP hD hA hAN _ hX hS hl
  have hN : NW s := hX.nw
  obtain ⟨hx, hb, hr, hml, hown, hts, hlk⟩ := id C
  have hl : lv_has ls 1 [(0, .ref sb)] := hl
  refine n_new (fs := [.null, .int 0, .int 0, .int 0]) hx hb hts in_J10 tyJ10 tyJ10_ok hown (hts _ q638) (hts _ q639) (hts _ q84) hK hP (va_D_of hD rfl) hS hA (ci := 14) rfl (by decide +kernel) (by first | exact Nat.le_of_ble_eq_true rfl | omega | (dsimp only [Rm]; omega)) (by first | exact Nat.le_of_ble_eq_true rfl | omega | (dsimp only [Rm]; omega)) dJ9_toString_0 (fun tx H _ hP hD hS => ?_)
  refine lv_dup hx hb dJ9_toString_3 rfl ?_
  refine lv_aload_n hx hb dJ9_toString_4 rfl (lv_at hl 0 rfl) ?_
  refine j_after (w1 := [(tx, .inr (14, [.null, .int 0, .int 0, .int 0])), (sb, .inr (13, [.ref va, .int 0, .int 0, .int (nI n)])), (va, .inl (k 1, cp, .inl f))]) (w2 := []) (va_runI (As := [.ref sb]) (rest := [.ref tx]) (g := F0 m 5 ls [.ref sb, .ref tx, .ref tx]) C.fix (j_StrI l D k g tx sb va cp n f hcp hn hfit) (cwC 1 hts q640 q641 q84 q642 rfl rfl rfl (by decide +kernel) ⟨Nat.le_of_ble_eq_true rfl, Nat.le_of_ble_eq_true rfl⟩) (preS mv2_jPre hK (fun U hU hW => jPre_at (w1 := [(tx, .inr (14, [.null, .int 0, .int 0, .int 0])), (sb, .inr (13, [.ref va, .int 0, .int 0, .int (nI n)])), (va, .inl (k 1, cp, .inl f))]) (w2 := []) hP (va_D_of hD rfl) hAN hX hS trivial hU hW)) rfl rfl hl.1 rfl (lv_room (Nat.le_of_ble_eq_true rfl)) dJ9_toString_5 ⟨(by first | exact Nat.le_of_ble_eq_true rfl | omega | (dsimp only [Rm]; omega)), (by first | exact Nat.le_of_ble_eq_true rfl | omega | (dsimp only [Rm]; omega))⟩) hP (va_D_of hD rfl) hS hA (fun q3 H locs hB hP hD hS hsz hk => ?_)
  have hP : va_P D clA [(tx, .inr (14, [.ref q3, .int 0, .int 0, .int 0])), (q3, .inl (k 1, n, .inl (va_cpy f (fun _ => 0) 0 0 n))), (sb, .inr (13, [.ref va, .int 0, .int 0, .int (nI n)])), (va, .inl (k 1, cp, .inl f))] H := hP
  have hD : va_D A [(tx, .inr (14, [.ref q3, .int 0, .int 0, .int 0])), (q3, .inl (k 1, n, .inl (va_cpy f (fun _ => 0) 0 0 n))), (sb, .inr (13, [.ref va, .int 0, .int 0, .int (nI n)])), (va, .inl (k 1, cp, .inl f))] := hD
  exact j_aret hAe C (Or.inl ⟨_, rfl⟩) (tx, q3) rfl trivial hP (va_D_of hD rfl) hS (by first | exact Nat.le_of_ble_eq_true rfl | omega | (dsimp only [Rm]; omega)) (by first | exact Nat.le_of_ble_eq_true rfl | omega | (dsimp only [Rm]; omega)) dJ9_toString_8
set_option maxHeartbeats 4000000 in
theorem j_StrI2E (l : Launch) (D : va_G) (k : Nat → ClassId) (g : Nat → Nat) (tx : Nat) (sb va cp : Nat) (f : Nat → Int32) (hcp : cp ≤ 40000) (hfit : bfit f) : jM l D k yJ10_init_2 cJ10_init_2 5 none 2 44 1 cp [.ref tx, .ref sb, .null] g [(tx, .inr (14, [.null, .int 0, .int 0, .int 0])), (sb, .inr (13, [.ref va, .int 0, .int 0, .int (nI cp)])), (va, .inl (k 1, cp, .inl f))] (fun HH => True) (fun xx : Nat => none) (fun _ _ => True) (fun xx : Nat => [(tx, .inr (14, [.ref xx, .int 0, .int 0, .int 0])), (xx, .inl (k 1, cp, .inl f)), (sb, .inr (13, [.ref va, .int 0, .int 0, .int (nI cp)])), (va, .inl (k 1, cp, .inl f))]) := by
  refine jM_of (by decide) (Nat.le_of_ble_eq_true rfl) ?_
  intro p e s m below meth c ls A hAe C hnm hmn hK hP hD hA hAN _ hX hS hl
  have hN : NW s := hX.nw
  obtain ⟨hx, hb, hr, hml, hown, hts, hlk⟩ := id C
  have hl : lv_has ls 5 [(0, .ref tx), (1, .ref sb), (2, .null)] := hl
  refine lv_aload_n hx hb dJ10_init_2_0 rfl (lv_at hl 0 rfl) ?_
  refine W.objInit hx hb hown (hts _ q646) (hts _ q112) (hts _ q113) rfl (by rw [hml]; exact hl.1) rfl dJ10_init_2_1 (Nat.le_of_ble_eq_true rfl) (Nat.le_of_ble_eq_true rfl) ?_
  refine lv_aload_n hx hb dJ10_init_2_4 rfl (lv_at hl 1 rfl) ?_
  have hP : va_P D clA [(sb, .inr (13, [.ref va, .int 0, .int 0, .int (nI cp)])), (tx, .inr (14, [.null, .int 0, .int 0, .int 0])), (va, .inl (k 1, cp, .inl f))] s.heap := P_prm [1, 0, 2] 3 rfl (by decide) hP
  have hD : va_D A [(sb, .inr (13, [.ref va, .int 0, .int 0, .int (nI cp)])), (tx, .inr (14, [.null, .int 0, .int 0, .int 0])), (va, .inl (k 1, cp, .inl f))] := D_prm [1, 0, 2] 3 rfl (by decide) (va_D_of (ws' := [(tx, .inr (14, [.null, .int 0, .int 0, .int 0])), (sb, .inr (13, [.ref va, .int 0, .int 0, .int (nI cp)])), (va, .inl (k 1, cp, .inl f))]) hD rfl)
  refine j_after (w1 := [(sb, .inr (13, [.ref va, .int 0, .int 0, .int (nI cp)]))]) (w2 := [(tx, .inr (14, [.null, .int 0, .int 0, .int 0])), (va, .inl (k 1, cp, .inl f))]) (va_runV (As := []) (rest := []) (g := F0 m 5 ls [.ref sb]) C.fix (j_getValue l D k g sb va (nI cp)) (cwQ 0 hts q647 q648 q82 q651 (hts _ q650) rfl rfl (by decide +kernel) ⟨Nat.le_of_ble_eq_true rfl, Nat.le_of_ble_eq_true rfl⟩) (preV mv2_jPre hK (va_recv hK hP (ci := 13) (q0 := 0) rfl rfl) (fun U hU hW => jPre_at (w1 := [(sb, .inr (13, [.ref va, .int 0, .int 0, .int (nI cp)]))]) (w2 := [(tx, .inr (14, [.null, .int 0, .int 0, .int 0])), (va, .inl (k 1, cp, .inl f))]) hP (va_D_of hD rfl) hAN hX hS trivial hU hW)) rfl rfl hl.1 rfl (lv_room (Nat.le_of_ble_eq_true rfl)) dJ10_init_2_5 ⟨(by first | exact Nat.le_of_ble_eq_true rfl | omega | (dsimp only [Rm]; omega)), (by first | exact Nat.le_of_ble_eq_true rfl | omega | (dsimp only [Rm]; omega))⟩) hP (va_D_of hD rfl) hS hA (fun xx H locs hB hP hD hS hsz hk => ?_)
  have hP : va_P D clA [(sb, .inr (13, [.ref va, .int 0, .int 0, .int (nI cp)])), (tx, .inr (14, [.null, .int 0, .int 0, .int 0])), (va, .inl (k 1, cp, .inl f))] H := hP
  have hD : va_D A [(sb, .inr (13, [.ref va, .int 0, .int 0, .int (nI cp)])), (tx, .inr (14, [.null, .int 0, .int 0, .int 0])), (va, .inl (k 1, cp, .inl f))] := hD
  refine lv_astore_n (lv' := [(3, .ref va), (0, .ref tx), (1, .ref sb), (2, .null)]) hx hb dJ10_init_2_8 rfl hl (by decide) rfl (fun ls hl => ?_)
  refine lv_aload_n hx hb dJ10_init_2_9 rfl (lv_at hl 2 rfl) ?_
  refine r_after (va_runU (As := []) (rest := []) (g := F0 m 10 ls [.ref sb]) C.fix (j_SBlen l D k g sb va (nI cp)) (va_cwO (owner := "java/lang/AbstractStringBuilder") (x := yJ8_length) (y := yJ9_length) 0 hts gO_len rfl rfl rfl q659 (by decide +kernel) ⟨Nat.le_of_ble_eq_true rfl, Nat.le_of_ble_eq_true rfl⟩) (preV mv2_hKX hK (va_recv hK hP (ci := 13) (q0 := 0) rfl rfl) (fun U hU hW => (hKX_at hX hS hAN (va_cons (hP 0 _ rfl) va_nil) hU hW))) rfl rfl hl.1 rfl (lv_room (Nat.le_of_ble_eq_true rfl)) dJ10_init_2_10 ⟨(by first | exact Nat.le_of_ble_eq_true rfl | omega | (dsimp only [Rm]; omega)), (by first | exact Nat.le_of_ble_eq_true rfl | omega | (dsimp only [Rm]; omega))⟩) ?_
  refine lv_istore (lv' := [(4, .int (nI cp)), (3, .ref va), (0, .ref tx), (1, .ref sb), (2, .null)]) hx hb dJ10_init_2_13 hl (by decide) rfl (fun ls hl => ?_)
  refine lv_aload_n hx hb dJ10_init_2_15 rfl (lv_at hl 3 rfl) ?_
  refine r_after (va_runV (As := []) (rest := []) (g := F0 m 16 ls [.ref sb]) C.fix (j_sbLatin l D k g sb va (nI cp)) (cwQ 0 hts q660 q584 q82 q587 (hts _ q586) rfl rfl (by decide +kernel) ⟨Nat.le_of_ble_eq_true rfl, Nat.le_of_ble_eq_true rfl⟩) (preV mv2_hKX hK (va_recv hK hP (ci := 13) (q0 := 0) rfl rfl) (fun U hU hW => (hKX_at hX hS hAN (va_cons (hP 0 _ rfl) va_nil) hU hW))) rfl rfl hl.1 rfl (lv_room (Nat.le_of_ble_eq_true rfl)) dJ10_init_2_16 ⟨(by first | exact Nat.le_of_ble_eq_true rfl | omega | (dsimp only [Rm]; omega)), (by first | exact Nat.le_of_ble_eq_true rfl | omega | (dsimp only [Rm]; omega))⟩) ?_
  show W p l e (Rm 2 44 1 cp) s m ([.ref tx, .ref sb, .null] : List Value).toArray below meth c H locs (0 + 0 + 0 + 0) (0 + 0 + 0 + 0) (MQ below (jQ D (fun xx : Nat => none) (fun _ _ => True) (fun xx : Nat => [(tx, .inr (14, [.ref xx, .int 0, .int 0, .int 0])), (xx, .inl (k 1, cp, .inl f)), (sb, .inr (13, [.ref va, .int 0, .int 0, .int (nI cp)])), (va, .inl (k 1, cp, .inl f))]) (inL [(tx, .inr (14, [.null, .int 0, .int 0, .int 0])), (sb, .inr (13, [.ref va, .int 0, .int 0, .int (nI cp)])), (va, .inl (k 1, cp, .inl f))])) ([.ref tx, .ref sb, .null] : List Value).toArray s 1 cp (inL [(tx, .inr (14, [.null, .int 0, .int 0, .int 0])), (sb, .inr (13, [.ref va, .int 0, .int 0, .int (nI cp)])), (va, .inl (k 1, cp, .inl f))])) (F0 m 19 ls [.int (bI True)])
  refine lv_if_eq (tgt := 41) hx hb dJ10_init_2_19 (by decide) (fun c_19 => ?_) (fun c_19 => ?_)
  · exact absurd trivial (bI_0.mp c_19)
  · have b_19 := bI_nz c_19
    refine lv_aload_n hx hb dJ10_init_2_22 rfl (lv_at hl 2 rfl) ?_
    refine lv_iconst (v := 0) hx hb dJ10_init_2_23 rfl ?_
    refine va_putF hx hb hts in_J10 tyJ10 tyJ10_ok nmJ10 hown hK hP (va_D_of hD rfl) hS 1 rfl rfl 1 (by decide) (hts _ q773) (fun _ h => h) rfl hnm rfl rfl rfl rfl (Nat.le_of_ble_eq_true rfl) dJ10_init_2_24 (fun H locs hP _ hS => ?_)
    have hP : va_P D clA [(sb, .inr (13, [.ref va, .int 0, .int 0, .int (nI cp)])), (tx, .inr (14, [.null, .int 0, .int 0, .int 0])), (va, .inl (k 1, cp, .inl f))] H := hP
    refine lv_aload_n hx hb dJ10_init_2_27 rfl (lv_at hl 2 rfl) ?_
    refine lv_aload_n hx hb dJ10_init_2_28 rfl (lv_at hl 1 rfl) ?_
    refine lv_iconst (v := 0) hx hb dJ10_init_2_29 rfl ?_
    refine lv_iload hx hb dJ10_init_2_30 (lv_at hl 0 rfl) ?_
    have hP : va_P D clA [(va, .inl (k 1, cp, .inl f)), (sb, .inr (13, [.ref va, .int 0, .int 0, .int (nI cp)])), (tx, .inr (14, [.null, .int 0, .int 0, .int 0]))] H := P_prm [2, 0, 1] 3 rfl (by decide) hP
    have hD : va_D A [(va, .inl (k 1, cp, .inl f)), (sb, .inr (13, [.ref va, .int 0, .int 0, .int (nI cp)])), (tx, .inr (14, [.null, .int 0, .int 0, .int 0]))] := D_prm [2, 0, 1] 3 rfl (by decide) (va_D_of (ws' := [(sb, .inr (13, [.ref va, .int 0, .int 0, .int (nI cp)])), (tx, .inr (14, [.null, .int 0, .int 0, .int 0])), (va, .inl (k 1, cp, .inl f))]) hD rfl)
    refine j_after (w1 := [(va, .inl (k 1, cp, .inl f))]) (w2 := [(sb, .inr (13, [.ref va, .int 0, .int 0, .int (nI cp)])), (tx, .inr (14, [.null, .int 0, .int 0, .int 0]))]) (va_runS (As := [.ref va, .int 0, .int (nI cp)]) (rest := [.ref tx]) (g := F0 m 32 ls [.int (nI cp), .int 0, .ref va, .ref tx]) C.fix (j_cpE l D k g va cp f hcp hfit) (va_cwS 3 hts (lw_S q661 q662 q88 q663) rfl rfl rfl (by decide +kernel) ⟨Nat.le_of_ble_eq_true rfl, Nat.le_of_ble_eq_true rfl⟩) (preS mv2_jPre hK (fun U hU hW => jPre_at (w1 := [(va, .inl (k 1, cp, .inl f))]) (w2 := [(sb, .inr (13, [.ref va, .int 0, .int 0, .int (nI cp)])), (tx, .inr (14, [.null, .int 0, .int 0, .int 0]))]) hP (va_D_of hD rfl) hAN hX hS trivial hU hW)) rfl rfl hl.1 rfl (lv_room (Nat.le_of_ble_eq_true rfl)) dJ10_init_2_32 ⟨(by first | exact Nat.le_of_ble_eq_true rfl | omega | (dsimp only [Rm]; omega)), (by first | exact Nat.le_of_ble_eq_true rfl | omega | (dsimp only [Rm]; omega))⟩) hP (va_D_of hD rfl) hS hA (fun q3 H locs hB hP hD hS hsz hk => ?_)
    have hP : va_P D clA [(q3, .inl (k 1, cp, .inl f)), (va, .inl (k 1, cp, .inl f)), (sb, .inr (13, [.ref va, .int 0, .int 0, .int (nI cp)])), (tx, .inr (14, [.null, .int 0, .int 0, .int 0]))] H := hP
    have hD : va_D A [(q3, .inl (k 1, cp, .inl f)), (va, .inl (k 1, cp, .inl f)), (sb, .inr (13, [.ref va, .int 0, .int 0, .int (nI cp)])), (tx, .inr (14, [.null, .int 0, .int 0, .int 0]))] := hD
    refine va_putF hx hb hts in_J10 tyJ10 tyJ10_ok nmJ10 hown hK hP (va_D_of hD rfl) hS 3 rfl rfl 0 (by decide) (hts _ q772) (fun _ h => h) rfl hnm rfl rfl rfl rfl (Nat.le_of_ble_eq_true rfl) dJ10_init_2_35 (fun H locs hP _ hS => ?_)
    have hP : va_P D clA [(q3, .inl (k 1, cp, .inl f)), (va, .inl (k 1, cp, .inl f)), (sb, .inr (13, [.ref va, .int 0, .int 0, .int (nI cp)])), (tx, .inr (14, [.ref q3, .int 0, .int 0, .int 0]))] H := hP
    refine lv_goto (tgt := 97) hx hb dJ10_init_2_38 (by decide) ?_
    exact j_vret hAe C q3 rfl trivial (hP.sub [3, 0, 2, 1] rfl) (va_D_of (D_sub (ws' := [(tx, .inr (14, [.ref q3, .int 0, .int 0, .int 0])), (q3, .inl (k 1, cp, .inl f)), (sb, .inr (13, [.ref va, .int 0, .int 0, .int (nI cp)])), (va, .inl (k 1, cp, .inl f))]) (va_D_of (ws' := [(q3, .inl (k 1, cp, .inl f)), (va, .inl (k 1, cp, .inl f)), (sb, .inr (13, [.ref va, .int 0, .int 0, .int (nI cp)])), (tx, .inr (14, [.ref q3, .int 0, .int 0, .int 0]))]) hD rfl) [3, 0, 2, 1] rfl rfl) rfl) hS (by first | exact Nat.le_of_ble_eq_true rfl | omega | (dsimp only [Rm]; omega)) (by first | exact Nat.le_of_ble_eq_true rfl | omega | (dsimp only [Rm]; omega)) dJ10_init_2_97
set_option maxHeartbeats 4000000 in
theorem j_StrIE (l : Launch) (D : va_G) (k : Nat → ClassId) (g : Nat → Nat) (tx : Nat) (sb va cp : Nat) (f : Nat → Int32) (hcp : cp ≤ 40000) (hfit : bfit f) : jM l D k yJ10_init cJ10_init 2 none 3 68 1 cp [.ref tx, .ref sb] g [(tx, .inr (14, [.null, .int 0, .int 0, .int 0])), (sb, .inr (13, [.ref va, .int 0, .int 0, .int (nI cp)])), (va, .inl (k 1, cp, .inl f))] (fun HH => True) (fun xx : Nat => none) (fun _ _ => True) (fun xx : Nat => [(tx, .inr (14, [.ref xx, .int 0, .int 0, .int 0])), (xx, .inl (k 1, cp, .inl f)), (sb, .inr (13, [.ref va, .int 0, .int 0, .int (nI cp)])), (va, .inl (k 1, cp, .inl f))]) := by
  refine jM_of (by decide) (Nat.le_of_ble_eq_true rfl) ?_
  intro p e s m below meth c ls A hAe C hnm hmn hK hP hD hA hAN _ hX hS hl
  have hN : NW s := hX.nw
  obtain ⟨hx, hb, hr, hml, hown, hts, hlk⟩ := id C
  have hl : lv_has ls 2 [(0, .ref tx), (1, .ref sb)] := hl
  refine lv_aload_n hx hb dJ10_init_0 rfl (lv_at hl 0 rfl) ?_
  refine lv_aload_n hx hb dJ10_init_1 rfl (lv_at hl 1 rfl) ?_
  refine lv_null hx hb dJ10_init_2 ?_
  refine j_after (w1 := [(tx, .inr (14, [.null, .int 0, .int 0, .int 0])), (sb, .inr (13, [.ref va, .int 0, .int 0, .int (nI cp)])), (va, .inl (k 1, cp, .inl f))]) (w2 := []) (va_runI (As := [.ref sb, .null]) (rest := []) (g := F0 m 3 ls [.null, .ref sb, .ref tx]) C.fix (j_StrI2E l D k g tx sb va cp f hcp hfit) (cwC 2 hts q643 q644 q84 q645 rfl rfl rfl (by decide +kernel) ⟨Nat.le_of_ble_eq_true rfl, Nat.le_of_ble_eq_true rfl⟩) (preS mv2_jPre hK (fun U hU hW => jPre_at (w1 := [(tx, .inr (14, [.null, .int 0, .int 0, .int 0])), (sb, .inr (13, [.ref va, .int 0, .int 0, .int (nI cp)])), (va, .inl (k 1, cp, .inl f))]) (w2 := []) hP (va_D_of hD rfl) hAN hX hS trivial hU hW)) rfl rfl hl.1 rfl (lv_room (Nat.le_of_ble_eq_true rfl)) dJ10_init_3 ⟨(by first | exact Nat.le_of_ble_eq_true rfl | omega | (dsimp only [Rm]; omega)), (by first | exact Nat.le_of_ble_eq_true rfl | omega | (dsimp only [Rm]; omega))⟩) hP (va_D_of hD rfl) hS hA (fun q3 H locs hB hP hD hS hsz hk => ?_)
  have hP : va_P D clA [(tx, .inr (14, [.ref q3, .int 0, .int 0, .int 0])), (q3, .inl (k 1, cp, .inl f)), (sb, .inr (13, [.ref va, .int 0, .int 0, .int (nI cp)])), (va, .inl (k 1, cp, .inl f))] H := hP
  have hD : va_D A [(tx, .inr (14, [.ref q3, .int 0, .int 0, .int 0])), (q3, .inl (k 1, cp, .inl f)), (sb, .inr (13, [.ref va, .int 0, .int 0, .int (nI cp)])), (va, .inl (k 1, cp, .inl f))] := hD
  exact j_vret hAe C q3 rfl trivial hP (va_D_of hD rfl) hS (by first | exact Nat.le_of_ble_eq_true rfl | omega | (dsimp only [Rm]; omega)) (by first | exact Nat.le_of_ble_eq_true rfl | omega | (dsimp only [Rm]; omega)) dJ10_init_6
set_option maxHeartbeats 4000000 in
theorem j_toStrE (l : Launch) (D : va_G) (k : Nat → ClassId) (g : Nat → Nat) (sb va cp : Nat) (f : Nat → Int32) (hcp : cp ≤ 40000) (hfit : bfit f) : jM l D k yJ9_toString cJ9_toString 1 (some (.object "java/lang/String")) 4 89 2 (cp + 4) [.ref sb] g [(sb, .inr (13, [.ref va, .int 0, .int 0, .int (nI cp)])), (va, .inl (k 1, cp, .inl f))] (fun HH => True) (fun xx : Nat × Nat => some (.ref xx.1)) (fun _ _ => True) (fun xx : Nat × Nat => [(xx.1, .inr (14, [.ref xx.2, .int 0, .int 0, .int 0])), (xx.2, .inl (k 1, cp, .inl f)), (sb, .inr (13, [.ref va, .int 0, .int 0, .int (nI cp)])), (va, .inl (k 1, cp, .inl f))]) := by
  refine jM_of (by decide) (Nat.le_of_ble_eq_true rfl) ?_
  intro p e s m below meth c ls A hAe C hnm hmn hK hP hD hA hAN _ hX hS hl
  have hN : NW s := hX.nw
  obtain ⟨hx, hb, hr, hml, hown, hts, hlk⟩ := id C
  have hl : lv_has ls 1 [(0, .ref sb)] := hl
  refine n_new (fs := [.null, .int 0, .int 0, .int 0]) hx hb hts in_J10 tyJ10 tyJ10_ok hown (hts _ q638) (hts _ q639) (hts _ q84) hK hP (va_D_of hD rfl) hS hA (ci := 14) rfl (by decide +kernel) (by first | exact Nat.le_of_ble_eq_true rfl | omega | (dsimp only [Rm]; omega)) (by first | exact Nat.le_of_ble_eq_true rfl | omega | (dsimp only [Rm]; omega)) dJ9_toString_0 (fun tx H _ hP hD hS => ?_)
  refine lv_dup hx hb dJ9_toString_3 rfl ?_
  refine lv_aload_n hx hb dJ9_toString_4 rfl (lv_at hl 0 rfl) ?_
  refine j_after (w1 := [(tx, .inr (14, [.null, .int 0, .int 0, .int 0])), (sb, .inr (13, [.ref va, .int 0, .int 0, .int (nI cp)])), (va, .inl (k 1, cp, .inl f))]) (w2 := []) (va_runI (As := [.ref sb]) (rest := [.ref tx]) (g := F0 m 5 ls [.ref sb, .ref tx, .ref tx]) C.fix (j_StrIE l D k g tx sb va cp f hcp hfit) (cwC 1 hts q640 q641 q84 q642 rfl rfl rfl (by decide +kernel) ⟨Nat.le_of_ble_eq_true rfl, Nat.le_of_ble_eq_true rfl⟩) (preS mv2_jPre hK (fun U hU hW => jPre_at (w1 := [(tx, .inr (14, [.null, .int 0, .int 0, .int 0])), (sb, .inr (13, [.ref va, .int 0, .int 0, .int (nI cp)])), (va, .inl (k 1, cp, .inl f))]) (w2 := []) hP (va_D_of hD rfl) hAN hX hS trivial hU hW)) rfl rfl hl.1 rfl (lv_room (Nat.le_of_ble_eq_true rfl)) dJ9_toString_5 ⟨(by first | exact Nat.le_of_ble_eq_true rfl | omega | (dsimp only [Rm]; omega)), (by first | exact Nat.le_of_ble_eq_true rfl | omega | (dsimp only [Rm]; omega))⟩) hP (va_D_of hD rfl) hS hA (fun q3 H locs hB hP hD hS hsz hk => ?_)
  have hP : va_P D clA [(tx, .inr (14, [.ref q3, .int 0, .int 0, .int 0])), (q3, .inl (k 1, cp, .inl f)), (sb, .inr (13, [.ref va, .int 0, .int 0, .int (nI cp)])), (va, .inl (k 1, cp, .inl f))] H := hP
  have hD : va_D A [(tx, .inr (14, [.ref q3, .int 0, .int 0, .int 0])), (q3, .inl (k 1, cp, .inl f)), (sb, .inr (13, [.ref va, .int 0, .int 0, .int (nI cp)])), (va, .inl (k 1, cp, .inl f))] := hD
  exact j_aret hAe C (Or.inl ⟨_, rfl⟩) (tx, q3) rfl trivial hP (va_D_of hD rfl) hS (by first | exact Nat.le_of_ble_eq_true rfl | omega | (dsimp only [Rm]; omega)) (by first | exact Nat.le_of_ble_eq_true rfl | omega | (dsimp only [Rm]; omega)) dJ9_toString_8
