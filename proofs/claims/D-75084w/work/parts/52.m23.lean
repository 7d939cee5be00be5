/-! the component: Desk, reading (printed by gen/m23.py) -/
set_option maxRecDepth 100000
set_option maxHeartbeats 4000000 in
theorem c_drawn (l : Launch) (D : va_G) (k : Nat → ClassId) (g : Nat → Nat) (z : Nat → Nat) (hf d : Nat → Int32) (hz : dkN g z hf d) (x : Int32) : sM l D k yX2_drawn cX2_drawn 5 (some .int) 4 85 [.ref (z 0), .int x] (hKX (fun HH => dk D k z hf d HH) g) (some (.int (drawn d x))) := by
  refine sM_of (by decide) (Nat.le_of_ble_eq_true rfl) ?_
  intro p e s m below meth c ls C hK ⟨hdk, hX⟩ hl
  have hS : va_S (G0 g) s.heap s.heap [] := va_S.rf
  have hAN : ∀ q, G0 g q → g 0 ≤ q := fun _ h => h
  have hN : NW s := hX.nw
  obtain ⟨hx, hb, hr, hml, hown, hts, hlk⟩ := id C
  have hl : lv_has ls 5 [(0, .ref (z 0)), (1, .int x)] := hl
  have hF : va_P D clA [(z 0, .inr (2, [.ref (z 1), .ref (z 3), .ref (z 6), .ref (z 9), .int (d 3)])), (z 1, .inr (3, [.ref (z 2), .int (d 2)])), (z 2, .inl (k 0, 16, .inl hf)), (z 3, .inr (4, [.ref (z 4), .int 12])), (z 4, .inr (12, [.int (nI (z 12)), .ref (z 5), .int (nI (dN d 0))])), (z 6, .inr (4, [.ref (z 7), .int 24])), (z 7, .inr (12, [.int (nI (z 13)), .ref (z 8), .int (nI (dN d 1))]))] s.heap := hdk.1
  have hd := hz.1
  have hh := hz.2.1
  have h10 := hz.2.2
  obtain ⟨h10, h10b, h11, h11b, -⟩ := h10
  have hd0 := hd.1.1.2
  have hd1 := hd.1.2.1.2
  refine lv_iconst (v := 0) hx hb dX2_drawn_0 rfl ?_
  refine lv_istore_n (lv' := [(2, .int 0), (0, .ref (z 0)), (1, .int x)]) hx hb dX2_drawn_1 rfl hl (by decide) rfl (fun ls hl => ?_)
  refine lv_iconst (v := 0) hx hb dX2_drawn_2 rfl ?_
  refine lv_istore_n (lv' := [(3, .int 0), (2, .int 0), (0, .ref (z 0)), (1, .int x)]) hx hb dX2_drawn_3 rfl hl (by decide) rfl (fun ls hl => ?_)
  have loop_4 : ∀ (n : Nat) (j : Nat), (j ≤ dN d 1) → (dN d 1 + 1 ≤ j + n) → ∀ (ls : Array Slot), lv_has ls 5 [(0, .ref (z 0)), (1, .int x), (2, .int (sumI (fun q => pick (stands d q x ∧ pf d q 3 &&& 4 = 0) (pf d q 2)) j)), (3, .int (nI j))] → W p l e (Rm 4 85 0 0) s m ([.ref (z 0), .int x] : List Value).toArray below meth c s.heap [] 0 0 (MQ below (rQ (some (.int (drawn d x)))) ([.ref (z 0), .int x] : List Value).toArray s 0 0 (fun _ => False)) (F0 m 4 ls []) := by
    intro n
    induction n with
    | zero =>
      intro j hj hn
      exact absurd hn (by omega)
    | succ n ih_4 =>
      intro j hj hn ls hl
      refine lv_iload_n hx hb dX2_drawn_4 rfl (lv_at hl 3 rfl) ?_
      refine lv_aload_n hx hb dX2_drawn_5 rfl (lv_at hl 0 rfl) ?_
      refine va_get hx hb hts in_X2 hown hK hF 0 rfl rfl 2 (by decide) (hts _ q201) (fun _ h => h) rfl dX2_drawn_6 ?_
      refine r_after (va_runV (As := []) (rest := [.int (nI j)]) (g := F0 m 9 ls [.ref (z 6), .int (nI j)]) C.fix (c_bookSize l D k g (z 6) (z 7) (z 8) (nI (z 13)) 24 (nI (dN d 1))) (cwV 0 hts (lw_V q346 q252 q253 q73 q254) rfl rfl rfl (by decide +kernel) ⟨Nat.le_of_ble_eq_true rfl, Nat.le_of_ble_eq_true rfl⟩) (preV mv2_hKX hK (va_recv hK hF (ci := 4) (q0 := 5) rfl rfl) (fun U hU hW => (hKX_at hX hS hAN (va_cons (hF 5 _ rfl) (va_cons (hF 6 _ rfl) va_nil)) hU hW))) rfl rfl hl.1 rfl (lv_room (Nat.le_of_ble_eq_true rfl)) dX2_drawn_9 ⟨(by first | exact Nat.le_of_ble_eq_true rfl | omega | (dsimp only [Rm]; omega)), (by first | exact Nat.le_of_ble_eq_true rfl | omega | (dsimp only [Rm]; omega))⟩) ?_
      refine lv_icmp_ge (tgt := 63) hx hb dX2_drawn_12 (by decide) (fun c_12 => ?_) (fun c_12 => ?_)
      · have g_12 := nI_le' c_12 (by omega) (by omega)
        refine lv_iload_n hx hb dX2_drawn_63 rfl (lv_at hl 2 rfl) ?_
        exact r_iret C (by rw [show j = dN d 1 by omega]; rfl) dX2_drawn_64
      · have g_12 := nI_nle' c_12 (by omega) (by omega)
        obtain ⟨-, -, -, hq3, -⟩ := hd.2.2.2 j (by omega)
        have hq2 := has2 (dN d (154 + 6 * j + 3)) (by have := hq3.2; omega)
        rw [← hq3.1] at hq2
        refine lv_aload_n hx hb dX2_drawn_15 rfl (lv_at hl 0 rfl) ?_
        refine va_get hx hb hts in_X2 hown hK hF 0 rfl rfl 2 (by decide) (hts _ q201) (fun _ h => h) rfl dX2_drawn_16 ?_
        refine lv_iload_n hx hb dX2_drawn_19 rfl (lv_at hl 3 rfl) ?_
        refine r_after (va_runV (As := [.int (nI j)]) (rest := []) (g := F0 m 20 ls [.int (nI j), .ref (z 6)]) C.fix (c_bookGet l D k g (z 6) 24 (z 7) (z 8) (nI (z 13)) (dN d 1) (z 11) j (z (32 + j)) _ (by omega) (by omega) (by omega) (rfs_at (by omega))) (cwV 1 hts (lw_V q347 q278 q279 q73 q280) rfl rfl rfl (by decide +kernel) ⟨Nat.le_of_ble_eq_true rfl, Nat.le_of_ble_eq_true rfl⟩) (preV mv2_hKX hK (va_recv hK hF (ci := 4) (q0 := 5) rfl rfl) (fun U hU hW => (hKX_at hX hS hAN (va_cons (hF 5 _ rfl) (va_cons (hF 6 _ rfl) (va_cons ((hdk.2.2.1 (by omega)) 0 _ rfl) va_nil))) hU hW))) rfl rfl hl.1 rfl (lv_room (Nat.le_of_ble_eq_true rfl)) dX2_drawn_20 ⟨(by first | exact Nat.le_of_ble_eq_true rfl | omega | (dsimp only [Rm]; omega)), (by first | exact Nat.le_of_ble_eq_true rfl | omega | (dsimp only [Rm]; omega))⟩) ?_
        refine va_castY hx hb hown (hts _ q348) (cast_self (hK.1 10 _ rfl)) (va_recv hK (hdk.2.2.2.2 j (by omega)) (ci := 10) (q0 := 0) rfl rfl) dX2_drawn_23 ?_
        refine lv_astore (lv' := [(4, .ref (z (32 + j))), (0, .ref (z 0)), (1, .int x), (2, .int (sumI (fun q => pick (stands d q x ∧ pf d q 3 &&& 4 = 0) (pf d q 2)) j)), (3, .int (nI j))]) hx hb dX2_drawn_26 hl (by decide) rfl (fun ls hl => ?_)
        refine lv_iload_n hx hb dX2_drawn_28 rfl (lv_at hl 3 rfl) ?_
        refine lv_aload hx hb dX2_drawn_29 (lv_at hl 0 rfl) ?_
        refine va_getN hx hb hts in_X12 hown hK (hdk.2.2.2.2 j (by omega)) 0 rfl rfl 0 (by decide) ((hN _ q1544 rfl).use rfl) (fun _ h => h) rfl dX2_drawn_31 ?_
        refine lv_iload_n hx hb dX2_drawn_34 rfl (lv_at hl 2 rfl) ?_
        have J_55 : ∀ (zz : Int32), (zz = pick (stands d j x ∧ pf d j 3 &&& 4 = 0) (pf d j 2)) → ∀ (ls : Array Slot), lv_has ls 5 [(0, .ref (z 0)), (1, .int x), (2, .int (sumI (fun q => pick (stands d q x ∧ pf d q 3 &&& 4 = 0) (pf d q 2)) j)), (3, .int (nI j))] → W p l e (Rm 4 85 0 0) s m ([.ref (z 0), .int x] : List Value).toArray below meth c s.heap [] 0 0 (MQ below (rQ (some (.int (drawn d x)))) ([.ref (z 0), .int x] : List Value).toArray s 0 0 (fun _ => False)) (F0 m 55 ls [.int zz, .int (sumI (fun q => pick (stands d q x ∧ pf d q 3 &&& 4 = 0) (pf d q 2)) j)]) := by
          intro zz h_zz ls hl
          refine lv_iadd hx hb dX2_drawn_55 ?_
          refine w_topi (y := sumI (fun q => pick (stands d q x ∧ pf d q 3 &&& 4 = 0) (pf d q 2)) (j + 1)) (by rw [h_zz]; rfl) ?_
          refine lv_istore_n (lv' := [(2, .int (sumI (fun q => pick (stands d q x ∧ pf d q 3 &&& 4 = 0) (pf d q 2)) (j + 1))), (0, .ref (z 0)), (1, .int x), (3, .int (nI j))]) hx hb dX2_drawn_56 rfl hl (by decide) rfl (fun ls hl => ?_)
          refine lv_iinc (v := nI (j + 1)) (lv' := [(3, .int (nI (j + 1))), (2, .int (sumI (fun q => pick (stands d q x ∧ pf d q 3 &&& 4 = 0) (pf d q 2)) (j + 1))), (0, .ref (z 0)), (1, .int x)]) hx hb dX2_drawn_57 hl (k := 3) rfl (nI_1 j) (by decide) rfl (fun ls hl => ?_)
          refine lv_goto (tgt := 4) hx hb dX2_drawn_60 (by decide) ?_
          exact ih_4 (j + 1) (by omega) (by omega) ls (lv_sub hl [2, 3, 1, 0] rfl)
        refine lv_icmp_ne (tgt := 54) hx hb dX2_drawn_35 (by decide) (fun c_35 => ?_) (fun c_35 => ?_)
        · refine lv_iconst (v := 0) hx hb dX2_drawn_54 rfl ?_
          have hl : lv_has ls 5 [(0, .ref (z 0)), (1, .int x), (2, .int (sumI (fun q => pick (stands d q x ∧ pf d q 3 &&& 4 = 0) (pf d q 2)) j)), (3, .int (nI j))] := lv_sub hl [1, 2, 3, 4] rfl
          exact J_55 0 (by first | exact (pick_f (fun h => c_35 h.1.1)).symm | exact (pick_f (fun h => b_43 ⟨h.1.2, hq2.mpr h.2⟩)).symm | exact (pick_t ⟨⟨c_35, b_43.1⟩, hq2.mp b_43.2⟩).symm) ls hl
        · refine lv_aload hx hb dX2_drawn_38 (lv_at hl 0 rfl) ?_
          refine r_after (va_runV (As := []) (rest := [.int (sumI (fun q => pick (stands d q x ∧ pf d q 3 &&& 4 = 0) (pf d q 2)) j)]) (g := F0 m 40 ls [.ref (z (32 + j)), .int (sumI (fun q => pick (stands d q x ∧ pf d q 3 &&& 4 = 0) (pf d q 2)) j)]) C.fix (c_isDrawing l D k (z (32 + j)) (pf d j 0) (pf d j 1) (pf d j 2) (pf d j 3) (pf d j 4) (due d j) []) (cwV 0 hts (lw_V q349 q350 q351 q105 q352) rfl rfl rfl (by decide +kernel) ⟨Nat.le_of_ble_eq_true rfl, Nat.le_of_ble_eq_true rfl⟩) (preRV hK (va_recv hK (hdk.2.2.2.2 j (by omega)) (ci := 10) (q0 := 0) rfl rfl) (va_cons ((hdk.2.2.2.2 j (by omega)) 0 _ rfl) va_nil)) rfl rfl hl.1 rfl (lv_room (Nat.le_of_ble_eq_true rfl)) dX2_drawn_40 ⟨(by first | exact Nat.le_of_ble_eq_true rfl | omega | (dsimp only [Rm]; omega)), (by first | exact Nat.le_of_ble_eq_true rfl | omega | (dsimp only [Rm]; omega))⟩) ?_
          refine lv_if_eq (tgt := 54) hx hb dX2_drawn_43 (by decide) (fun c_43 => ?_) (fun c_43 => ?_)
          · have b_43 := bI_0.mp c_43
            refine lv_iconst (v := 0) hx hb dX2_drawn_54 rfl ?_
            have hl : lv_has ls 5 [(0, .ref (z 0)), (1, .int x), (2, .int (sumI (fun q => pick (stands d q x ∧ pf d q 3 &&& 4 = 0) (pf d q 2)) j)), (3, .int (nI j))] := lv_sub hl [1, 2, 3, 4] rfl
            exact J_55 0 (by first | exact (pick_f (fun h => c_35 h.1.1)).symm | exact (pick_f (fun h => b_43 ⟨h.1.2, hq2.mpr h.2⟩)).symm | exact (pick_t ⟨⟨c_35, b_43.1⟩, hq2.mp b_43.2⟩).symm) ls hl
          · have b_43 := bI_nz c_43
            refine lv_aload hx hb dX2_drawn_46 (lv_at hl 0 rfl) ?_
            refine va_getN hx hb hts in_X12 hown hK (hdk.2.2.2.2 j (by omega)) 0 rfl rfl 2 (by decide) ((hN _ q1549 rfl).use rfl) (fun _ h => h) rfl dX2_drawn_48 ?_
            refine lv_goto (tgt := 55) hx hb dX2_drawn_51 (by decide) ?_
            have hl : lv_has ls 5 [(0, .ref (z 0)), (1, .int x), (2, .int (sumI (fun q => pick (stands d q x ∧ pf d q 3 &&& 4 = 0) (pf d q 2)) j)), (3, .int (nI j))] := lv_sub hl [1, 2, 3, 4] rfl
            exact J_55 (pf d j 2) (by first | exact (pick_f (fun h => c_35 h.1.1)).symm | exact (pick_f (fun h => b_43 ⟨h.1.2, hq2.mpr h.2⟩)).symm | exact (pick_t ⟨⟨c_35, b_43.1⟩, hq2.mp b_43.2⟩).symm) ls hl
  exact loop_4 (dN d 1 + 1) 0 (Nat.zero_le _) (by omega) ls (lv_sub hl [2, 3, 1, 0] rfl)
set_option maxHeartbeats 4000000 in
theorem c_transferred (l : Launch) (D : va_G) (k : Nat → ClassId) (g : Nat → Nat) (z : Nat → Nat) (hf d : Nat → Int32) (hz : dkN g z hf d) (x : Int32) : sM l D k yX2_transferred cX2_transferred 4 (some .int) 4 85 [.ref (z 0), .int x] (hKX (fun HH => dk D k z hf d HH) g) (some (.int (transf d x))) := by
  refine sM_of (by decide) (Nat.le_of_ble_eq_true rfl) ?_
  intro p e s m below meth c ls C hK ⟨hdk, hX⟩ hl
  have hS : va_S (G0 g) s.heap s.heap [] := va_S.rf
  have hAN : ∀ q, G0 g q → g 0 ≤ q := fun _ h => h
  have hN : NW s := hX.nw
  obtain ⟨hx, hb, hr, hml, hown, hts, hlk⟩ := id C
  have hl : lv_has ls 4 [(0, .ref (z 0)), (1, .int x)] := hl
  have hF : va_P D clA [(z 0, .inr (2, [.ref (z 1), .ref (z 3), .ref (z 6), .ref (z 9), .int (d 3)])), (z 1, .inr (3, [.ref (z 2), .int (d 2)])), (z 2, .inl (k 0, 16, .inl hf)), (z 3, .inr (4, [.ref (z 4), .int 12])), (z 4, .inr (12, [.int (nI (z 12)), .ref (z 5), .int (nI (dN d 0))])), (z 6, .inr (4, [.ref (z 7), .int 24])), (z 7, .inr (12, [.int (nI (z 13)), .ref (z 8), .int (nI (dN d 1))]))] s.heap := hdk.1
  have hd := hz.1
  have hh := hz.2.1
  have h10 := hz.2.2
  obtain ⟨h10, h10b, h11, h11b, -⟩ := h10
  have hd0 := hd.1.1.2
  have hd1 := hd.1.2.1.2
  refine lv_iconst (v := 0) hx hb dX2_transferred_0 rfl ?_
  refine lv_istore_n (lv' := [(2, .int 0), (0, .ref (z 0)), (1, .int x)]) hx hb dX2_transferred_1 rfl hl (by decide) rfl (fun ls hl => ?_)
  refine lv_iconst (v := 0) hx hb dX2_transferred_2 rfl ?_
  refine lv_istore_n (lv' := [(3, .int 0), (2, .int 0), (0, .ref (z 0)), (1, .int x)]) hx hb dX2_transferred_3 rfl hl (by decide) rfl (fun ls hl => ?_)
  have loop_4 : ∀ (n : Nat) (j : Nat), (j ≤ dN d 0) → (dN d 0 + 1 ≤ j + n) → ∀ (ls : Array Slot), lv_has ls 4 [(0, .ref (z 0)), (1, .int x), (2, .int (sumI (fun o => pick (cf d o 10 = x) (cf d o 0)) j)), (3, .int (nI j))] → W p l e (Rm 4 85 0 0) s m ([.ref (z 0), .int x] : List Value).toArray below meth c s.heap [] 0 0 (MQ below (rQ (some (.int (transf d x)))) ([.ref (z 0), .int x] : List Value).toArray s 0 0 (fun _ => False)) (F0 m 4 ls []) := by
    intro n
    induction n with
    | zero =>
      intro j hj hn
      exact absurd hn (by omega)
    | succ n ih_4 =>
      intro j hj hn ls hl
      refine lv_iload_n hx hb dX2_transferred_4 rfl (lv_at hl 3 rfl) ?_
      refine lv_aload_n hx hb dX2_transferred_5 rfl (lv_at hl 0 rfl) ?_
      refine va_get hx hb hts in_X2 hown hK hF 0 rfl rfl 1 (by decide) (hts _ q198) (fun _ h => h) rfl dX2_transferred_6 ?_
      refine r_after (va_runV (As := []) (rest := [.int (nI j)]) (g := F0 m 9 ls [.ref (z 3), .int (nI j)]) C.fix (c_bookSize l D k g (z 3) (z 4) (z 5) (nI (z 12)) 12 (nI (dN d 0))) (cwV 0 hts (lw_V q346 q252 q253 q73 q254) rfl rfl rfl (by decide +kernel) ⟨Nat.le_of_ble_eq_true rfl, Nat.le_of_ble_eq_true rfl⟩) (preV mv2_hKX hK (va_recv hK hF (ci := 4) (q0 := 3) rfl rfl) (fun U hU hW => (hKX_at hX hS hAN (va_cons (hF 3 _ rfl) (va_cons (hF 4 _ rfl) va_nil)) hU hW))) rfl rfl hl.1 rfl (lv_room (Nat.le_of_ble_eq_true rfl)) dX2_transferred_9 ⟨(by first | exact Nat.le_of_ble_eq_true rfl | omega | (dsimp only [Rm]; omega)), (by first | exact Nat.le_of_ble_eq_true rfl | omega | (dsimp only [Rm]; omega))⟩) ?_
      refine lv_icmp_ge (tgt := 60) hx hb dX2_transferred_12 (by decide) (fun c_12 => ?_) (fun c_12 => ?_)
      · have g_12 := nI_le' c_12 (by omega) (by omega)
        refine lv_iload_n hx hb dX2_transferred_60 rfl (lv_at hl 2 rfl) ?_
        exact r_iret C (by rw [show j = dN d 0 by omega]; rfl) dX2_transferred_61
      · have g_12 := nI_nle' c_12 (by omega) (by omega)
        refine lv_iload_n hx hb dX2_transferred_15 rfl (lv_at hl 2 rfl) ?_
        refine lv_aload_n hx hb dX2_transferred_16 rfl (lv_at hl 0 rfl) ?_
        refine va_get hx hb hts in_X2 hown hK hF 0 rfl rfl 1 (by decide) (hts _ q198) (fun _ h => h) rfl dX2_transferred_17 ?_
        refine lv_iload_n hx hb dX2_transferred_20 rfl (lv_at hl 3 rfl) ?_
        refine r_after (va_runV (As := [.int (nI j)]) (rest := [.int (sumI (fun o => pick (cf d o 10 = x) (cf d o 0)) j)]) (g := F0 m 21 ls [.int (nI j), .ref (z 3), .int (sumI (fun o => pick (cf d o 10 = x) (cf d o 0)) j)]) C.fix (c_bookGet l D k g (z 3) 12 (z 4) (z 5) (nI (z 12)) (dN d 0) (z 10) j (z (16 + j)) _ (by omega) (by omega) (by omega) (rfs_at (by omega))) (cwV 1 hts (lw_V q347 q278 q279 q73 q280) rfl rfl rfl (by decide +kernel) ⟨Nat.le_of_ble_eq_true rfl, Nat.le_of_ble_eq_true rfl⟩) (preV mv2_hKX hK (va_recv hK hF (ci := 4) (q0 := 3) rfl rfl) (fun U hU hW => (hKX_at hX hS hAN (va_cons (hF 3 _ rfl) (va_cons (hF 4 _ rfl) (va_cons ((hdk.2.1 (by omega)) 0 _ rfl) va_nil))) hU hW))) rfl rfl hl.1 rfl (lv_room (Nat.le_of_ble_eq_true rfl)) dX2_transferred_21 ⟨(by first | exact Nat.le_of_ble_eq_true rfl | omega | (dsimp only [Rm]; omega)), (by first | exact Nat.le_of_ble_eq_true rfl | omega | (dsimp only [Rm]; omega))⟩) ?_
        refine va_castY hx hb hown (hts _ q361) (cast_self (hK.1 8 _ rfl)) (va_recv hK (hdk.2.2.2.1 j (by omega)) (ci := 8) (q0 := 0) rfl rfl) dX2_transferred_24 ?_
        refine va_getN hx hb hts in_X10 hown hK (hdk.2.2.2.1 j (by omega)) 0 rfl rfl 0 (by decide) ((hN _ q963 rfl).use rfl) (fun _ h => h) rfl dX2_transferred_27 ?_
        refine lv_iload_n hx hb dX2_transferred_30 rfl (lv_at hl 1 rfl) ?_
        have J_52 : ∀ (zz : Int32), (zz = pick (cf d j 10 = x) (cf d j 0)) → ∀ (ls : Array Slot), lv_has ls 4 [(0, .ref (z 0)), (1, .int x), (2, .int (sumI (fun o => pick (cf d o 10 = x) (cf d o 0)) j)), (3, .int (nI j))] → W p l e (Rm 4 85 0 0) s m ([.ref (z 0), .int x] : List Value).toArray below meth c s.heap [] 0 0 (MQ below (rQ (some (.int (transf d x)))) ([.ref (z 0), .int x] : List Value).toArray s 0 0 (fun _ => False)) (F0 m 52 ls [.int zz, .int (sumI (fun o => pick (cf d o 10 = x) (cf d o 0)) j)]) := by
          intro zz h_zz ls hl
          refine lv_iadd hx hb dX2_transferred_52 ?_
          refine w_topi (y := sumI (fun o => pick (cf d o 10 = x) (cf d o 0)) (j + 1)) (by rw [h_zz]; rfl) ?_
          refine lv_istore_n (lv' := [(2, .int (sumI (fun o => pick (cf d o 10 = x) (cf d o 0)) (j + 1))), (0, .ref (z 0)), (1, .int x), (3, .int (nI j))]) hx hb dX2_transferred_53 rfl hl (by decide) rfl (fun ls hl => ?_)
          refine lv_iinc (v := nI (j + 1)) (lv' := [(3, .int (nI (j + 1))), (2, .int (sumI (fun o => pick (cf d o 10 = x) (cf d o 0)) (j + 1))), (0, .ref (z 0)), (1, .int x)]) hx hb dX2_transferred_54 hl (k := 3) rfl (nI_1 j) (by decide) rfl (fun ls hl => ?_)
          refine lv_goto (tgt := 4) hx hb dX2_transferred_57 (by decide) ?_
          exact ih_4 (j + 1) (by omega) (by omega) ls (lv_sub hl [2, 3, 1, 0] rfl)
        refine lv_icmp_ne (tgt := 51) hx hb dX2_transferred_31 (by decide) (fun c_31 => ?_) (fun c_31 => ?_)
        · refine lv_iconst (v := 0) hx hb dX2_transferred_51 rfl ?_
          exact J_52 0 (by first | exact (pick_f c_31).symm | exact (pick_t c_31).symm) ls hl
        · refine lv_aload_n hx hb dX2_transferred_34 rfl (lv_at hl 0 rfl) ?_
          refine va_get hx hb hts in_X2 hown hK hF 0 rfl rfl 1 (by decide) (hts _ q198) (fun _ h => h) rfl dX2_transferred_35 ?_
          refine lv_iload_n hx hb dX2_transferred_38 rfl (lv_at hl 3 rfl) ?_
          refine r_after (va_runV (As := [.int (nI j)]) (rest := [.int (sumI (fun o => pick (cf d o 10 = x) (cf d o 0)) j)]) (g := F0 m 39 ls [.int (nI j), .ref (z 3), .int (sumI (fun o => pick (cf d o 10 = x) (cf d o 0)) j)]) C.fix (c_bookGet l D k g (z 3) 12 (z 4) (z 5) (nI (z 12)) (dN d 0) (z 10) j (z (16 + j)) _ (by omega) (by omega) (by omega) (rfs_at (by omega))) (cwV 1 hts (lw_V q347 q278 q279 q73 q280) rfl rfl rfl (by decide +kernel) ⟨Nat.le_of_ble_eq_true rfl, Nat.le_of_ble_eq_true rfl⟩) (preV mv2_hKX hK (va_recv hK hF (ci := 4) (q0 := 3) rfl rfl) (fun U hU hW => (hKX_at hX hS hAN (va_cons (hF 3 _ rfl) (va_cons (hF 4 _ rfl) (va_cons ((hdk.2.1 (by omega)) 0 _ rfl) va_nil))) hU hW))) rfl rfl hl.1 rfl (lv_room (Nat.le_of_ble_eq_true rfl)) dX2_transferred_39 ⟨(by first | exact Nat.le_of_ble_eq_true rfl | omega | (dsimp only [Rm]; omega)), (by first | exact Nat.le_of_ble_eq_true rfl | omega | (dsimp only [Rm]; omega))⟩) ?_
          refine va_castY hx hb hown (hts _ q361) (cast_self (hK.1 8 _ rfl)) (va_recv hK (hdk.2.2.2.1 j (by omega)) (ci := 8) (q0 := 0) rfl rfl) dX2_transferred_42 ?_
          refine va_getN hx hb hts in_X10 hown hK (hdk.2.2.2.1 j (by omega)) 0 rfl rfl 1 (by decide) ((hN _ q966 rfl).use rfl) (fun _ h => h) rfl dX2_transferred_45 ?_
          refine lv_goto (tgt := 52) hx hb dX2_transferred_48 (by decide) ?_
          exact J_52 (cf d j 0) (by first | exact (pick_f c_31).symm | exact (pick_t c_31).symm) ls hl
  exact loop_4 (dN d 0 + 1) 0 (Nat.zero_le _) (by omega) ls (lv_sub hl [2, 3, 1, 0] rfl)
set_option maxHeartbeats 4000000 in
theorem c_available (l : Launch) (D : va_G) (k : Nat → ClassId) (g : Nat → Nat) (z : Nat → Nat) (hf d : Nat → Int32) (hz : dkN g z hf d) (x : Nat) (hx0 : x < dN d 0) : sM l D k yX2_available cX2_available 2 (some .int) 5 109 [.ref (z 0), .int (nI x)] (hKX (fun HH => dk D k z hf d HH) g) (some (.int (avail d x))) := by
  refine sM_of (by decide) (Nat.le_of_ble_eq_true rfl) ?_
  intro p e s m below meth c ls C hK ⟨hdk, hX⟩ hl
  have hS : va_S (G0 g) s.heap s.heap [] := va_S.rf
  have hAN : ∀ q, G0 g q → g 0 ≤ q := fun _ h => h
  have hN : NW s := hX.nw
  obtain ⟨hx, hb, hr, hml, hown, hts, hlk⟩ := id C
  have hl : lv_has ls 2 [(0, .ref (z 0)), (1, .int (nI x))] := hl
  have hF : va_P D clA [(z 0, .inr (2, [.ref (z 1), .ref (z 3), .ref (z 6), .ref (z 9), .int (d 3)])), (z 1, .inr (3, [.ref (z 2), .int (d 2)])), (z 2, .inl (k 0, 16, .inl hf)), (z 3, .inr (4, [.ref (z 4), .int 12])), (z 4, .inr (12, [.int (nI (z 12)), .ref (z 5), .int (nI (dN d 0))])), (z 6, .inr (4, [.ref (z 7), .int 24])), (z 7, .inr (12, [.int (nI (z 13)), .ref (z 8), .int (nI (dN d 1))]))] s.heap := hdk.1
  have hd := hz.1
  have hh := hz.2.1
  have h10 := hz.2.2
  obtain ⟨h10, h10b, h11, h11b, -⟩ := h10
  have hd0 := hd.1.1.2
  have hd1 := hd.1.2.1.2
  refine lv_aload_n hx hb dX2_available_0 rfl (lv_at hl 0 rfl) ?_
  refine va_get hx hb hts in_X2 hown hK hF 0 rfl rfl 1 (by decide) (hts _ q198) (fun _ h => h) rfl dX2_available_1 ?_
  refine lv_iload_n hx hb dX2_available_4 rfl (lv_at hl 1 rfl) ?_
  refine r_after (va_runV (As := [.int (nI x)]) (rest := []) (g := F0 m 5 ls [.int (nI x), .ref (z 3)]) C.fix (c_bookGet l D k g (z 3) 12 (z 4) (z 5) (nI (z 12)) (dN d 0) (z 10) x (z (16 + x)) _ (by omega) (by omega) (by omega) (rfs_at (by omega))) (cwV 1 hts (lw_V q347 q278 q279 q73 q280) rfl rfl rfl (by decide +kernel) ⟨Nat.le_of_ble_eq_true rfl, Nat.le_of_ble_eq_true rfl⟩) (preV mv2_hKX hK (va_recv hK hF (ci := 4) (q0 := 3) rfl rfl) (fun U hU hW => (hKX_at hX hS hAN (va_cons (hF 3 _ rfl) (va_cons (hF 4 _ rfl) (va_cons ((hdk.2.1 (by omega)) 0 _ rfl) va_nil))) hU hW))) rfl rfl hl.1 rfl (lv_room (Nat.le_of_ble_eq_true rfl)) dX2_available_5 ⟨(by first | exact Nat.le_of_ble_eq_true rfl | omega | (dsimp only [Rm]; omega)), (by first | exact Nat.le_of_ble_eq_true rfl | omega | (dsimp only [Rm]; omega))⟩) ?_
  refine va_castY hx hb hown (hts _ q361) (cast_self (hK.1 8 _ rfl)) (va_recv hK (hdk.2.2.2.1 x (by omega)) (ci := 8) (q0 := 0) rfl rfl) dX2_available_8 ?_
  refine r_after (va_runV (As := []) (rest := []) (g := F0 m 11 ls [.ref (z (16 + x))]) C.fix (c_max l D k (z (16 + x)) (cf d x 10) (cf d x 0) (cf d x 1) (cf d x 2) (cf d x 3) (cf d x 4) (cf d x 5) (cf d x 6) (cf d x 9) (cf d x 7) (cf d x 8) []) (cwV 0 hts (lw_V q362 q363 q364 q97 q365) rfl rfl rfl (by decide +kernel) ⟨Nat.le_of_ble_eq_true rfl, Nat.le_of_ble_eq_true rfl⟩) (preRV hK (va_recv hK (hdk.2.2.2.1 x (by omega)) (ci := 8) (q0 := 0) rfl rfl) (va_cons ((hdk.2.2.2.1 x (by omega)) 0 _ rfl) va_nil)) rfl rfl hl.1 rfl (lv_room (Nat.le_of_ble_eq_true rfl)) dX2_available_11 ⟨(by first | exact Nat.le_of_ble_eq_true rfl | omega | (dsimp only [Rm]; omega)), (by first | exact Nat.le_of_ble_eq_true rfl | omega | (dsimp only [Rm]; omega))⟩) ?_
  refine lv_aload_n hx hb dX2_available_14 rfl (lv_at hl 0 rfl) ?_
  refine lv_iload_n hx hb dX2_available_15 rfl (lv_at hl 1 rfl) ?_
  refine r_after (va_runV (As := [.int (nI x)]) (rest := [.int ((cf d x 0) + (cf d x 0) * (cf d x 1) / 100)]) (g := F0 m 16 ls [.int (nI x), .ref (z 0), .int ((cf d x 0) + (cf d x 0) * (cf d x 1) / 100)]) C.fix (c_drawn l D k g z hf d hz (nI x)) (cwV 1 hts (lw_V q366 q343 q344 q71 q345) rfl rfl rfl (by decide +kernel) ⟨Nat.le_of_ble_eq_true rfl, Nat.le_of_ble_eq_true rfl⟩) (preV mv2_hKX hK (va_recv hK hF (ci := 2) (q0 := 0) rfl rfl) (fun U hU hW => (hKX_at hX hS hAN hdk hU hW))) rfl rfl hl.1 rfl (lv_room (Nat.le_of_ble_eq_true rfl)) dX2_available_16 ⟨(by first | exact Nat.le_of_ble_eq_true rfl | omega | (dsimp only [Rm]; omega)), (by first | exact Nat.le_of_ble_eq_true rfl | omega | (dsimp only [Rm]; omega))⟩) ?_
  refine lv_isub hx hb dX2_available_19 ?_
  refine lv_aload_n hx hb dX2_available_20 rfl (lv_at hl 0 rfl) ?_
  refine lv_iload_n hx hb dX2_available_21 rfl (lv_at hl 1 rfl) ?_
  refine r_after (va_runV (As := [.int (nI x)]) (rest := [.int (((cf d x 0) + (cf d x 0) * (cf d x 1) / 100) - (drawn d (nI x)))]) (g := F0 m 22 ls [.int (nI x), .ref (z 0), .int (((cf d x 0) + (cf d x 0) * (cf d x 1) / 100) - (drawn d (nI x)))]) C.fix (c_transferred l D k g z hf d hz (nI x)) (cwV 1 hts (lw_V q367 q368 q369 q71 q370) rfl rfl rfl (by decide +kernel) ⟨Nat.le_of_ble_eq_true rfl, Nat.le_of_ble_eq_true rfl⟩) (preV mv2_hKX hK (va_recv hK hF (ci := 2) (q0 := 0) rfl rfl) (fun U hU hW => (hKX_at hX hS hAN hdk hU hW))) rfl rfl hl.1 rfl (lv_room (Nat.le_of_ble_eq_true rfl)) dX2_available_22 ⟨(by first | exact Nat.le_of_ble_eq_true rfl | omega | (dsimp only [Rm]; omega)), (by first | exact Nat.le_of_ble_eq_true rfl | omega | (dsimp only [Rm]; omega))⟩) ?_
  refine lv_isub hx hb dX2_available_25 ?_
  exact r_iret C rfl dX2_available_26
set_option maxHeartbeats 4000000 in
theorem c_hasPres (l : Launch) (D : va_G) (k : Nat → ClassId) (g : Nat → Nat) (z : Nat → Nat) (hf d : Nat → Int32) (hz : dkN g z hf d) (x : Int32) : sM l D k yX2_hasPresentation cX2_hasPresentation 3 (some .boolean) 4 85 [.ref (z 0), .int x] (hKX (fun HH => dk D k z hf d HH) g) (some (.int (bI (others d x)))) := by
  refine sM_of (by decide) (Nat.le_of_ble_eq_true rfl) ?_
  intro p e s m below meth c ls C hK ⟨hdk, hX⟩ hl
  have hS : va_S (G0 g) s.heap s.heap [] := va_S.rf
  have hAN : ∀ q, G0 g q → g 0 ≤ q := fun _ h => h
  have hN : NW s := hX.nw
  obtain ⟨hx, hb, hr, hml, hown, hts, hlk⟩ := id C
  have hl : lv_has ls 3 [(0, .ref (z 0)), (1, .int x)] := hl
  have hF : va_P D clA [(z 0, .inr (2, [.ref (z 1), .ref (z 3), .ref (z 6), .ref (z 9), .int (d 3)])), (z 1, .inr (3, [.ref (z 2), .int (d 2)])), (z 2, .inl (k 0, 16, .inl hf)), (z 3, .inr (4, [.ref (z 4), .int 12])), (z 4, .inr (12, [.int (nI (z 12)), .ref (z 5), .int (nI (dN d 0))])), (z 6, .inr (4, [.ref (z 7), .int 24])), (z 7, .inr (12, [.int (nI (z 13)), .ref (z 8), .int (nI (dN d 1))]))] s.heap := hdk.1
  have hd := hz.1
  have hh := hz.2.1
  have h10 := hz.2.2
  obtain ⟨h10, h10b, h11, h11b, -⟩ := h10
  have hd0 := hd.1.1.2
  have hd1 := hd.1.2.1.2
  refine lv_iconst (v := 0) hx hb dX2_hasPresentation_0 rfl ?_
  refine lv_istore_n (lv' := [(2, .int 0), (0, .ref (z 0)), (1, .int x)]) hx hb dX2_hasPresentation_1 rfl hl (by decide) rfl (fun ls hl => ?_)
  have loop_2 : ∀ (n : Nat) (j : Nat), (j ≤ dN d 1) → (∀ a, a < j → ¬ stands d a x) → (dN d 1 + 1 ≤ j + n) → ∀ (ls : Array Slot), lv_has ls 3 [(0, .ref (z 0)), (1, .int x), (2, .int (nI j))] → W p l e (Rm 4 85 0 0) s m ([.ref (z 0), .int x] : List Value).toArray below meth c s.heap [] 0 0 (MQ below (rQ (some (.int (bI (others d x))))) ([.ref (z 0), .int x] : List Value).toArray s 0 0 (fun _ => False)) (F0 m 2 ls []) := by
    intro n
    induction n with
    | zero =>
      intro j hj hno hn
      exact absurd hn (by omega)
    | succ n ih_2 =>
      intro j hj hno hn ls hl
      refine lv_iload_n hx hb dX2_hasPresentation_2 rfl (lv_at hl 2 rfl) ?_
      refine lv_aload_n hx hb dX2_hasPresentation_3 rfl (lv_at hl 0 rfl) ?_
      refine va_get hx hb hts in_X2 hown hK hF 0 rfl rfl 2 (by decide) (hts _ q201) (fun _ h => h) rfl dX2_hasPresentation_4 ?_
      refine r_after (va_runV (As := []) (rest := [.int (nI j)]) (g := F0 m 7 ls [.ref (z 6), .int (nI j)]) C.fix (c_bookSize l D k g (z 6) (z 7) (z 8) (nI (z 13)) 24 (nI (dN d 1))) (cwV 0 hts (lw_V q346 q252 q253 q73 q254) rfl rfl rfl (by decide +kernel) ⟨Nat.le_of_ble_eq_true rfl, Nat.le_of_ble_eq_true rfl⟩) (preV mv2_hKX hK (va_recv hK hF (ci := 4) (q0 := 5) rfl rfl) (fun U hU hW => (hKX_at hX hS hAN (va_cons (hF 5 _ rfl) (va_cons (hF 6 _ rfl) va_nil)) hU hW))) rfl rfl hl.1 rfl (lv_room (Nat.le_of_ble_eq_true rfl)) dX2_hasPresentation_7 ⟨(by first | exact Nat.le_of_ble_eq_true rfl | omega | (dsimp only [Rm]; omega)), (by first | exact Nat.le_of_ble_eq_true rfl | omega | (dsimp only [Rm]; omega))⟩) ?_
      refine lv_icmp_ge (tgt := 57) hx hb dX2_hasPresentation_10 (by decide) (fun c_10 => ?_) (fun c_10 => ?_)
      · have g_10 := nI_le' c_10 (by omega) (by omega)
        refine lv_iconst (v := 0) hx hb dX2_hasPresentation_57 rfl ?_
        exact r_zret C (bI_f (fun ⟨a, h1, h2⟩ => hno a (by omega) h2)) dX2_hasPresentation_58
      · have g_10 := nI_nle' c_10 (by omega) (by omega)
        refine lv_aload_n hx hb dX2_hasPresentation_13 rfl (lv_at hl 0 rfl) ?_
        refine va_get hx hb hts in_X2 hown hK hF 0 rfl rfl 2 (by decide) (hts _ q201) (fun _ h => h) rfl dX2_hasPresentation_14 ?_
        refine lv_iload_n hx hb dX2_hasPresentation_17 rfl (lv_at hl 2 rfl) ?_
        refine r_after (va_runV (As := [.int (nI j)]) (rest := []) (g := F0 m 18 ls [.int (nI j), .ref (z 6)]) C.fix (c_bookGet l D k g (z 6) 24 (z 7) (z 8) (nI (z 13)) (dN d 1) (z 11) j (z (32 + j)) _ (by omega) (by omega) (by omega) (rfs_at (by omega))) (cwV 1 hts (lw_V q347 q278 q279 q73 q280) rfl rfl rfl (by decide +kernel) ⟨Nat.le_of_ble_eq_true rfl, Nat.le_of_ble_eq_true rfl⟩) (preV mv2_hKX hK (va_recv hK hF (ci := 4) (q0 := 5) rfl rfl) (fun U hU hW => (hKX_at hX hS hAN (va_cons (hF 5 _ rfl) (va_cons (hF 6 _ rfl) (va_cons ((hdk.2.2.1 (by omega)) 0 _ rfl) va_nil))) hU hW))) rfl rfl hl.1 rfl (lv_room (Nat.le_of_ble_eq_true rfl)) dX2_hasPresentation_18 ⟨(by first | exact Nat.le_of_ble_eq_true rfl | omega | (dsimp only [Rm]; omega)), (by first | exact Nat.le_of_ble_eq_true rfl | omega | (dsimp only [Rm]; omega))⟩) ?_
        refine va_castY hx hb hown (hts _ q348) (cast_self (hK.1 10 _ rfl)) (va_recv hK (hdk.2.2.2.2 j (by omega)) (ci := 10) (q0 := 0) rfl rfl) dX2_hasPresentation_21 ?_
        refine va_getN hx hb hts in_X12 hown hK (hdk.2.2.2.2 j (by omega)) 0 rfl rfl 0 (by decide) ((hN _ q1544 rfl).use rfl) (fun _ h => h) rfl dX2_hasPresentation_24 ?_
        refine lv_iload_n hx hb dX2_hasPresentation_27 rfl (lv_at hl 1 rfl) ?_
        refine lv_icmp_ne (tgt := 51) hx hb dX2_hasPresentation_28 (by decide) (fun c_28 => ?_) (fun c_28 => ?_)
        · refine lv_iinc (v := nI (j + 1)) (lv' := [(2, .int (nI (j + 1))), (0, .ref (z 0)), (1, .int x)]) hx hb dX2_hasPresentation_51 hl (k := 2) rfl (nI_1 j) (by decide) rfl (fun ls hl => ?_)
          refine lv_goto (tgt := 2) hx hb dX2_hasPresentation_54 (by decide) ?_
          exact ih_2 (j + 1) (by omega) (lt_s hno (by first | exact (fun h => c_28 h.1) | exact (fun h => h.2 c_46))) (by omega) ls (lv_sub hl [1, 2, 0] rfl)
        · refine lv_aload_n hx hb dX2_hasPresentation_31 rfl (lv_at hl 0 rfl) ?_
          refine va_get hx hb hts in_X2 hown hK hF 0 rfl rfl 2 (by decide) (hts _ q201) (fun _ h => h) rfl dX2_hasPresentation_32 ?_
          refine lv_iload_n hx hb dX2_hasPresentation_35 rfl (lv_at hl 2 rfl) ?_
          refine r_after (va_runV (As := [.int (nI j)]) (rest := []) (g := F0 m 36 ls [.int (nI j), .ref (z 6)]) C.fix (c_bookGet l D k g (z 6) 24 (z 7) (z 8) (nI (z 13)) (dN d 1) (z 11) j (z (32 + j)) _ (by omega) (by omega) (by omega) (rfs_at (by omega))) (cwV 1 hts (lw_V q347 q278 q279 q73 q280) rfl rfl rfl (by decide +kernel) ⟨Nat.le_of_ble_eq_true rfl, Nat.le_of_ble_eq_true rfl⟩) (preV mv2_hKX hK (va_recv hK hF (ci := 4) (q0 := 5) rfl rfl) (fun U hU hW => (hKX_at hX hS hAN (va_cons (hF 5 _ rfl) (va_cons (hF 6 _ rfl) (va_cons ((hdk.2.2.1 (by omega)) 0 _ rfl) va_nil))) hU hW))) rfl rfl hl.1 rfl (lv_room (Nat.le_of_ble_eq_true rfl)) dX2_hasPresentation_36 ⟨(by first | exact Nat.le_of_ble_eq_true rfl | omega | (dsimp only [Rm]; omega)), (by first | exact Nat.le_of_ble_eq_true rfl | omega | (dsimp only [Rm]; omega))⟩) ?_
          refine va_castY hx hb hown (hts _ q348) (cast_self (hK.1 10 _ rfl)) (va_recv hK (hdk.2.2.2.2 j (by omega)) (ci := 10) (q0 := 0) rfl rfl) dX2_hasPresentation_39 ?_
          refine va_getN hx hb hts in_X12 hown hK (hdk.2.2.2.2 j (by omega)) 0 rfl rfl 4 (by decide) ((hN _ q1555 rfl).use rfl) (fun _ h => h) rfl dX2_hasPresentation_42 ?_
          refine lv_iconst (v := 3) hx hb dX2_hasPresentation_45 rfl ?_
          refine lv_icmp_eq (tgt := 51) hx hb dX2_hasPresentation_46 (by decide) (fun c_46 => ?_) (fun c_46 => ?_)
          · refine lv_iinc (v := nI (j + 1)) (lv' := [(2, .int (nI (j + 1))), (0, .ref (z 0)), (1, .int x)]) hx hb dX2_hasPresentation_51 hl (k := 2) rfl (nI_1 j) (by decide) rfl (fun ls hl => ?_)
            refine lv_goto (tgt := 2) hx hb dX2_hasPresentation_54 (by decide) ?_
            exact ih_2 (j + 1) (by omega) (lt_s hno (by first | exact (fun h => c_28 h.1) | exact (fun h => h.2 c_46))) (by omega) ls (lv_sub hl [1, 2, 0] rfl)
          · refine lv_iconst (v := 1) hx hb dX2_hasPresentation_49 rfl ?_
            exact r_zret C (bI_t ⟨j, by omega, c_28, c_46⟩) dX2_hasPresentation_50
  exact loop_2 (dN d 1 + 1) 0 (Nat.zero_le _) (fun a h => absurd h (by omega)) (by omega) ls (lv_sub hl [1, 2, 0] rfl)
set_option maxHeartbeats 4000000 in
theorem c_lastDay (l : Launch) (D : va_G) (k : Nat → ClassId) (g : Nat → Nat) (z : Nat → Nat) (hf d : Nat → Int32) (hz : dkN g z hf d) (x y : Nat) (hx0 : x < dN d 0) (hy0 : y ≤ 10000) : gM l D k yX2_lastDay cX2_lastDay 4 (some .int) 7 142 4 8 [.ref (z 0), .int (nI x), .int (nI y)] (hKX (fun HH => dk D k z hf d HH) g) (some (.int (lastD d x y))) := by
  refine gM_of (by decide) (Nat.le_of_ble_eq_true rfl) ?_
  intro p e s m below meth c ls C hK ⟨hdk, hX⟩ hS hl
  have hP : va_P D clA [] s.heap := va_nil
  have hD : va_D (fun q => s.heap.size ≤ q) [] := va_D_nod.mpr ⟨List.nodup_nil, fun q h => by cases h⟩
  have hA : ∀ q, s.heap.size ≤ q → s.heap.size ≤ q := fun _ h => h
  have hAN : ∀ q, s.heap.size ≤ q → g 0 ≤ q := fun q h => Nat.le_trans hX.le h
  have hN : NW s := hX.nw
  obtain ⟨hx, hb, hr, hml, hown, hts, hlk⟩ := id C
  have hl : lv_has ls 4 [(0, .ref (z 0)), (1, .int (nI x)), (2, .int (nI y))] := hl
  have hF : va_P D clA [(z 0, .inr (2, [.ref (z 1), .ref (z 3), .ref (z 6), .ref (z 9), .int (d 3)])), (z 1, .inr (3, [.ref (z 2), .int (d 2)])), (z 2, .inl (k 0, 16, .inl hf)), (z 3, .inr (4, [.ref (z 4), .int 12])), (z 4, .inr (12, [.int (nI (z 12)), .ref (z 5), .int (nI (dN d 0))])), (z 6, .inr (4, [.ref (z 7), .int 24])), (z 7, .inr (12, [.int (nI (z 13)), .ref (z 8), .int (nI (dN d 1))]))] s.heap := hdk.1
  have hd := hz.1
  have hh := hz.2.1
  have h10 := hz.2.2
  obtain ⟨h10, h10b, h11, h11b, -⟩ := h10
  have hd0 := hd.1.1.2
  have hd1 := hd.1.2.1.2
  obtain ⟨hq3, hq5, hq6⟩ := hd.2.2.1 x hx0
  refine lv_aload_n hx hb dX2_lastDay_0 rfl (lv_at hl 0 rfl) ?_
  refine va_get hx hb hts in_X2 hown hK (frzF hF hS) 0 rfl rfl 1 (by decide) (hts _ q198) (fun _ h => h) rfl dX2_lastDay_1 ?_
  refine lv_iload_n hx hb dX2_lastDay_4 rfl (lv_at hl 1 rfl) ?_
  refine r_after (va_runV (As := [.int (nI x)]) (rest := []) (g := F0 m 5 ls [.int (nI x), .ref (z 3)]) C.fix (c_bookGet l D k g (z 3) 12 (z 4) (z 5) (nI (z 12)) (dN d 0) (z 10) x (z (16 + x)) _ (by omega) (by omega) (by omega) (rfs_at (by omega))) (cwV 1 hts (lw_V q347 q278 q279 q73 q280) rfl rfl rfl (by decide +kernel) ⟨Nat.le_of_ble_eq_true rfl, Nat.le_of_ble_eq_true rfl⟩) (preV mv2_hKX hK (va_recv hK (frzF hF hS) (ci := 4) (q0 := 3) rfl rfl) (fun U hU hW => (hKX_at hX hS hAN (va_cons ((frzF hF hS) 3 _ rfl) (va_cons ((frzF hF hS) 4 _ rfl) (va_cons ((frzF (hdk.2.1 (by omega)) hS) 0 _ rfl) va_nil))) hU hW))) rfl rfl hl.1 rfl (lv_room (Nat.le_of_ble_eq_true rfl)) dX2_lastDay_5 ⟨(by first | exact Nat.le_of_ble_eq_true rfl | omega | (dsimp only [Rm]; omega)), (by first | exact Nat.le_of_ble_eq_true rfl | omega | (dsimp only [Rm]; omega))⟩) ?_
  refine va_castY hx hb hown (hts _ q361) (cast_self (hK.1 8 _ rfl)) (va_recv hK (frzF (hdk.2.2.2.1 x (by omega)) hS) (ci := 8) (q0 := 0) rfl rfl) dX2_lastDay_8 ?_
  refine lv_astore_n (lv' := [(3, .ref (z (16 + x))), (0, .ref (z 0)), (1, .int (nI x)), (2, .int (nI y))]) hx hb dX2_lastDay_11 rfl hl (by decide) rfl (fun ls hl => ?_)
  refine lv_aload_n hx hb dX2_lastDay_12 rfl (lv_at hl 1 rfl) ?_
  refine va_get hx hb hts in_X2 hown hK (frzF hF hS) 0 rfl rfl 0 (by decide) (hts _ q196) (fun _ h => h) rfl dX2_lastDay_13 ?_
  refine lv_aload_n hx hb dX2_lastDay_16 rfl (lv_at hl 0 rfl) ?_
  refine va_getN hx hb hts in_X10 hown hK (frzF (hdk.2.2.2.1 x (by omega)) hS) 0 rfl rfl 4 (by decide) ((hN _ q970 rfl).use rfl) (fun _ h => h) rfl dX2_lastDay_17 ?_
  refine w_topi (y := nI (dN d (22 + 11 * x + 3))) hq3.1 ?_
  have := hq3.2
  refine g_after (va_runV (As := [.int (nI (dN d (22 + 11 * x + 3)))]) (rest := []) (g := F0 m 20 ls [.int (nI (dN d (22 + 11 * x + 3))), .ref (z 1)]) C.fix (c_extended l D k g (z 1) (z 2) hf d hd hh (dN d (22 + 11 * x + 3)) (by omega)) (cwV 1 hts (lw_V q1478 q1194 q1195 q72 q1196) rfl rfl rfl (by decide +kernel) ⟨Nat.le_of_ble_eq_true rfl, Nat.le_of_ble_eq_true rfl⟩) (preV mv2_hKX hK (va_recv hK (frzF hF hS) (ci := 3) (q0 := 1) rfl rfl) (fun U hU hW => (hKX_at hX hS hAN (va_P.sub (frzF hF hS) [1, 2] rfl) hU hW))) rfl rfl hl.1 rfl (lv_room (Nat.le_of_ble_eq_true rfl)) dX2_lastDay_20 ⟨(by first | exact Nat.le_of_ble_eq_true rfl | omega | (dsimp only [Rm]; omega)), (by first | exact Nat.le_of_ble_eq_true rfl | omega | (dsimp only [Rm]; omega))⟩) hS (fun H hS hsz hk => ?_)
  have hP : va_P D clA [] H := hP.kept (fun i q hi => hk q.1 ((hP i q hi).lt))
  have hD : va_D (fun q => s.heap.size ≤ q) [] := hD
  refine lv_aload_n hx hb dX2_lastDay_23 rfl (lv_at hl 1 rfl) ?_
  refine va_get hx hb hts in_X2 hown hK (frzF hF hS) 0 rfl rfl 0 (by decide) (hts _ q196) (fun _ h => h) rfl dX2_lastDay_24 ?_
  refine lv_iload_n hx hb dX2_lastDay_27 rfl (lv_at hl 3 rfl) ?_
  refine lv_aload_n hx hb dX2_lastDay_28 rfl (lv_at hl 0 rfl) ?_
  refine va_getN hx hb hts in_X10 hown hK (frzF (hdk.2.2.2.1 x (by omega)) hS) 0 rfl rfl 6 (by decide) ((hN _ q975 rfl).use rfl) (fun _ h => h) rfl dX2_lastDay_29 ?_
  refine w_topi (y := nI (dN d (22 + 11 * x + 5))) hq5.1 ?_
  have := hq5.2
  refine lv_iadd hx hb dX2_lastDay_32 ?_
  refine w_topi (y := nI (y + (dN d (22 + 11 * x + 5)))) (nI_add y (dN d (22 + 11 * x + 5))) ?_
  refine g_after (va_runV (As := [.int (nI (y + (dN d (22 + 11 * x + 5))))]) (rest := [.int (nI (ext d (dN d (22 + 11 * x + 3))))]) (g := F0 m 33 ls [.int (nI (y + (dN d (22 + 11 * x + 5)))), .ref (z 1), .int (nI (ext d (dN d (22 + 11 * x + 3))))]) C.fix (c_extended l D k g (z 1) (z 2) hf d hd hh (y + (dN d (22 + 11 * x + 5))) (by omega)) (cwV 1 hts (lw_V q1478 q1194 q1195 q72 q1196) rfl rfl rfl (by decide +kernel) ⟨Nat.le_of_ble_eq_true rfl, Nat.le_of_ble_eq_true rfl⟩) (preV mv2_hKX hK (va_recv hK (frzF hF hS) (ci := 3) (q0 := 1) rfl rfl) (fun U hU hW => (hKX_at hX hS hAN (va_P.sub (frzF hF hS) [1, 2] rfl) hU hW))) rfl rfl hl.1 rfl (lv_room (Nat.le_of_ble_eq_true rfl)) dX2_lastDay_33 ⟨(by first | exact Nat.le_of_ble_eq_true rfl | omega | (dsimp only [Rm]; omega)), (by first | exact Nat.le_of_ble_eq_true rfl | omega | (dsimp only [Rm]; omega))⟩) hS (fun H hS hsz hk => ?_)
  have hP : va_P D clA [] H := hP.kept (fun i q hi => hk q.1 ((hP i q hi).lt))
  have hD : va_D (fun q => s.heap.size ≤ q) [] := hD
  refine va_mmin hx hb (hml.trans hl.1.symm) hown (hts _ q1479) (hts _ q578) (hts _ q87) (hts _ q579) (Nat.le_of_ble_eq_true rfl) (Nat.le_of_ble_eq_true rfl) (by first | exact Nat.le_of_ble_eq_true rfl | omega | (dsimp only [Rm]; omega)) (by first | exact Nat.le_of_ble_eq_true rfl | omega | (dsimp only [Rm]; omega)) dX2_lastDay_36 ?_
  refine w_topi (y := mn (nI (ext d (dN d (22 + 11 * x + 3)))) (nI (ext d (y + (dN d (22 + 11 * x + 5)))))) (mn_if _ _) ?_
  exact g_iret C rfl hS (by first | exact Nat.le_of_ble_eq_true rfl | omega | (dsimp only [Rm]; omega)) (by first | exact Nat.le_of_ble_eq_true rfl | omega | (dsimp only [Rm]; omega)) dX2_lastDay_39
theorem fl_or (a b c p q r t : Int32) : ((((a ||| b) ||| c) ||| (p ||| q)) ||| r) ||| t = ((((((0 ||| a) ||| b) ||| c) ||| p) ||| q) ||| r) ||| t := by
  rw [Int32.zero_or, Int32.or_assoc (a ||| b ||| c) p q]
set_option maxHeartbeats 4000000 in
theorem c_check (l : Launch) (D : va_G) (k : Nat → ClassId) (g : Nat → Nat) (z : Nat → Nat) (hf d : Nat → Int32) (hz : dkN g z hf d) (x y : Nat) (am dc ins : Int32) (hx0 : x < dN d 0) (hy0 : y ≤ 10000) : gM l D k yX2_check cX2_check 8 (some .int) 8 165 4 8 [.ref (z 0), .int (nI x), .int (nI y), .int am, .int dc, .int ins] (hKX (fun HH => dk D k z hf d HH) g) (some (.int (faults d x y am dc ins))) := by
  refine gM_of (by decide) (Nat.le_of_ble_eq_true rfl) ?_
  intro p e s m below meth c ls C hK ⟨hdk, hX⟩ hS hl
  have hP : va_P D clA [] s.heap := va_nil
  have hD : va_D (fun q => s.heap.size ≤ q) [] := va_D_nod.mpr ⟨List.nodup_nil, fun q h => by cases h⟩
  have hA : ∀ q, s.heap.size ≤ q → s.heap.size ≤ q := fun _ h => h
  have hAN : ∀ q, s.heap.size ≤ q → g 0 ≤ q := fun q h => Nat.le_trans hX.le h
  have hN : NW s := hX.nw
  obtain ⟨hx, hb, hr, hml, hown, hts, hlk⟩ := id C
  have hl : lv_has ls 8 [(0, .ref (z 0)), (1, .int (nI x)), (2, .int (nI y)), (3, .int am), (4, .int dc), (5, .int ins)] := hl
  have hF : va_P D clA [(z 0, .inr (2, [.ref (z 1), .ref (z 3), .ref (z 6), .ref (z 9), .int (d 3)])), (z 1, .inr (3, [.ref (z 2), .int (d 2)])), (z 2, .inl (k 0, 16, .inl hf)), (z 3, .inr (4, [.ref (z 4), .int 12])), (z 4, .inr (12, [.int (nI (z 12)), .ref (z 5), .int (nI (dN d 0))])), (z 6, .inr (4, [.ref (z 7), .int 24])), (z 7, .inr (12, [.int (nI (z 13)), .ref (z 8), .int (nI (dN d 1))]))] s.heap := hdk.1
  have hd := hz.1
  have hh := hz.2.1
  have h10 := hz.2.2
  obtain ⟨h10, h10b, h11, h11b, -⟩ := h10
  have hd0 := hd.1.1.2
  have hd1 := hd.1.2.1.2
  refine lv_aload_n hx hb dX2_check_0 rfl (lv_at hl 0 rfl) ?_
  refine va_get hx hb hts in_X2 hown hK (frzF hF hS) 0 rfl rfl 1 (by decide) (hts _ q198) (fun _ h => h) rfl dX2_check_1 ?_
  refine lv_iload_n hx hb dX2_check_4 rfl (lv_at hl 1 rfl) ?_
  refine r_after (va_runV (As := [.int (nI x)]) (rest := []) (g := F0 m 5 ls [.int (nI x), .ref (z 3)]) C.fix (c_bookGet l D k g (z 3) 12 (z 4) (z 5) (nI (z 12)) (dN d 0) (z 10) x (z (16 + x)) _ (by omega) (by omega) (by omega) (rfs_at (by omega))) (cwV 1 hts (lw_V q347 q278 q279 q73 q280) rfl rfl rfl (by decide +kernel) ⟨Nat.le_of_ble_eq_true rfl, Nat.le_of_ble_eq_true rfl⟩) (preV mv2_hKX hK (va_recv hK (frzF hF hS) (ci := 4) (q0 := 3) rfl rfl) (fun U hU hW => (hKX_at hX hS hAN (va_cons ((frzF hF hS) 3 _ rfl) (va_cons ((frzF hF hS) 4 _ rfl) (va_cons ((frzF (hdk.2.1 (by omega)) hS) 0 _ rfl) va_nil))) hU hW))) rfl rfl hl.1 rfl (lv_room (Nat.le_of_ble_eq_true rfl)) dX2_check_5 ⟨(by first | exact Nat.le_of_ble_eq_true rfl | omega | (dsimp only [Rm]; omega)), (by first | exact Nat.le_of_ble_eq_true rfl | omega | (dsimp only [Rm]; omega))⟩) ?_
  refine va_castY hx hb hown (hts _ q361) (cast_self (hK.1 8 _ rfl)) (va_recv hK (frzF (hdk.2.2.2.1 x (by omega)) hS) (ci := 8) (q0 := 0) rfl rfl) dX2_check_8 ?_
  refine lv_astore (lv' := [(6, .ref (z (16 + x))), (0, .ref (z 0)), (1, .int (nI x)), (2, .int (nI y)), (3, .int am), (4, .int dc), (5, .int ins)]) hx hb dX2_check_11 hl (by decide) rfl (fun ls hl => ?_)
  refine lv_iload_n hx hb dX2_check_13 rfl (lv_at hl 3 rfl) ?_
  refine lv_aload hx hb dX2_check_14 (lv_at hl 0 rfl) ?_
  refine va_getN hx hb hts in_X10 hown hK (frzF (hdk.2.2.2.1 x (by omega)) hS) 0 rfl rfl 5 (by decide) ((hN _ q973 rfl).use rfl) (fun _ h => h) rfl dX2_check_16 ?_
  have J_27 : ∀ (z0 : Int32), (z0 = bI (cf d x 4 < nI y)) → ∀ (ls : Array Slot), lv_has ls 8 [(6, .ref (z (16 + x))), (0, .ref (z 0)), (1, .int (nI x)), (2, .int (nI y)), (3, .int am), (4, .int dc), (5, .int ins)] → W p l e (Rm 8 165 4 8) s m ([.ref (z 0), .int (nI x), .int (nI y), .int am, .int dc, .int ins] : List Value).toArray below meth c s.heap [] (0 + 0) (0 + 0) (MQ below (gQ (some (.int (faults d x y am dc ins)))) ([.ref (z 0), .int (nI x), .int (nI y), .int am, .int dc, .int ins] : List Value).toArray s 4 8 (fun _ => False)) (F0 m 27 ls [.int z0]) := by
    intro z0 h_z0 ls hl
    refine w_topi (y := bI (cf d x 4 < nI y)) h_z0 ?_
    refine lv_iconst (v := 0) hx hb dX2_check_27 rfl ?_
    refine r_after (va_runS (As := [.int (bI (cf d x 4 < nI y)), .int 0]) (rest := []) (g := F0 m 28 ls [.int 0, .int (bI (cf d x 4 < nI y))]) C.fix (c_bit l D k (cf d x 4 < nI y) 0) (va_cwS 2 hts (lw_S q1471 q1472 q71 q1473) rfl rfl rfl (by decide +kernel) ⟨Nat.le_of_ble_eq_true rfl, Nat.le_of_ble_eq_true rfl⟩) (preR hK trivial) rfl rfl hl.1 rfl (lv_room (Nat.le_of_ble_eq_true rfl)) dX2_check_28 ⟨(by first | exact Nat.le_of_ble_eq_true rfl | omega | (dsimp only [Rm]; omega)), (by first | exact Nat.le_of_ble_eq_true rfl | omega | (dsimp only [Rm]; omega))⟩) ?_
    refine w_topi (y := pick (cf d x 4 < nI y) 1) (congrArg (pick _) (by decide)) ?_
    refine lv_aload_n hx hb dX2_check_31 rfl (lv_at hl 1 rfl) ?_
    refine va_get hx hb hts in_X2 hown hK (frzF hF hS) 0 rfl rfl 4 (by decide) (hts _ q205) (fun _ h => h) rfl dX2_check_32 ?_
    refine lv_aload_n hx hb dX2_check_35 rfl (lv_at hl 1 rfl) ?_
    refine lv_iload_n hx hb dX2_check_36 rfl (lv_at hl 2 rfl) ?_
    refine lv_iload_n hx hb dX2_check_37 rfl (lv_at hl 3 rfl) ?_
    refine g_after (va_runV (As := [.int (nI x), .int (nI y)]) (rest := [.int (d 3), .int (pick (cf d x 4 < nI y) 1)]) (g := F0 m 38 ls [.int (nI y), .int (nI x), .ref (z 0), .int (d 3), .int (pick (cf d x 4 < nI y) 1)]) C.fix (c_lastDay l D k g z hf d hz x y (by omega) (by omega)) (cwV 2 hts (lw_V q1474 q1475 q1476 q71 q1477) rfl rfl rfl (by decide +kernel) ⟨Nat.le_of_ble_eq_true rfl, Nat.le_of_ble_eq_true rfl⟩) (preV mv2_hKX hK (va_recv hK (frzF hF hS) (ci := 2) (q0 := 0) rfl rfl) (fun U hU hW => (hKX_at hX hS hAN (dk_frF hdk hS) hU hW))) rfl rfl hl.1 rfl (lv_room (Nat.le_of_ble_eq_true rfl)) dX2_check_38 ⟨(by first | exact Nat.le_of_ble_eq_true rfl | omega | (dsimp only [Rm]; omega)), (by first | exact Nat.le_of_ble_eq_true rfl | omega | (dsimp only [Rm]; omega))⟩) hS (fun H hS hsz hk => ?_)
    have hP : va_P D clA [] H := hP.kept (fun i q hi => hk q.1 ((hP i q hi).lt))
    have hD : va_D (fun q => s.heap.size ≤ q) [] := hD
    have J_49 : ∀ (z1 : Int32), (z1 = bI (lastD d x y < d 3)) → ∀ (ls : Array Slot), lv_has ls 8 [(6, .ref (z (16 + x))), (0, .ref (z 0)), (1, .int (nI x)), (2, .int (nI y)), (3, .int am), (4, .int dc), (5, .int ins)] → W p l e (Rm 8 165 4 8) s m ([.ref (z 0), .int (nI x), .int (nI y), .int am, .int dc, .int ins] : List Value).toArray below meth c H [] (0 + 0 + 0 + 4) (0 + 0 + 0 + 8) (MQ below (gQ (some (.int (faults d x y am dc ins)))) ([.ref (z 0), .int (nI x), .int (nI y), .int am, .int dc, .int ins] : List Value).toArray s 4 8 (fun _ => False)) (F0 m 49 ls [.int z1, .int (pick (cf d x 4 < nI y) 1)]) := by
      intro z1 h_z1 ls hl
      refine w_topi (y := bI (lastD d x y < d 3)) h_z1 ?_
      refine lv_iconst (v := 1) hx hb dX2_check_49 rfl ?_
      refine r_after (va_runS (As := [.int (bI (lastD d x y < d 3)), .int 1]) (rest := [.int (pick (cf d x 4 < nI y) 1)]) (g := F0 m 50 ls [.int 1, .int (bI (lastD d x y < d 3)), .int (pick (cf d x 4 < nI y) 1)]) C.fix (c_bit l D k (lastD d x y < d 3) 1) (va_cwS 2 hts (lw_S q1471 q1472 q71 q1473) rfl rfl rfl (by decide +kernel) ⟨Nat.le_of_ble_eq_true rfl, Nat.le_of_ble_eq_true rfl⟩) (preR hK trivial) rfl rfl hl.1 rfl (lv_room (Nat.le_of_ble_eq_true rfl)) dX2_check_50 ⟨(by first | exact Nat.le_of_ble_eq_true rfl | omega | (dsimp only [Rm]; omega)), (by first | exact Nat.le_of_ble_eq_true rfl | omega | (dsimp only [Rm]; omega))⟩) ?_
      refine w_topi (y := pick (lastD d x y < d 3) 2) (congrArg (pick _) (by decide)) ?_
      refine lv_ior hx hb dX2_check_53 ?_
      refine lv_iload_n hx hb dX2_check_54 rfl (lv_at hl 4 rfl) ?_
      refine lv_aload_n hx hb dX2_check_55 rfl (lv_at hl 1 rfl) ?_
      refine lv_iload_n hx hb dX2_check_56 rfl (lv_at hl 2 rfl) ?_
      refine r_after (va_runV (As := [.int (nI x)]) (rest := [.int am, .int ((pick (cf d x 4 < nI y) 1) ||| (pick (lastD d x y < d 3) 2))]) (g := F0 m 57 ls [.int (nI x), .ref (z 0), .int am, .int ((pick (cf d x 4 < nI y) 1) ||| (pick (lastD d x y < d 3) 2))]) C.fix (c_available l D k g z hf d hz x (by omega)) (cwV 1 hts (lw_V q1480 q358 q359 q71 q360) rfl rfl rfl (by decide +kernel) ⟨Nat.le_of_ble_eq_true rfl, Nat.le_of_ble_eq_true rfl⟩) (preV mv2_hKX hK (va_recv hK (frzF hF hS) (ci := 2) (q0 := 0) rfl rfl) (fun U hU hW => (hKX_at hX hS hAN (dk_frF hdk hS) hU hW))) rfl rfl hl.1 rfl (lv_room (Nat.le_of_ble_eq_true rfl)) dX2_check_57 ⟨(by first | exact Nat.le_of_ble_eq_true rfl | omega | (dsimp only [Rm]; omega)), (by first | exact Nat.le_of_ble_eq_true rfl | omega | (dsimp only [Rm]; omega))⟩) ?_
      have J_68 : ∀ (z2 : Int32), (z2 = bI (avail d x < am)) → ∀ (ls : Array Slot), lv_has ls 8 [(6, .ref (z (16 + x))), (0, .ref (z 0)), (1, .int (nI x)), (2, .int (nI y)), (3, .int am), (4, .int dc), (5, .int ins)] → W p l e (Rm 8 165 4 8) s m ([.ref (z 0), .int (nI x), .int (nI y), .int am, .int dc, .int ins] : List Value).toArray below meth c H [] (0 + 0 + 0 + 4 + 0 + 0) (0 + 0 + 0 + 8 + 0 + 0) (MQ below (gQ (some (.int (faults d x y am dc ins)))) ([.ref (z 0), .int (nI x), .int (nI y), .int am, .int dc, .int ins] : List Value).toArray s 4 8 (fun _ => False)) (F0 m 68 ls [.int z2, .int ((pick (cf d x 4 < nI y) 1) ||| (pick (lastD d x y < d 3) 2))]) := by
        intro z2 h_z2 ls hl
        refine w_topi (y := bI (avail d x < am)) h_z2 ?_
        refine lv_iconst (v := 2) hx hb dX2_check_68 rfl ?_
        refine r_after (va_runS (As := [.int (bI (avail d x < am)), .int 2]) (rest := [.int ((pick (cf d x 4 < nI y) 1) ||| (pick (lastD d x y < d 3) 2))]) (g := F0 m 69 ls [.int 2, .int (bI (avail d x < am)), .int ((pick (cf d x 4 < nI y) 1) ||| (pick (lastD d x y < d 3) 2))]) C.fix (c_bit l D k (avail d x < am) 2) (va_cwS 2 hts (lw_S q1471 q1472 q71 q1473) rfl rfl rfl (by decide +kernel) ⟨Nat.le_of_ble_eq_true rfl, Nat.le_of_ble_eq_true rfl⟩) (preR hK trivial) rfl rfl hl.1 rfl (lv_room (Nat.le_of_ble_eq_true rfl)) dX2_check_69 ⟨(by first | exact Nat.le_of_ble_eq_true rfl | omega | (dsimp only [Rm]; omega)), (by first | exact Nat.le_of_ble_eq_true rfl | omega | (dsimp only [Rm]; omega))⟩) ?_
        refine w_topi (y := pick (avail d x < am) 4) (congrArg (pick _) (by decide)) ?_
        refine lv_ior hx hb dX2_check_72 ?_
        refine lv_istore (lv' := [(7, .int (((pick (cf d x 4 < nI y) 1) ||| (pick (lastD d x y < d 3) 2)) ||| (pick (avail d x < am) 4))), (6, .ref (z (16 + x))), (0, .ref (z 0)), (1, .int (nI x)), (2, .int (nI y)), (3, .int am), (4, .int dc), (5, .int ins)]) hx hb dX2_check_73 hl (by decide) rfl (fun ls hl => ?_)
        refine lv_iload hx hb dX2_check_75 (lv_at hl 0 rfl) ?_
        refine lv_aload hx hb dX2_check_77 (lv_at hl 1 rfl) ?_
        refine va_getN hx hb hts in_X10 hown hK (frzF (hdk.2.2.2.1 x (by omega)) hS) 0 rfl rfl 9 (by decide) ((hN _ q981 rfl).use rfl) (fun _ h => h) rfl dX2_check_79 ?_
        have J_107 : ∀ (z3 : Int32), (z3 = bI (cf d x 7 = 0 ∧ (am < least d x ∨ others d (nI x)))) → ∀ (ls : Array Slot), lv_has ls 8 [(7, .int (((pick (cf d x 4 < nI y) 1) ||| (pick (lastD d x y < d 3) 2)) ||| (pick (avail d x < am) 4))), (6, .ref (z (16 + x))), (0, .ref (z 0)), (1, .int (nI x)), (2, .int (nI y)), (3, .int am), (4, .int dc), (5, .int ins)] → W p l e (Rm 8 165 4 8) s m ([.ref (z 0), .int (nI x), .int (nI y), .int am, .int dc, .int ins] : List Value).toArray below meth c H [] (0 + 0 + 0 + 4 + 0 + 0 + 0) (0 + 0 + 0 + 8 + 0 + 0 + 0) (MQ below (gQ (some (.int (faults d x y am dc ins)))) ([.ref (z 0), .int (nI x), .int (nI y), .int am, .int dc, .int ins] : List Value).toArray s 4 8 (fun _ => False)) (F0 m 107 ls [.int z3, .int (((pick (cf d x 4 < nI y) 1) ||| (pick (lastD d x y < d 3) 2)) ||| (pick (avail d x < am) 4))]) := by
          intro z3 h_z3 ls hl
          refine w_topi (y := bI (cf d x 7 = 0 ∧ (am < least d x ∨ others d (nI x)))) h_z3 ?_
          refine lv_iconst (v := 3) hx hb dX2_check_107 rfl ?_
          refine r_after (va_runS (As := [.int (bI (cf d x 7 = 0 ∧ (am < least d x ∨ others d (nI x)))), .int 3]) (rest := [.int (((pick (cf d x 4 < nI y) 1) ||| (pick (lastD d x y < d 3) 2)) ||| (pick (avail d x < am) 4))]) (g := F0 m 108 ls [.int 3, .int (bI (cf d x 7 = 0 ∧ (am < least d x ∨ others d (nI x)))), .int (((pick (cf d x 4 < nI y) 1) ||| (pick (lastD d x y < d 3) 2)) ||| (pick (avail d x < am) 4))]) C.fix (c_bit l D k (cf d x 7 = 0 ∧ (am < least d x ∨ others d (nI x))) 3) (va_cwS 2 hts (lw_S q1471 q1472 q71 q1473) rfl rfl rfl (by decide +kernel) ⟨Nat.le_of_ble_eq_true rfl, Nat.le_of_ble_eq_true rfl⟩) (preR hK trivial) rfl rfl hl.1 rfl (lv_room (Nat.le_of_ble_eq_true rfl)) dX2_check_108 ⟨(by first | exact Nat.le_of_ble_eq_true rfl | omega | (dsimp only [Rm]; omega)), (by first | exact Nat.le_of_ble_eq_true rfl | omega | (dsimp only [Rm]; omega))⟩) ?_
          refine w_topi (y := pick (cf d x 7 = 0 ∧ (am < least d x ∨ others d (nI x))) 8) (congrArg (pick _) (by decide)) ?_
          refine lv_aload hx hb dX2_check_111 (lv_at hl 1 rfl) ?_
          refine va_getN hx hb hts in_X10 hown hK (frzF (hdk.2.2.2.1 x (by omega)) hS) 0 rfl rfl 8 (by decide) ((hN _ q979 rfl).use rfl) (fun _ h => h) rfl dX2_check_113 ?_
          refine lv_iload hx hb dX2_check_116 (lv_at hl 6 rfl) ?_
          refine lv_iconst (v := (-1)) hx hb dX2_check_118 rfl ?_
          refine lv_ixor hx hb dX2_check_119 ?_
          refine lv_iand hx hb dX2_check_120 ?_
          have J_129 : ∀ (z4 : Int32), (z4 = bI (¬ cf d x 9 &&& (dc ^^^ (-1)) = 0)) → ∀ (ls : Array Slot), lv_has ls 8 [(7, .int (((pick (cf d x 4 < nI y) 1) ||| (pick (lastD d x y < d 3) 2)) ||| (pick (avail d x < am) 4))), (6, .ref (z (16 + x))), (0, .ref (z 0)), (1, .int (nI x)), (2, .int (nI y)), (3, .int am), (4, .int dc), (5, .int ins)] → W p l e (Rm 8 165 4 8) s m ([.ref (z 0), .int (nI x), .int (nI y), .int am, .int dc, .int ins] : List Value).toArray below meth c H [] (0 + 0 + 0 + 4 + 0 + 0 + 0 + 0) (0 + 0 + 0 + 8 + 0 + 0 + 0 + 0) (MQ below (gQ (some (.int (faults d x y am dc ins)))) ([.ref (z 0), .int (nI x), .int (nI y), .int am, .int dc, .int ins] : List Value).toArray s 4 8 (fun _ => False)) (F0 m 129 ls [.int z4, .int (pick (cf d x 7 = 0 ∧ (am < least d x ∨ others d (nI x))) 8), .int (((pick (cf d x 4 < nI y) 1) ||| (pick (lastD d x y < d 3) 2)) ||| (pick (avail d x < am) 4))]) := by
            intro z4 h_z4 ls hl
            refine w_topi (y := bI (¬ cf d x 9 &&& (dc ^^^ (-1)) = 0)) h_z4 ?_
            refine lv_iconst (v := 4) hx hb dX2_check_129 rfl ?_
            refine r_after (va_runS (As := [.int (bI (¬ cf d x 9 &&& (dc ^^^ (-1)) = 0)), .int 4]) (rest := [.int (pick (cf d x 7 = 0 ∧ (am < least d x ∨ others d (nI x))) 8), .int (((pick (cf d x 4 < nI y) 1) ||| (pick (lastD d x y < d 3) 2)) ||| (pick (avail d x < am) 4))]) (g := F0 m 130 ls [.int 4, .int (bI (¬ cf d x 9 &&& (dc ^^^ (-1)) = 0)), .int (pick (cf d x 7 = 0 ∧ (am < least d x ∨ others d (nI x))) 8), .int (((pick (cf d x 4 < nI y) 1) ||| (pick (lastD d x y < d 3) 2)) ||| (pick (avail d x < am) 4))]) C.fix (c_bit l D k (¬ cf d x 9 &&& (dc ^^^ (-1)) = 0) 4) (va_cwS 2 hts (lw_S q1471 q1472 q71 q1473) rfl rfl rfl (by decide +kernel) ⟨Nat.le_of_ble_eq_true rfl, Nat.le_of_ble_eq_true rfl⟩) (preR hK trivial) rfl rfl hl.1 rfl (lv_room (Nat.le_of_ble_eq_true rfl)) dX2_check_130 ⟨(by first | exact Nat.le_of_ble_eq_true rfl | omega | (dsimp only [Rm]; omega)), (by first | exact Nat.le_of_ble_eq_true rfl | omega | (dsimp only [Rm]; omega))⟩) ?_
            refine w_topi (y := pick (¬ cf d x 9 &&& (dc ^^^ (-1)) = 0) 16) (congrArg (pick _) (by decide)) ?_
            refine lv_ior hx hb dX2_check_133 ?_
            refine lv_ior hx hb dX2_check_134 ?_
            refine lv_istore (lv' := [(7, .int ((((pick (cf d x 4 < nI y) 1) ||| (pick (lastD d x y < d 3) 2)) ||| (pick (avail d x < am) 4)) ||| ((pick (cf d x 7 = 0 ∧ (am < least d x ∨ others d (nI x))) 8) ||| (pick (¬ cf d x 9 &&& (dc ^^^ (-1)) = 0) 16)))), (6, .ref (z (16 + x))), (0, .ref (z 0)), (1, .int (nI x)), (2, .int (nI y)), (3, .int am), (4, .int dc), (5, .int ins)]) hx hb dX2_check_135 hl (by decide) rfl (fun ls hl => ?_)
            refine lv_iload hx hb dX2_check_137 (lv_at hl 0 rfl) ?_
            refine lv_aload hx hb dX2_check_139 (lv_at hl 1 rfl) ?_
            refine va_getN hx hb hts in_X10 hown hK (frzF (hdk.2.2.2.1 x (by omega)) hS) 0 rfl rfl 8 (by decide) ((hN _ q979 rfl).use rfl) (fun _ h => h) rfl dX2_check_141 ?_
            refine lv_bipush (v := 7) hx hb dX2_check_144 rfl ?_
            refine lv_ishr hx hb dX2_check_146 ?_
            refine lv_iconst (v := 1) hx hb dX2_check_147 rfl ?_
            refine lv_iand hx hb dX2_check_148 ?_
            refine lv_iconst (v := 1) hx hb dX2_check_149 rfl ?_
            have J_169 : ∀ (z5 : Int32), (z5 = bI ((cf d x 9 >>> ((7 : Int32) &&& 31)) &&& 1 = 1 ∧ ins < am + am / 10)) → ∀ (ls : Array Slot), lv_has ls 8 [(7, .int ((((pick (cf d x 4 < nI y) 1) ||| (pick (lastD d x y < d 3) 2)) ||| (pick (avail d x < am) 4)) ||| ((pick (cf d x 7 = 0 ∧ (am < least d x ∨ others d (nI x))) 8) ||| (pick (¬ cf d x 9 &&& (dc ^^^ (-1)) = 0) 16)))), (6, .ref (z (16 + x))), (0, .ref (z 0)), (1, .int (nI x)), (2, .int (nI y)), (3, .int am), (4, .int dc), (5, .int ins)] → W p l e (Rm 8 165 4 8) s m ([.ref (z 0), .int (nI x), .int (nI y), .int am, .int dc, .int ins] : List Value).toArray below meth c H [] (0 + 0 + 0 + 4 + 0 + 0 + 0 + 0 + 0) (0 + 0 + 0 + 8 + 0 + 0 + 0 + 0 + 0) (MQ below (gQ (some (.int (faults d x y am dc ins)))) ([.ref (z 0), .int (nI x), .int (nI y), .int am, .int dc, .int ins] : List Value).toArray s 4 8 (fun _ => False)) (F0 m 169 ls [.int z5, .int ((((pick (cf d x 4 < nI y) 1) ||| (pick (lastD d x y < d 3) 2)) ||| (pick (avail d x < am) 4)) ||| ((pick (cf d x 7 = 0 ∧ (am < least d x ∨ others d (nI x))) 8) ||| (pick (¬ cf d x 9 &&& (dc ^^^ (-1)) = 0) 16)))]) := by
              intro z5 h_z5 ls hl
              refine w_topi (y := bI ((cf d x 9 >>> ((7 : Int32) &&& 31)) &&& 1 = 1 ∧ ins < am + am / 10)) h_z5 ?_
              refine lv_iconst (v := 5) hx hb dX2_check_169 rfl ?_
              refine r_after (va_runS (As := [.int (bI ((cf d x 9 >>> ((7 : Int32) &&& 31)) &&& 1 = 1 ∧ ins < am + am / 10)), .int 5]) (rest := [.int ((((pick (cf d x 4 < nI y) 1) ||| (pick (lastD d x y < d 3) 2)) ||| (pick (avail d x < am) 4)) ||| ((pick (cf d x 7 = 0 ∧ (am < least d x ∨ others d (nI x))) 8) ||| (pick (¬ cf d x 9 &&& (dc ^^^ (-1)) = 0) 16)))]) (g := F0 m 170 ls [.int 5, .int (bI ((cf d x 9 >>> ((7 : Int32) &&& 31)) &&& 1 = 1 ∧ ins < am + am / 10)), .int ((((pick (cf d x 4 < nI y) 1) ||| (pick (lastD d x y < d 3) 2)) ||| (pick (avail d x < am) 4)) ||| ((pick (cf d x 7 = 0 ∧ (am < least d x ∨ others d (nI x))) 8) ||| (pick (¬ cf d x 9 &&& (dc ^^^ (-1)) = 0) 16)))]) C.fix (c_bit l D k ((cf d x 9 >>> ((7 : Int32) &&& 31)) &&& 1 = 1 ∧ ins < am + am / 10) 5) (va_cwS 2 hts (lw_S q1471 q1472 q71 q1473) rfl rfl rfl (by decide +kernel) ⟨Nat.le_of_ble_eq_true rfl, Nat.le_of_ble_eq_true rfl⟩) (preR hK trivial) rfl rfl hl.1 rfl (lv_room (Nat.le_of_ble_eq_true rfl)) dX2_check_170 ⟨(by first | exact Nat.le_of_ble_eq_true rfl | omega | (dsimp only [Rm]; omega)), (by first | exact Nat.le_of_ble_eq_true rfl | omega | (dsimp only [Rm]; omega))⟩) ?_
              refine w_topi (y := pick ((cf d x 9 >>> ((7 : Int32) &&& 31)) &&& 1 = 1 ∧ ins < am + am / 10) 32) (congrArg (pick _) (by decide)) ?_
              refine lv_ior hx hb dX2_check_173 ?_
              refine lv_iload_n hx hb dX2_check_174 rfl (lv_at hl 4 rfl) ?_
              refine lv_aload_n hx hb dX2_check_175 rfl (lv_at hl 2 rfl) ?_
              refine va_get hx hb hts in_X2 hown hK (frzF hF hS) 0 rfl rfl 4 (by decide) (hts _ q205) (fun _ h => h) rfl dX2_check_176 ?_
              have J_187 : ∀ (z6 : Int32), (z6 = bI (d 3 < nI y)) → ∀ (ls : Array Slot), lv_has ls 8 [(7, .int ((((pick (cf d x 4 < nI y) 1) ||| (pick (lastD d x y < d 3) 2)) ||| (pick (avail d x < am) 4)) ||| ((pick (cf d x 7 = 0 ∧ (am < least d x ∨ others d (nI x))) 8) ||| (pick (¬ cf d x 9 &&& (dc ^^^ (-1)) = 0) 16)))), (6, .ref (z (16 + x))), (0, .ref (z 0)), (1, .int (nI x)), (2, .int (nI y)), (3, .int am), (4, .int dc), (5, .int ins)] → W p l e (Rm 8 165 4 8) s m ([.ref (z 0), .int (nI x), .int (nI y), .int am, .int dc, .int ins] : List Value).toArray below meth c H [] (0 + 0 + 0 + 4 + 0 + 0 + 0 + 0 + 0 + 0) (0 + 0 + 0 + 8 + 0 + 0 + 0 + 0 + 0 + 0) (MQ below (gQ (some (.int (faults d x y am dc ins)))) ([.ref (z 0), .int (nI x), .int (nI y), .int am, .int dc, .int ins] : List Value).toArray s 4 8 (fun _ => False)) (F0 m 187 ls [.int z6, .int (((((pick (cf d x 4 < nI y) 1) ||| (pick (lastD d x y < d 3) 2)) ||| (pick (avail d x < am) 4)) ||| ((pick (cf d x 7 = 0 ∧ (am < least d x ∨ others d (nI x))) 8) ||| (pick (¬ cf d x 9 &&& (dc ^^^ (-1)) = 0) 16))) ||| (pick ((cf d x 9 >>> ((7 : Int32) &&& 31)) &&& 1 = 1 ∧ ins < am + am / 10) 32))]) := by
                intro z6 h_z6 ls hl
                refine w_topi (y := bI (d 3 < nI y)) h_z6 ?_
                refine lv_bipush (v := 6) hx hb dX2_check_187 rfl ?_
                refine r_after (va_runS (As := [.int (bI (d 3 < nI y)), .int 6]) (rest := [.int (((((pick (cf d x 4 < nI y) 1) ||| (pick (lastD d x y < d 3) 2)) ||| (pick (avail d x < am) 4)) ||| ((pick (cf d x 7 = 0 ∧ (am < least d x ∨ others d (nI x))) 8) ||| (pick (¬ cf d x 9 &&& (dc ^^^ (-1)) = 0) 16))) ||| (pick ((cf d x 9 >>> ((7 : Int32) &&& 31)) &&& 1 = 1 ∧ ins < am + am / 10) 32))]) (g := F0 m 189 ls [.int 6, .int (bI (d 3 < nI y)), .int (((((pick (cf d x 4 < nI y) 1) ||| (pick (lastD d x y < d 3) 2)) ||| (pick (avail d x < am) 4)) ||| ((pick (cf d x 7 = 0 ∧ (am < least d x ∨ others d (nI x))) 8) ||| (pick (¬ cf d x 9 &&& (dc ^^^ (-1)) = 0) 16))) ||| (pick ((cf d x 9 >>> ((7 : Int32) &&& 31)) &&& 1 = 1 ∧ ins < am + am / 10) 32))]) C.fix (c_bit l D k (d 3 < nI y) 6) (va_cwS 2 hts (lw_S q1471 q1472 q71 q1473) rfl rfl rfl (by decide +kernel) ⟨Nat.le_of_ble_eq_true rfl, Nat.le_of_ble_eq_true rfl⟩) (preR hK trivial) rfl rfl hl.1 rfl (lv_room (Nat.le_of_ble_eq_true rfl)) dX2_check_189 ⟨(by first | exact Nat.le_of_ble_eq_true rfl | omega | (dsimp only [Rm]; omega)), (by first | exact Nat.le_of_ble_eq_true rfl | omega | (dsimp only [Rm]; omega))⟩) ?_
                refine w_topi (y := pick (d 3 < nI y) 64) (congrArg (pick _) (by decide)) ?_
                refine lv_ior hx hb dX2_check_192 ?_
                exact g_iret C (fl_or _ _ _ _ _ _ _) hS (by first | exact Nat.le_of_ble_eq_true rfl | omega | (dsimp only [Rm]; omega)) (by first | exact Nat.le_of_ble_eq_true rfl | omega | (dsimp only [Rm]; omega)) dX2_check_193
              refine lv_icmp_le (tgt := 186) hx hb dX2_check_179 (by decide) (fun c_179 => ?_) (fun c_179 => ?_)
              · refine lv_iconst (v := 0) hx hb dX2_check_186 rfl ?_
                exact J_187 0 (by first | exact bI_f (Int32.not_lt.mpr c_179) | exact bI_t (Int32.not_le.mp c_179)) ls hl
              · refine lv_iconst (v := 1) hx hb dX2_check_182 rfl ?_
                refine lv_goto (tgt := 187) hx hb dX2_check_183 (by decide) ?_
                exact J_187 1 (by first | exact bI_f (Int32.not_lt.mpr c_179) | exact bI_t (Int32.not_le.mp c_179)) ls hl
            refine lv_icmp_ne (tgt := 168) hx hb dX2_check_150 (by decide) (fun c_150 => ?_) (fun c_150 => ?_)
            · refine lv_iconst (v := 0) hx hb dX2_check_168 rfl ?_
              exact J_169 0 (by first | exact bI_f (fun h => c_150 h.1) | exact bI_f (fun h => absurd h.2 (Int32.not_lt.mpr c_161)) | exact bI_t ⟨c_150, Int32.not_le.mp c_161⟩) ls hl
            · refine lv_iload hx hb dX2_check_153 (lv_at hl 7 rfl) ?_
              refine lv_iload_n hx hb dX2_check_155 rfl (lv_at hl 5 rfl) ?_
              refine lv_iload_n hx hb dX2_check_156 rfl (lv_at hl 5 rfl) ?_
              refine lv_bipush (v := 10) hx hb dX2_check_157 rfl ?_
              refine lv_idiv hx hb dX2_check_159 (by decide) ?_
              refine lv_iadd hx hb dX2_check_160 ?_
              refine lv_icmp_ge (tgt := 168) hx hb dX2_check_161 (by decide) (fun c_161 => ?_) (fun c_161 => ?_)
              · refine lv_iconst (v := 0) hx hb dX2_check_168 rfl ?_
                exact J_169 0 (by first | exact bI_f (fun h => c_150 h.1) | exact bI_f (fun h => absurd h.2 (Int32.not_lt.mpr c_161)) | exact bI_t ⟨c_150, Int32.not_le.mp c_161⟩) ls hl
              · refine lv_iconst (v := 1) hx hb dX2_check_164 rfl ?_
                refine lv_goto (tgt := 169) hx hb dX2_check_165 (by decide) ?_
                exact J_169 1 (by first | exact bI_f (fun h => c_150 h.1) | exact bI_f (fun h => absurd h.2 (Int32.not_lt.mpr c_161)) | exact bI_t ⟨c_150, Int32.not_le.mp c_161⟩) ls hl
          refine lv_if_eq (tgt := 128) hx hb dX2_check_121 (by decide) (fun c_121 => ?_) (fun c_121 => ?_)
          · refine lv_iconst (v := 0) hx hb dX2_check_128 rfl ?_
            exact J_129 0 (by first | exact bI_f (fun h => h c_121) | exact bI_t c_121) ls hl
          · refine lv_iconst (v := 1) hx hb dX2_check_124 rfl ?_
            refine lv_goto (tgt := 129) hx hb dX2_check_125 (by decide) ?_
            exact J_129 1 (by first | exact bI_f (fun h => h c_121) | exact bI_t c_121) ls hl
        refine lv_if_ne (tgt := 106) hx hb dX2_check_82 (by decide) (fun c_82 => ?_) (fun c_82 => ?_)
        · refine lv_iconst (v := 0) hx hb dX2_check_106 rfl ?_
          exact J_107 0 (by first | exact bI_f (fun h => c_82 h.1) | exact bI_t ⟨c_82, Or.inl c_91⟩ | exact bI_f (fun h => h.2.elim c_91 b_99) | exact bI_t ⟨c_82, Or.inr b_99⟩) ls hl
        · refine lv_iload_n hx hb dX2_check_85 rfl (lv_at hl 5 rfl) ?_
          refine lv_aload hx hb dX2_check_86 (lv_at hl 1 rfl) ?_
          refine r_after (va_runV (As := []) (rest := [.int am, .int (((pick (cf d x 4 < nI y) 1) ||| (pick (lastD d x y < d 3) 2)) ||| (pick (avail d x < am) 4))]) (g := F0 m 88 ls [.ref (z (16 + x)), .int am, .int (((pick (cf d x 4 < nI y) 1) ||| (pick (lastD d x y < d 3) 2)) ||| (pick (avail d x < am) 4))]) C.fix (c_min l D k (z (16 + x)) (cf d x 10) (cf d x 0) (cf d x 1) (cf d x 2) (cf d x 3) (cf d x 4) (cf d x 5) (cf d x 6) (cf d x 9) (cf d x 7) (cf d x 8) []) (cwV 0 hts (lw_V q1481 q1356 q1357 q97 q1358) rfl rfl rfl (by decide +kernel) ⟨Nat.le_of_ble_eq_true rfl, Nat.le_of_ble_eq_true rfl⟩) (preRV hK (va_recv hK (frzF (hdk.2.2.2.1 x (by omega)) hS) (ci := 8) (q0 := 0) rfl rfl) (va_cons ((frzF (hdk.2.2.2.1 x (by omega)) hS) 0 _ rfl) va_nil)) rfl rfl hl.1 rfl (lv_room (Nat.le_of_ble_eq_true rfl)) dX2_check_88 ⟨(by first | exact Nat.le_of_ble_eq_true rfl | omega | (dsimp only [Rm]; omega)), (by first | exact Nat.le_of_ble_eq_true rfl | omega | (dsimp only [Rm]; omega))⟩) ?_
          refine lv_icmp_lt (tgt := 102) hx hb dX2_check_91 (by decide) (fun c_91 => ?_) (fun c_91 => ?_)
          · refine lv_iconst (v := 1) hx hb dX2_check_102 rfl ?_
            refine lv_goto (tgt := 107) hx hb dX2_check_103 (by decide) ?_
            exact J_107 1 (by first | exact bI_f (fun h => c_82 h.1) | exact bI_t ⟨c_82, Or.inl c_91⟩ | exact bI_f (fun h => h.2.elim c_91 b_99) | exact bI_t ⟨c_82, Or.inr b_99⟩) ls hl
          · refine lv_aload_n hx hb dX2_check_94 rfl (lv_at hl 2 rfl) ?_
            refine lv_iload_n hx hb dX2_check_95 rfl (lv_at hl 3 rfl) ?_
            refine r_after (va_runV (As := [.int (nI x)]) (rest := [.int (((pick (cf d x 4 < nI y) 1) ||| (pick (lastD d x y < d 3) 2)) ||| (pick (avail d x < am) 4))]) (g := F0 m 96 ls [.int (nI x), .ref (z 0), .int (((pick (cf d x 4 < nI y) 1) ||| (pick (lastD d x y < d 3) 2)) ||| (pick (avail d x < am) 4))]) C.fix (c_hasPres l D k g z hf d hz (nI x)) (cwV 1 hts (lw_V q1482 q1484 qs28 q71 q1485) rfl rfl rfl (by decide +kernel) ⟨Nat.le_of_ble_eq_true rfl, Nat.le_of_ble_eq_true rfl⟩) (preV mv2_hKX hK (va_recv hK (frzF hF hS) (ci := 2) (q0 := 0) rfl rfl) (fun U hU hW => (hKX_at hX hS hAN (dk_frF hdk hS) hU hW))) rfl rfl hl.1 rfl (lv_room (Nat.le_of_ble_eq_true rfl)) dX2_check_96 ⟨(by first | exact Nat.le_of_ble_eq_true rfl | omega | (dsimp only [Rm]; omega)), (by first | exact Nat.le_of_ble_eq_true rfl | omega | (dsimp only [Rm]; omega))⟩) ?_
            refine lv_if_eq (tgt := 106) hx hb dX2_check_99 (by decide) (fun c_99 => ?_) (fun c_99 => ?_)
            · have b_99 := bI_0.mp c_99
              refine lv_iconst (v := 0) hx hb dX2_check_106 rfl ?_
              exact J_107 0 (by first | exact bI_f (fun h => c_82 h.1) | exact bI_t ⟨c_82, Or.inl c_91⟩ | exact bI_f (fun h => h.2.elim c_91 b_99) | exact bI_t ⟨c_82, Or.inr b_99⟩) ls hl
            · have b_99 := bI_nz c_99
              refine lv_iconst (v := 1) hx hb dX2_check_102 rfl ?_
              refine lv_goto (tgt := 107) hx hb dX2_check_103 (by decide) ?_
              exact J_107 1 (by first | exact bI_f (fun h => c_82 h.1) | exact bI_t ⟨c_82, Or.inl c_91⟩ | exact bI_f (fun h => h.2.elim c_91 b_99) | exact bI_t ⟨c_82, Or.inr b_99⟩) ls hl
      refine lv_icmp_le (tgt := 67) hx hb dX2_check_60 (by decide) (fun c_60 => ?_) (fun c_60 => ?_)
      · refine lv_iconst (v := 0) hx hb dX2_check_67 rfl ?_
        exact J_68 0 (by first | exact bI_f (Int32.not_lt.mpr c_60) | exact bI_t (Int32.not_le.mp c_60)) ls hl
      · refine lv_iconst (v := 1) hx hb dX2_check_63 rfl ?_
        refine lv_goto (tgt := 68) hx hb dX2_check_64 (by decide) ?_
        exact J_68 1 (by first | exact bI_f (Int32.not_lt.mpr c_60) | exact bI_t (Int32.not_le.mp c_60)) ls hl
    refine lv_icmp_le (tgt := 48) hx hb dX2_check_41 (by decide) (fun c_41 => ?_) (fun c_41 => ?_)
    · refine lv_iconst (v := 0) hx hb dX2_check_48 rfl ?_
      exact J_49 0 (by first | exact bI_f (Int32.not_lt.mpr c_41) | exact bI_t (Int32.not_le.mp c_41)) ls hl
    · refine lv_iconst (v := 1) hx hb dX2_check_44 rfl ?_
      refine lv_goto (tgt := 49) hx hb dX2_check_45 (by decide) ?_
      exact J_49 1 (by first | exact bI_f (Int32.not_lt.mpr c_41) | exact bI_t (Int32.not_le.mp c_41)) ls hl
  refine lv_icmp_le (tgt := 26) hx hb dX2_check_19 (by decide) (fun c_19 => ?_) (fun c_19 => ?_)
  · refine lv_iconst (v := 0) hx hb dX2_check_26 rfl ?_
    exact J_27 0 (by first | exact bI_f (Int32.not_lt.mpr c_19) | exact bI_t (Int32.not_le.mp c_19)) ls hl
  · refine lv_iconst (v := 1) hx hb dX2_check_22 rfl ?_
    refine lv_goto (tgt := 27) hx hb dX2_check_23 (by decide) ?_
    exact J_27 1 (by first | exact bI_f (Int32.not_lt.mpr c_19) | exact bI_t (Int32.not_le.mp c_19)) ls hl
set_option maxHeartbeats 4000000 in
theorem c_deadline (l : Launch) (D : va_G) (k : Nat → ClassId) (g : Nat → Nat) (z : Nat → Nat) (hf d : Nat → Int32) (hz : dkN g z hf d) (q : Nat) (hq : q < dN d 1) : gM l D k yX2_deadline cX2_deadline 2 (some .int) 7 146 6 8 [.ref (z 0), .ref (z (32 + q))] (hKX (fun HH => dk D k z hf d HH) g) (some (.int (nI (dead d q)))) := by
  refine gM_of (by decide) (Nat.le_of_ble_eq_true rfl) ?_
  intro p e s m below meth c ls C hK ⟨hdk, hX⟩ hS hl
  have hP : va_P D clA [] s.heap := va_nil
  have hD : va_D (fun q => s.heap.size ≤ q) [] := va_D_nod.mpr ⟨List.nodup_nil, fun q h => by cases h⟩
  have hA : ∀ q, s.heap.size ≤ q → s.heap.size ≤ q := fun _ h => h
  have hAN : ∀ q, s.heap.size ≤ q → g 0 ≤ q := fun q h => Nat.le_trans hX.le h
  have hN : NW s := hX.nw
  obtain ⟨hx, hb, hr, hml, hown, hts, hlk⟩ := id C
  have hl : lv_has ls 2 [(0, .ref (z 0)), (1, .ref (z (32 + q)))] := hl
  have hF : va_P D clA [(z 0, .inr (2, [.ref (z 1), .ref (z 3), .ref (z 6), .ref (z 9), .int (d 3)])), (z 1, .inr (3, [.ref (z 2), .int (d 2)])), (z 2, .inl (k 0, 16, .inl hf)), (z 3, .inr (4, [.ref (z 4), .int 12])), (z 4, .inr (12, [.int (nI (z 12)), .ref (z 5), .int (nI (dN d 0))])), (z 6, .inr (4, [.ref (z 7), .int 24])), (z 7, .inr (12, [.int (nI (z 13)), .ref (z 8), .int (nI (dN d 1))]))] s.heap := hdk.1
  have hd := hz.1
  have hh := hz.2.1
  have h10 := hz.2.2
  obtain ⟨h10, h10b, h11, h11b, -⟩ := h10
  have hd0 := hd.1.1.2
  have hd1 := hd.1.2.1.2
  obtain ⟨hp0, hp0b, hp1, hp3, hp5⟩ := hd.2.2.2 q hq
  have := hp1.2
  refine lv_aload_n hx hb dX2_deadline_0 rfl (lv_at hl 0 rfl) ?_
  refine va_get hx hb hts in_X2 hown hK (frzF hF hS) 0 rfl rfl 0 (by decide) (hts _ q196) (fun _ h => h) rfl dX2_deadline_1 ?_
  refine lv_aload_n hx hb dX2_deadline_4 rfl (lv_at hl 1 rfl) ?_
  refine va_getN hx hb hts in_X12 hown hK (frzF (hdk.2.2.2.2 q (by omega)) hS) 0 rfl rfl 1 (by decide) ((hN _ q1547 rfl).use rfl) (fun _ h => h) rfl dX2_deadline_5 ?_
  refine w_topi (y := nI (dN d (154 + 6 * q + 1))) hp1.1 ?_
  refine lv_iconst (v := 5) hx hb dX2_deadline_8 rfl ?_
  refine g_after (va_runV (As := [.int (nI (dN d (154 + 6 * q + 1))), .int 5]) (rest := []) (g := F0 m 9 ls [.int 5, .int (nI (dN d (154 + 6 * q + 1))), .ref (z 1)]) C.fix (c_add l D k g (z 1) (z 2) hf d hd hh (dN d (154 + 6 * q + 1)) 5 (by omega) (by omega)) (cwV 2 hts (lw_V q1424 q1285 q1286 q72 q1287) rfl rfl rfl (by decide +kernel) ⟨Nat.le_of_ble_eq_true rfl, Nat.le_of_ble_eq_true rfl⟩) (preV mv2_hKX hK (va_recv hK (frzF hF hS) (ci := 3) (q0 := 1) rfl rfl) (fun U hU hW => (hKX_at hX hS hAN (va_P.sub (frzF hF hS) [1, 2] rfl) hU hW))) rfl rfl hl.1 rfl (lv_room (Nat.le_of_ble_eq_true rfl)) dX2_deadline_9 ⟨(by first | exact Nat.le_of_ble_eq_true rfl | omega | (dsimp only [Rm]; omega)), (by first | exact Nat.le_of_ble_eq_true rfl | omega | (dsimp only [Rm]; omega))⟩) hS (fun H hS hsz hk => ?_)
  have hP : va_P D clA [] H := hP.kept (fun i q hi => hk q.1 ((hP i q hi).lt))
  have hD : va_D (fun q => s.heap.size ≤ q) [] := hD
  exact g_iret C rfl hS (by first | exact Nat.le_of_ble_eq_true rfl | omega | (dsimp only [Rm]; omega)) (by first | exact Nat.le_of_ble_eq_true rfl | omega | (dsimp only [Rm]; omega)) dX2_deadline_12
set_option maxHeartbeats 4000000 in
theorem c_dueFrom (l : Launch) (D : va_G) (k : Nat → ClassId) (g : Nat → Nat) (z : Nat → Nat) (hf d : Nat → Int32) (hz : dkN g z hf d) (q : Nat) (hq : q < dN d 1) : gM l D k yX2_dueFrom cX2_dueFrom 2 (some .int) 7 142 2 4 [.ref (z 0), .ref (z (32 + q))] (hKX (fun HH => dk D k z hf d HH) g) (some (.int (nI (ext d (dN d 3 + dN d (22 + 11 * dN d (154 + 6 * q) + 6)))))) := by
  refine gM_of (by decide) (Nat.le_of_ble_eq_true rfl) ?_
  intro p e s m below meth c ls C hK ⟨hdk, hX⟩ hS hl
  have hP : va_P D clA [] s.heap := va_nil
  have hD : va_D (fun q => s.heap.size ≤ q) [] := va_D_nod.mpr ⟨List.nodup_nil, fun q h => by cases h⟩
  have hA : ∀ q, s.heap.size ≤ q → s.heap.size ≤ q := fun _ h => h
  have hAN : ∀ q, s.heap.size ≤ q → g 0 ≤ q := fun q h => Nat.le_trans hX.le h
  have hN : NW s := hX.nw
  obtain ⟨hx, hb, hr, hml, hown, hts, hlk⟩ := id C
  have hl : lv_has ls 2 [(0, .ref (z 0)), (1, .ref (z (32 + q)))] := hl
  have hF : va_P D clA [(z 0, .inr (2, [.ref (z 1), .ref (z 3), .ref (z 6), .ref (z 9), .int (d 3)])), (z 1, .inr (3, [.ref (z 2), .int (d 2)])), (z 2, .inl (k 0, 16, .inl hf)), (z 3, .inr (4, [.ref (z 4), .int 12])), (z 4, .inr (12, [.int (nI (z 12)), .ref (z 5), .int (nI (dN d 0))])), (z 6, .inr (4, [.ref (z 7), .int 24])), (z 7, .inr (12, [.int (nI (z 13)), .ref (z 8), .int (nI (dN d 1))]))] s.heap := hdk.1
  have hd := hz.1
  have hh := hz.2.1
  have h10 := hz.2.2
  obtain ⟨h10, h10b, h11, h11b, -⟩ := h10
  have hd0 := hd.1.1.2
  have hd1 := hd.1.2.1.2
  obtain ⟨hp0, hp0b, hp1, hp3, hp5⟩ := hd.2.2.2 q hq
  obtain ⟨hq3, hq5, hq6⟩ := hd.2.2.1 _ hp0b
  have := hq6.2
  have hd3 := hd.1.2.2.2.1
  have := hd3.2
  refine lv_aload_n hx hb dX2_dueFrom_0 rfl (lv_at hl 0 rfl) ?_
  refine va_get hx hb hts in_X2 hown hK (frzF hF hS) 0 rfl rfl 0 (by decide) (hts _ q196) (fun _ h => h) rfl dX2_dueFrom_1 ?_
  refine lv_aload_n hx hb dX2_dueFrom_4 rfl (lv_at hl 0 rfl) ?_
  refine va_get hx hb hts in_X2 hown hK (frzF hF hS) 0 rfl rfl 4 (by decide) (hts _ q205) (fun _ h => h) rfl dX2_dueFrom_5 ?_
  refine w_topi (y := nI (dN d 3)) hd3.1 ?_
  refine lv_aload_n hx hb dX2_dueFrom_8 rfl (lv_at hl 0 rfl) ?_
  refine va_get hx hb hts in_X2 hown hK (frzF hF hS) 0 rfl rfl 1 (by decide) (hts _ q198) (fun _ h => h) rfl dX2_dueFrom_9 ?_
  refine lv_aload_n hx hb dX2_dueFrom_12 rfl (lv_at hl 1 rfl) ?_
  refine va_getN hx hb hts in_X12 hown hK (frzF (hdk.2.2.2.2 q (by omega)) hS) 0 rfl rfl 0 (by decide) ((hN _ q1544 rfl).use rfl) (fun _ h => h) rfl dX2_dueFrom_13 ?_
  refine w_topi (y := nI (dN d (154 + 6 * q))) hp0 ?_
  refine r_after (va_runV (As := [.int (nI (dN d (154 + 6 * q)))]) (rest := [.int (nI (dN d 3)), .ref (z 1)]) (g := F0 m 16 ls [.int (nI (dN d (154 + 6 * q))), .ref (z 3), .int (nI (dN d 3)), .ref (z 1)]) C.fix (c_bookGet l D k g (z 3) 12 (z 4) (z 5) (nI (z 12)) (dN d 0) (z 10) (dN d (154 + 6 * q)) (z (16 + (dN d (154 + 6 * q)))) _ (by omega) (by omega) (by omega) (rfs_at (by omega))) (cwV 1 hts (lw_V q347 q278 q279 q73 q280) rfl rfl rfl (by decide +kernel) ⟨Nat.le_of_ble_eq_true rfl, Nat.le_of_ble_eq_true rfl⟩) (preV mv2_hKX hK (va_recv hK (frzF hF hS) (ci := 4) (q0 := 3) rfl rfl) (fun U hU hW => (hKX_at hX hS hAN (va_cons ((frzF hF hS) 3 _ rfl) (va_cons ((frzF hF hS) 4 _ rfl) (va_cons ((frzF (hdk.2.1 (by omega)) hS) 0 _ rfl) va_nil))) hU hW))) rfl rfl hl.1 rfl (lv_room (Nat.le_of_ble_eq_true rfl)) dX2_dueFrom_16 ⟨(by first | exact Nat.le_of_ble_eq_true rfl | omega | (dsimp only [Rm]; omega)), (by first | exact Nat.le_of_ble_eq_true rfl | omega | (dsimp only [Rm]; omega))⟩) ?_
  refine va_castY hx hb hown (hts _ q361) (cast_self (hK.1 8 _ rfl)) (va_recv hK (frzF (hdk.2.2.2.1 (dN d (154 + 6 * q)) (by omega)) hS) (ci := 8) (q0 := 0) rfl rfl) dX2_dueFrom_19 ?_
  refine va_getN hx hb hts in_X10 hown hK (frzF (hdk.2.2.2.1 (dN d (154 + 6 * q)) (by omega)) hS) 0 rfl rfl 7 (by decide) ((hN _ q977 rfl).use rfl) (fun _ h => h) rfl dX2_dueFrom_22 ?_
  refine w_topi (y := nI (dN d (22 + 11 * dN d (154 + 6 * q) + 6))) hq6.1 ?_
  refine lv_iadd hx hb dX2_dueFrom_25 ?_
  refine w_topi (y := nI ((dN d 3) + (dN d (22 + 11 * dN d (154 + 6 * q) + 6)))) (nI_add (dN d 3) (dN d (22 + 11 * dN d (154 + 6 * q) + 6))) ?_
  refine g_after (va_runV (As := [.int (nI ((dN d 3) + (dN d (22 + 11 * dN d (154 + 6 * q) + 6))))]) (rest := []) (g := F0 m 26 ls [.int (nI ((dN d 3) + (dN d (22 + 11 * dN d (154 + 6 * q) + 6)))), .ref (z 1)]) C.fix (c_extended l D k g (z 1) (z 2) hf d hd hh ((dN d 3) + (dN d (22 + 11 * dN d (154 + 6 * q) + 6))) (by omega)) (cwV 1 hts (lw_V q1478 q1194 q1195 q72 q1196) rfl rfl rfl (by decide +kernel) ⟨Nat.le_of_ble_eq_true rfl, Nat.le_of_ble_eq_true rfl⟩) (preV mv2_hKX hK (va_recv hK (frzF hF hS) (ci := 3) (q0 := 1) rfl rfl) (fun U hU hW => (hKX_at hX hS hAN (va_P.sub (frzF hF hS) [1, 2] rfl) hU hW))) rfl rfl hl.1 rfl (lv_room (Nat.le_of_ble_eq_true rfl)) dX2_dueFrom_26 ⟨(by first | exact Nat.le_of_ble_eq_true rfl | omega | (dsimp only [Rm]; omega)), (by first | exact Nat.le_of_ble_eq_true rfl | omega | (dsimp only [Rm]; omega))⟩) hS (fun H hS hsz hk => ?_)
  have hP : va_P D clA [] H := hP.kept (fun i q hi => hk q.1 ((hP i q hi).lt))
  have hD : va_D (fun q => s.heap.size ≤ q) [] := hD
  exact g_iret C rfl hS (by first | exact Nat.le_of_ble_eq_true rfl | omega | (dsimp only [Rm]; omega)) (by first | exact Nat.le_of_ble_eq_true rfl | omega | (dsimp only [Rm]; omega)) dX2_dueFrom_29
