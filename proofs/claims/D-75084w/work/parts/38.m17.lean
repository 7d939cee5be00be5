/-! the reference: fee (printed by gen/m17.py) -/
set_option maxRecDepth 100000
set_option maxHeartbeats 32000000 in
theorem m_fee_no (l : Launch) (D : va_G) (k : Nat → ClassId) (o a1 a8 a9 a10 a15 : Nat) (t bl tl ps er ea eo ud ns ne se : Int32) (wr : va_W) (d dr fb : Nat → Int32) (st : Nat → Int64) (A : Nat → Prop) (hD : va_D A ((o, .inr (0, [.int t, .ref a1, .int bl, .int tl, .int ps, .int er, .int ea, .int eo, .ref a8, .ref a9, .ref a10, .int ud, .int ns, .int ne, .int se, .ref a15])) :: (a8, .inl (k 0, 1798, .inl d)) :: (a9, .inl (k 0, 1798, .inl dr)) :: (a1, .inl (k 0, 900, .inl fb)) :: (a15, .inl (k 2, 1500, .inr (.inl st))) :: wr)) (hd : okD d) (x : Int32) (hno : ¬ hasP d x) : wM l D k yX5_fee cX5_fee 5 (some .int) 6 200 [.ref o, .int x] ((o, .inr (0, [.int t, .ref a1, .int bl, .int tl, .int ps, .int er, .int ea, .int eo, .ref a8, .ref a9, .ref a10, .int ud, .int ns, .int ne, .int se, .ref a15])) :: (a8, .inl (k 0, 1798, .inl d)) :: (a9, .inl (k 0, 1798, .inl dr)) :: (a1, .inl (k 0, 900, .inl fb)) :: (a15, .inl (k 2, 1500, .inr (.inl st))) :: wr) (some (.int 0)) ((o, .inr (0, [.int 1, .ref a1, .int bl, .int tl, .int ps, .int er, .int ea, .int eo, .ref a8, .ref a9, .ref a10, .int ud, .int ns, .int ne, .int se, .ref a15])) :: (a8, .inl (k 0, 1798, .inl d)) :: (a9, .inl (k 0, 1798, .inl dr)) :: (a1, .inl (k 0, 900, .inl fb)) :: (a15, .inl (k 2, 1500, .inr (.inl st))) :: wr) A := by
  refine wM_of (by decide) (Nat.le_of_ble_eq_true rfl) ?_
  intro p e s m below meth c ls C hK hP hS hl
  obtain ⟨hx, hb, hr, hml, hown, hts, hlk⟩ := id C
  have hl : lv_has ls 5 [(0, .ref o), (1, .int x)] := hl
  refine lv_aload_n hx hb dX5_fee_0 rfl (lv_at hl 0 rfl) ?_
  refine lv_iconst (v := 0) hx hb dX5_fee_1 rfl ?_
  refine va_put hx hb hts in_X5 tyX5 tyX5_ok nmX5 hown hK hP (va_D_of hD rfl) hS 0 rfl rfl 0 (by decide) (hts _ q1662) (fun _ h => h) rfl rfl rfl rfl (Nat.le_of_ble_eq_true rfl) dX5_fee_2 (fun H locs hP _ hS => ?_)
  have hP : va_P D clA ((o, .inr (0, [.int 0, .ref a1, .int bl, .int tl, .int ps, .int er, .int ea, .int eo, .ref a8, .ref a9, .ref a10, .int ud, .int ns, .int ne, .int se, .ref a15])) :: (a8, .inl (k 0, 1798, .inl d)) :: (a9, .inl (k 0, 1798, .inl dr)) :: (a1, .inl (k 0, 900, .inl fb)) :: (a15, .inl (k 2, 1500, .inr (.inl st))) :: wr) H := hP
  refine lv_aload_n hx hb dX5_fee_5 rfl (lv_at hl 0 rfl) ?_
  refine lv_iload_n hx hb dX5_fee_6 rfl (lv_at hl 1 rfl) ?_
  refine w_callV (As := [.int x]) (rest := []) C (m_noPresentation l D k o a1 a8 a9 a10 a15 bl tl ps er ea eo ud ns ne se ((a9, .inl (k 0, 1798, .inl dr)) :: (a1, .inl (k 0, 900, .inl fb)) :: (a15, .inl (k 2, 1500, .inr (.inl st))) :: wr) d A (va_D_of hD rfl) hd x) (cwV 1 hts (lw_V q1961 q1963 qs62 q76 q1964) rfl rfl rfl (by decide +kernel) ⟨Nat.le_of_ble_eq_true rfl, Nat.le_of_ble_eq_true rfl⟩) hK (va_recv hK hP (ci := 0) (q0 := 0) rfl rfl) hP hS (fun _ h => h) rfl hl.1 rfl (Nat.le_of_ble_eq_true rfl) dX5_fee_7 ⟨Nat.le_of_ble_eq_true rfl, Nat.le_of_ble_eq_true rfl⟩ (fun H locs hP hS _ _ => ?_)
  have hP : va_P D clA ((o, .inr (0, [.int (pick (¬ hasP d x) 1), .ref a1, .int bl, .int tl, .int ps, .int er, .int ea, .int eo, .ref a8, .ref a9, .ref a10, .int ud, .int ns, .int ne, .int se, .ref a15])) :: (a8, .inl (k 0, 1798, .inl d)) :: (a9, .inl (k 0, 1798, .inl dr)) :: (a1, .inl (k 0, 900, .inl fb)) :: (a15, .inl (k 2, 1500, .inr (.inl st))) :: wr) H := hP
  refine lv_if_eq (tgt := 15) hx hb dX5_fee_10 (by decide) (fun c_10 => ?_) (fun c_10 => ?_)
  · exact absurd hno (bI_0.mp c_10)
  · have b_10 := bI_nz c_10
    refine lv_iconst (v := 0) hx hb dX5_fee_13 rfl ?_
    exact w_iret C rfl (by rw [pick_t b_10] at hP; exact hP) hS dX5_fee_14
set_option maxHeartbeats 32000000 in
theorem m_fee_0 (l : Launch) (D : va_G) (k : Nat → ClassId) (o a1 a8 a9 a10 a15 : Nat) (t bl tl ps er ea eo ud ns ne se : Int32) (wr : va_W) (d dr fb : Nat → Int32) (st : Nat → Int64) (A : Nat → Prop) (hD : va_D A ((o, .inr (0, [.int t, .ref a1, .int bl, .int tl, .int ps, .int er, .int ea, .int eo, .ref a8, .ref a9, .ref a10, .int ud, .int ns, .int ne, .int se, .ref a15])) :: (a8, .inl (k 0, 1798, .inl d)) :: (a9, .inl (k 0, 1798, .inl dr)) :: (a1, .inl (k 0, 900, .inl fb)) :: (a15, .inl (k 2, 1500, .inr (.inl st))) :: wr)) (hd : okD d) (q : Nat) (hq : q < dN d 1) (h4 : d 4 = 0) : wM l D k yX5_fee cX5_fee 5 (some .int) 6 200 [.ref o, .int (nI q)] ((o, .inr (0, [.int t, .ref a1, .int bl, .int tl, .int ps, .int er, .int ea, .int eo, .ref a8, .ref a9, .ref a10, .int ud, .int ns, .int ne, .int se, .ref a15])) :: (a8, .inl (k 0, 1798, .inl d)) :: (a9, .inl (k 0, 1798, .inl dr)) :: (a1, .inl (k 0, 900, .inl fb)) :: (a15, .inl (k 2, 1500, .inr (.inl st))) :: wr) (some (.int (feeV d q))) ((o, .inr (0, [.int 0, .ref a1, .int bl, .int tl, .int ps, .int er, .int ea, .int eo, .ref a8, .ref a9, .ref a10, .int ud, .int ns, .int ne, .int se, .ref a15])) :: (a8, .inl (k 0, 1798, .inl d)) :: (a9, .inl (k 0, 1798, .inl dr)) :: (a1, .inl (k 0, 900, .inl fb)) :: (a15, .inl (k 2, 1500, .inr (.inl st))) :: wr) A := by
  refine wM_of (by decide) (Nat.le_of_ble_eq_true rfl) ?_
  intro p e s m below meth c ls C hK hP hS hl
  obtain ⟨hx, hb, hr, hml, hown, hts, hlk⟩ := id C
  have hl : lv_has ls 5 [(0, .ref o), (1, .int (nI q))] := hl
  obtain ⟨⟨⟨e0, n0⟩, ⟨e1, n1⟩, ⟨e2, n2⟩, ⟨e3, n3⟩, ⟨e5, n5⟩⟩, hhol, hcr, hpr⟩ := id hd
  have hhp : hasP d (nI q) := ⟨nI_pos' (by omega), by rw [e1, show nI (dN d 1) - 1 = nI (dN d 1 - 1) from pk_sub (b := 1) (by omega)]; exact nI_le (by omega) (by omega)⟩
  refine lv_aload_n hx hb dX5_fee_0 rfl (lv_at hl 0 rfl) ?_
  refine lv_iconst (v := 0) hx hb dX5_fee_1 rfl ?_
  refine va_put hx hb hts in_X5 tyX5 tyX5_ok nmX5 hown hK hP (va_D_of hD rfl) hS 0 rfl rfl 0 (by decide) (hts _ q1662) (fun _ h => h) rfl rfl rfl rfl (Nat.le_of_ble_eq_true rfl) dX5_fee_2 (fun H locs hP _ hS => ?_)
  have hP : va_P D clA ((o, .inr (0, [.int 0, .ref a1, .int bl, .int tl, .int ps, .int er, .int ea, .int eo, .ref a8, .ref a9, .ref a10, .int ud, .int ns, .int ne, .int se, .ref a15])) :: (a8, .inl (k 0, 1798, .inl d)) :: (a9, .inl (k 0, 1798, .inl dr)) :: (a1, .inl (k 0, 900, .inl fb)) :: (a15, .inl (k 2, 1500, .inr (.inl st))) :: wr) H := hP
  refine lv_aload_n hx hb dX5_fee_5 rfl (lv_at hl 0 rfl) ?_
  refine lv_iload_n hx hb dX5_fee_6 rfl (lv_at hl 1 rfl) ?_
  refine w_callV (As := [.int (nI q)]) (rest := []) C (m_noPresentation l D k o a1 a8 a9 a10 a15 bl tl ps er ea eo ud ns ne se ((a9, .inl (k 0, 1798, .inl dr)) :: (a1, .inl (k 0, 900, .inl fb)) :: (a15, .inl (k 2, 1500, .inr (.inl st))) :: wr) d A (va_D_of hD rfl) hd (nI q)) (cwV 1 hts (lw_V q1961 q1963 qs62 q76 q1964) rfl rfl rfl (by decide +kernel) ⟨Nat.le_of_ble_eq_true rfl, Nat.le_of_ble_eq_true rfl⟩) hK (va_recv hK hP (ci := 0) (q0 := 0) rfl rfl) hP hS (fun _ h => h) rfl hl.1 rfl (Nat.le_of_ble_eq_true rfl) dX5_fee_7 ⟨Nat.le_of_ble_eq_true rfl, Nat.le_of_ble_eq_true rfl⟩ (fun H locs hP hS _ _ => ?_)
  have hP : va_P D clA ((o, .inr (0, [.int (pick (¬ hasP d (nI q)) 1), .ref a1, .int bl, .int tl, .int ps, .int er, .int ea, .int eo, .ref a8, .ref a9, .ref a10, .int ud, .int ns, .int ne, .int se, .ref a15])) :: (a8, .inl (k 0, 1798, .inl d)) :: (a9, .inl (k 0, 1798, .inl dr)) :: (a1, .inl (k 0, 900, .inl fb)) :: (a15, .inl (k 2, 1500, .inr (.inl st))) :: wr) H := hP
  refine lv_if_eq (tgt := 15) hx hb dX5_fee_10 (by decide) (fun c_10 => ?_) (fun c_10 => ?_)
  · have b_10 := bI_0.mp c_10
    rw [pick_f b_10] at hP
    refine lv_aload_n hx hb dX5_fee_15 rfl (lv_at hl 0 rfl) ?_
    refine va_get hx hb hts in_X5 hown hK hP 0 rfl rfl 8 (by decide) (hts _ q1670) (fun _ h => h) rfl dX5_fee_16 ?_
    refine lv_iconst (v := 4) hx hb dX5_fee_19 rfl ?_
    refine w_iald hx hb hK hP 1 rfl 4 rfl (Nat.le_of_ble_eq_true rfl) (Nat.le_of_ble_eq_true rfl) dX5_fee_20 ?_
    refine lv_if_ne (tgt := 40) hx hb dX5_fee_21 (by decide) (fun c_21 => ?_) (fun c_21 => ?_)
    · exact absurd h4 c_21
    · refine lv_aload_n hx hb dX5_fee_24 rfl (lv_at hl 0 rfl) ?_
      refine va_get hx hb hts in_X5 hown hK hP 0 rfl rfl 8 (by decide) (hts _ q1670) (fun _ h => h) rfl dX5_fee_25 ?_
      refine lv_iload_n hx hb dX5_fee_28 rfl (lv_at hl 1 rfl) ?_
      refine r_callS (As := [.int (nI q)]) (rest := [.ref a8]) C (m_presentationN l D k q) (va_cwS 1 hts (lw_S q1917 q1918 q76 q1919) rfl rfl rfl (by decide +kernel) ⟨Nat.le_of_ble_eq_true rfl, Nat.le_of_ble_eq_true rfl⟩) hK trivial rfl hl.1 rfl (Nat.le_of_ble_eq_true rfl) dX5_fee_29 ⟨Nat.le_of_ble_eq_true rfl, Nat.le_of_ble_eq_true rfl⟩ ?_
      refine lv_iconst (v := 2) hx hb dX5_fee_32 rfl ?_
      refine lv_iadd hx hb dX5_fee_33 ?_
      refine w_topi (y := nI ((154 + 6 * q) + 2)) (nI_add (154 + 6 * q) 2) ?_
      refine w_iald hx hb hK hP 1 rfl ((154 + 6 * q) + 2) rfl (by omega) (Nat.le_of_ble_eq_true rfl) dX5_fee_34 ?_
      refine lv_sipush (v := 1000) hx hb dX5_fee_35 rfl ?_
      refine lv_idiv hx hb dX5_fee_38 (by decide) ?_
      exact w_iret C (if_pos h4).symm hP hS dX5_fee_39
  · exact absurd hhp (bI_nz c_10)
set_option maxHeartbeats 32000000 in
theorem m_fee_c (l : Launch) (D : va_G) (k : Nat → ClassId) (o a1 a8 a9 a10 a15 : Nat) (t bl tl ps er ea eo ud ns ne se : Int32) (wr : va_W) (d dr fb : Nat → Int32) (st : Nat → Int64) (A : Nat → Prop) (hD : va_D A ((o, .inr (0, [.int t, .ref a1, .int bl, .int tl, .int ps, .int er, .int ea, .int eo, .ref a8, .ref a9, .ref a10, .int ud, .int ns, .int ne, .int se, .ref a15])) :: (a8, .inl (k 0, 1798, .inl d)) :: (a9, .inl (k 0, 1798, .inl dr)) :: (a1, .inl (k 0, 900, .inl fb)) :: (a15, .inl (k 2, 1500, .inr (.inl st))) :: wr)) (hd : okD d) (q : Nat) (hq : q < dN d 1) (h4 : ¬ d 4 = 0) (hcode : okC (codes d) 0) : eM l D k yX5_fee cX5_fee 5 (some .int) 6 200 [.ref o, .int (nI q)] ((o, .inr (0, [.int t, .ref a1, .int bl, .int tl, .int ps, .int er, .int ea, .int eo, .ref a8, .ref a9, .ref a10, .int ud, .int ns, .int ne, .int se, .ref a15])) :: (a8, .inl (k 0, 1798, .inl d)) :: (a9, .inl (k 0, 1798, .inl dr)) :: (a1, .inl (k 0, 900, .inl fb)) :: (a15, .inl (k 2, 1500, .inr (.inl st))) :: wr) (some (.int (feeV d q))) (fun st9 : Nat → Int64 => ((o, .inr (0, [.int 0, .ref a1, .int bl, .int tl, .int ps, .int er, .int ea, .int eo, .ref a8, .ref a9, .ref a10, .int ud, .int ns, .int ne, .int se, .ref a15])) :: (a8, .inl (k 0, 1798, .inl d)) :: (a9, .inl (k 0, 1798, .inl dr)) :: (a1, .inl (k 0, 900, .inl fb)) :: (a15, .inl (k 2, 1500, .inr (.inl st9))) :: wr)) A := by
  refine eM_of (by decide) (Nat.le_of_ble_eq_true rfl) ?_
  intro p e s m below meth c ls C hK hP hS hl
  obtain ⟨hx, hb, hr, hml, hown, hts, hlk⟩ := id C
  have hl : lv_has ls 5 [(0, .ref o), (1, .int (nI q))] := hl
  obtain ⟨⟨⟨e0, n0⟩, ⟨e1, n1⟩, ⟨e2, n2⟩, ⟨e3, n3⟩, ⟨e5, n5⟩⟩, hhol, hcr, hpr⟩ := id hd
  have hhp : hasP d (nI q) := ⟨nI_pos' (by omega), by rw [e1, show nI (dN d 1) - 1 = nI (dN d 1 - 1) from pk_sub (b := 1) (by omega)]; exact nI_le (by omega) (by omega)⟩
  refine lv_aload_n hx hb dX5_fee_0 rfl (lv_at hl 0 rfl) ?_
  refine lv_iconst (v := 0) hx hb dX5_fee_1 rfl ?_
  refine va_put hx hb hts in_X5 tyX5 tyX5_ok nmX5 hown hK hP (va_D_of hD rfl) hS 0 rfl rfl 0 (by decide) (hts _ q1662) (fun _ h => h) rfl rfl rfl rfl (Nat.le_of_ble_eq_true rfl) dX5_fee_2 (fun H locs hP _ hS => ?_)
  have hP : va_P D clA ((o, .inr (0, [.int 0, .ref a1, .int bl, .int tl, .int ps, .int er, .int ea, .int eo, .ref a8, .ref a9, .ref a10, .int ud, .int ns, .int ne, .int se, .ref a15])) :: (a8, .inl (k 0, 1798, .inl d)) :: (a9, .inl (k 0, 1798, .inl dr)) :: (a1, .inl (k 0, 900, .inl fb)) :: (a15, .inl (k 2, 1500, .inr (.inl st))) :: wr) H := hP
  refine lv_aload_n hx hb dX5_fee_5 rfl (lv_at hl 0 rfl) ?_
  refine lv_iload_n hx hb dX5_fee_6 rfl (lv_at hl 1 rfl) ?_
  refine w_callV (As := [.int (nI q)]) (rest := []) C (m_noPresentation l D k o a1 a8 a9 a10 a15 bl tl ps er ea eo ud ns ne se ((a9, .inl (k 0, 1798, .inl dr)) :: (a1, .inl (k 0, 900, .inl fb)) :: (a15, .inl (k 2, 1500, .inr (.inl st))) :: wr) d A (va_D_of hD rfl) hd (nI q)) (cwV 1 hts (lw_V q1961 q1963 qs62 q76 q1964) rfl rfl rfl (by decide +kernel) ⟨Nat.le_of_ble_eq_true rfl, Nat.le_of_ble_eq_true rfl⟩) hK (va_recv hK hP (ci := 0) (q0 := 0) rfl rfl) hP hS (fun _ h => h) rfl hl.1 rfl (Nat.le_of_ble_eq_true rfl) dX5_fee_7 ⟨Nat.le_of_ble_eq_true rfl, Nat.le_of_ble_eq_true rfl⟩ (fun H locs hP hS _ _ => ?_)
  have hP : va_P D clA ((o, .inr (0, [.int (pick (¬ hasP d (nI q)) 1), .ref a1, .int bl, .int tl, .int ps, .int er, .int ea, .int eo, .ref a8, .ref a9, .ref a10, .int ud, .int ns, .int ne, .int se, .ref a15])) :: (a8, .inl (k 0, 1798, .inl d)) :: (a9, .inl (k 0, 1798, .inl dr)) :: (a1, .inl (k 0, 900, .inl fb)) :: (a15, .inl (k 2, 1500, .inr (.inl st))) :: wr) H := hP
  refine lv_if_eq (tgt := 15) hx hb dX5_fee_10 (by decide) (fun c_10 => ?_) (fun c_10 => ?_)
  · have b_10 := bI_0.mp c_10
    rw [pick_f b_10] at hP
    refine lv_aload_n hx hb dX5_fee_15 rfl (lv_at hl 0 rfl) ?_
    refine va_get hx hb hts in_X5 hown hK hP 0 rfl rfl 8 (by decide) (hts _ q1670) (fun _ h => h) rfl dX5_fee_16 ?_
    refine lv_iconst (v := 4) hx hb dX5_fee_19 rfl ?_
    refine w_iald hx hb hK hP 1 rfl 4 rfl (Nat.le_of_ble_eq_true rfl) (Nat.le_of_ble_eq_true rfl) dX5_fee_20 ?_
    refine lv_if_ne (tgt := 40) hx hb dX5_fee_21 (by decide) (fun c_21 => ?_) (fun c_21 => ?_)
    · refine lv_iconst (v := 0) hx hb dX5_fee_40 rfl ?_
      refine lv_istore_n (lv' := [(2, .int 0), (0, .ref o), (1, .int (nI q))]) hx hb dX5_fee_41 rfl hl (by decide) rfl (fun ls hl => ?_)
      refine lv_iconst (v := 0) hx hb dX5_fee_42 rfl ?_
      refine lv_istore_n (lv' := [(3, .int 0), (2, .int 0), (0, .ref o), (1, .int (nI q))]) hx hb dX5_fee_43 rfl hl (by decide) rfl (fun ls hl => ?_)
      have loop_44 : ∀ (n : Nat) (j : Nat) (zs : List Int64) (a : Nat → Int64), (j ≤ dN d 5) → (okC ((codes d).drop j) zs.length) → (evC d q ((codes d).drop j) zs = evC d q (codes d) []) → (stkA a zs) → (2 * zs.length ≤ j) → (dN d 5 + 1 ≤ j + n) → ∀ (H : Heap) (locs : List Loc), va_P D clA ((o, .inr (0, [.int 0, .ref a1, .int bl, .int tl, .int ps, .int er, .int ea, .int eo, .ref a8, .ref a9, .ref a10, .int ud, .int ns, .int ne, .int se, .ref a15])) :: (a8, .inl (k 0, 1798, .inl d)) :: (a9, .inl (k 0, 1798, .inl dr)) :: (a1, .inl (k 0, 900, .inl fb)) :: (a15, .inl (k 2, 1500, .inr (.inl a))) :: wr) H → va_S A s.heap H locs → ∀ (ls : Array Slot), lv_has ls 5 [(0, .ref o), (1, .int (nI q)), (2, .int (nI zs.length)), (3, .int (nI j))] → W p l e (Rm 6 200 0 0) s m ([.ref o, .int (nI q)] : List Value).toArray below meth c H locs 0 0 (MQ below (eQ D (some (.int (feeV d q))) (fun st9 : Nat → Int64 => ((o, .inr (0, [.int 0, .ref a1, .int bl, .int tl, .int ps, .int er, .int ea, .int eo, .ref a8, .ref a9, .ref a10, .int ud, .int ns, .int ne, .int se, .ref a15])) :: (a8, .inl (k 0, 1798, .inl d)) :: (a9, .inl (k 0, 1798, .inl dr)) :: (a1, .inl (k 0, 900, .inl fb)) :: (a15, .inl (k 2, 1500, .inr (.inl st9))) :: wr)) A) ([.ref o, .int (nI q)] : List Value).toArray s 0 0 A) (F0 m 44 ls []) := by
        intro n
        induction n with
        | zero =>
          intro j zs a hj hc he ha hz hn
          exact absurd hn (by omega)
        | succ n ih_44 =>
          intro j zs a hj hc he ha hz hn H locs hP hS ls hl
          refine lv_iload_n hx hb dX5_fee_44 rfl (lv_at hl 3 rfl) ?_
          refine lv_aload_n hx hb dX5_fee_45 rfl (lv_at hl 0 rfl) ?_
          refine va_get hx hb hts in_X5 hown hK hP 0 rfl rfl 8 (by decide) (hts _ q1670) (fun _ h => h) rfl dX5_fee_46 ?_
          refine lv_iconst (v := 5) hx hb dX5_fee_49 rfl ?_
          refine w_iald hx hb hK hP 1 rfl 5 rfl (Nat.le_of_ble_eq_true rfl) (Nat.le_of_ble_eq_true rfl) dX5_fee_50 ?_
          refine w_topi (y := nI (dN d 5)) e5 ?_
          refine lv_icmp_ge (tgt := 158) hx hb dX5_fee_51 (by decide) (fun c_51 => ?_) (fun c_51 => ?_)
          · have g_51 := nI_le' c_51 (by omega) (by omega)
            rw [codes_end g_51] at hc he
            have hl1 : zs.length = 1 := hc
            obtain ⟨v1, rfl⟩ : ∃ v1, zs = [v1] := List.length_eq_one_iff.mp hl1
            have ha0 : a 0 = v1 := ha 0 (by simp)
            have hval : feeV d q = clF (a 0) := by unfold feeV; rw [if_neg h4, ← he, ha0]; rfl
            have hl := lv_sub hl [0, 1, 3] rfl
            refine lv_aload_n hx hb dX5_fee_158 rfl (lv_at hl 0 rfl) ?_
            refine va_get hx hb hts in_X5 hown hK hP 0 rfl rfl 15 (by decide) (hts _ q1677) (fun _ h => h) rfl dX5_fee_159 ?_
            refine lv_iconst (v := 0) hx hb dX5_fee_162 rfl ?_
            refine w_lald hx hb hK hP 4 rfl 0 rfl (Nat.le_of_ble_eq_true rfl) (Nat.le_of_ble_eq_true rfl) dX5_fee_163 ?_
            refine lv_lconst (v := 0) hx hb dX5_fee_164 rfl ?_
            refine W.lcmp hx hb dX5_fee_165 ?_
            refine lv_if_ge (tgt := 173) hx hb dX5_fee_166 (by decide) (fun c_166 => ?_) (fun c_166 => ?_)
            · refine lv_aload_n hx hb dX5_fee_173 rfl (lv_at hl 0 rfl) ?_
              refine va_get hx hb hts in_X5 hown hK hP 0 rfl rfl 15 (by decide) (hts _ q1677) (fun _ h => h) rfl dX5_fee_174 ?_
              refine lv_iconst (v := 0) hx hb dX5_fee_177 rfl ?_
              refine w_lald hx hb hK hP 4 rfl 0 rfl (Nat.le_of_ble_eq_true rfl) (Nat.le_of_ble_eq_true rfl) dX5_fee_178 ?_
              refine lv_ldc2 (v := 999999) hx hb hown (hts _ q2009) dX5_fee_179 ?_
              refine W.lcmp hx hb dX5_fee_182 ?_
              refine lv_if_le (tgt := 191) hx hb dX5_fee_183 (by decide) (fun c_183 => ?_) (fun c_183 => ?_)
              · refine lv_aload_n hx hb dX5_fee_191 rfl (lv_at hl 0 rfl) ?_
                refine va_get hx hb hts in_X5 hown hK hP 0 rfl rfl 15 (by decide) (hts _ q1677) (fun _ h => h) rfl dX5_fee_192 ?_
                refine lv_iconst (v := 0) hx hb dX5_fee_195 rfl ?_
                refine w_lald hx hb hK hP 4 rfl 0 rfl (Nat.le_of_ble_eq_true rfl) (Nat.le_of_ble_eq_true rfl) dX5_fee_196 ?_
                refine lv_l2i (v := (a 0).toInt32) hx hb dX5_fee_197 rfl ?_
                exact e_iret C (by rw [hval]; unfold clF; first | rw [if_pos (by have := c_166; rw [lg_cmp_ge] at this; exact Int64.not_le.mp this)] | (rw [if_neg (by have := c_166; rw [lg_cmp_ge] at this; exact Int64.not_lt.mpr this)]; first | rw [if_pos (by have := c_183; rw [lg_cmp_le] at this; exact Int64.not_le.mp this)] | rw [if_neg (by have := c_183; rw [lg_cmp_le] at this; exact Int64.not_lt.mpr this)])) ⟨_, hP⟩ hS dX5_fee_198
              · refine lv_ldc (v := 999999) hx hb hown (hts _ q1791) dX5_fee_186 ?_
                refine lv_goto (tgt := 198) hx hb dX5_fee_188 (by decide) ?_
                exact e_iret C (by rw [hval]; unfold clF; first | rw [if_pos (by have := c_166; rw [lg_cmp_ge] at this; exact Int64.not_le.mp this)] | (rw [if_neg (by have := c_166; rw [lg_cmp_ge] at this; exact Int64.not_lt.mpr this)]; first | rw [if_pos (by have := c_183; rw [lg_cmp_le] at this; exact Int64.not_le.mp this)] | rw [if_neg (by have := c_183; rw [lg_cmp_le] at this; exact Int64.not_lt.mpr this)])) ⟨_, hP⟩ hS dX5_fee_198
            · refine lv_iconst (v := 0) hx hb dX5_fee_169 rfl ?_
              refine lv_goto (tgt := 198) hx hb dX5_fee_170 (by decide) ?_
              exact e_iret C (by rw [hval]; unfold clF; first | rw [if_pos (by have := c_166; rw [lg_cmp_ge] at this; exact Int64.not_le.mp this)] | (rw [if_neg (by have := c_166; rw [lg_cmp_ge] at this; exact Int64.not_lt.mpr this)]; first | rw [if_pos (by have := c_183; rw [lg_cmp_le] at this; exact Int64.not_le.mp this)] | rw [if_neg (by have := c_183; rw [lg_cmp_le] at this; exact Int64.not_lt.mpr this)])) ⟨_, hP⟩ hS dX5_fee_198
          · have g_51 := nI_nle' c_51 (by omega) (by omega)
            rw [codes_drop g_51] at hc he
            have hcc := okC_cons hc
            refine lv_aload_n hx hb dX5_fee_54 rfl (lv_at hl 0 rfl) ?_
            refine va_get hx hb hts in_X5 hown hK hP 0 rfl rfl 8 (by decide) (hts _ q1670) (fun _ h => h) rfl dX5_fee_55 ?_
            refine lv_sipush (v := 298) hx hb dX5_fee_58 rfl ?_
            refine lv_iload_n hx hb dX5_fee_61 rfl (lv_at hl 3 rfl) ?_
            refine lv_iadd hx hb dX5_fee_62 ?_
            refine w_topi (y := nI (298 + j)) (nI_add 298 j) ?_
            refine w_iald hx hb hK hP 1 rfl (298 + j) rfl (by omega) (Nat.le_of_ble_eq_true rfl) dX5_fee_63 ?_
            refine lv_istore (lv' := [(4, .int (d (298 + j))), (0, .ref o), (1, .int (nI q)), (2, .int (nI zs.length)), (3, .int (nI j))]) hx hb dX5_fee_64 hl (by decide) rfl (fun ls hl => ?_)
            refine lv_iload hx hb dX5_fee_66 (lv_at hl 0 rfl) ?_
            refine lv_iconst (v := 1) hx hb dX5_fee_68 rfl ?_
            refine lv_icmp_gt (tgt := 122) hx hb dX5_fee_69 (by decide) (fun c_69 => ?_) (fun c_69 => ?_)
            · obtain ⟨⟨k1, k2⟩, k3, k4⟩ : (2 ≤ d (298 + j) ∧ d (298 + j) ≤ 5) ∧ 2 ≤ zs.length ∧ okC ((codes d).drop (j + 1)) (zs.length - 1) := by rcases hcc with h | h; obtain ⟨v, t', -, h, -⟩ := h; rcases h with h | h <;> (rw [h] at c_69; exact absurd c_69 (by decide)); exact h
              have hlk := hl
              have hPk := hP
              have hSk := hS
              obtain ⟨y1, zt, rfl⟩ : ∃ y z, zs = y :: z := by cases zs with | nil => simp at k3 | cons y z => exact ⟨y, z, rfl⟩
              obtain ⟨x1, r, rfl⟩ : ∃ y z, zt = y :: z := by cases zt with | nil => simp at k3 | cons y z => exact ⟨y, z, rfl⟩
              have hl := hlk
              have hP := hPk
              have hS := hSk
              obtain ⟨m1, m2, m3⟩ := stkA_op (z := opr (d (298 + j)) x1 y1) ha
              simp only [List.length_cons] at hz k4
              refine lv_iinc (v := nI (r.length + 1)) (lv' := [(2, .int (nI (r.length + 1))), (4, .int (d (298 + j))), (0, .ref o), (1, .int (nI q)), (3, .int (nI j))]) hx hb dX5_fee_122 hl (k := 3) rfl (pk_m1 (r.length + 1)) (by decide) rfl (fun ls hl => ?_)
              refine lv_aload_n hx hb dX5_fee_125 rfl (lv_at hl 2 rfl) ?_
              refine va_get hx hb hts in_X5 hown hK hP 0 rfl rfl 15 (by decide) (hts _ q1677) (fun _ h => h) rfl dX5_fee_126 ?_
              refine lv_iload_n hx hb dX5_fee_129 rfl (lv_at hl 0 rfl) ?_
              refine lv_iconst (v := 1) hx hb dX5_fee_130 rfl ?_
              refine lv_isub hx hb dX5_fee_131 ?_
              refine w_topi (y := nI r.length) (nI_pred r.length) ?_
              refine lv_iload hx hb dX5_fee_132 (lv_at hl 1 rfl) ?_
              refine lv_aload_n hx hb dX5_fee_134 rfl (lv_at hl 2 rfl) ?_
              refine va_get hx hb hts in_X5 hown hK hP 0 rfl rfl 15 (by decide) (hts _ q1677) (fun _ h => h) rfl dX5_fee_135 ?_
              refine lv_iload_n hx hb dX5_fee_138 rfl (lv_at hl 0 rfl) ?_
              refine lv_iconst (v := 1) hx hb dX5_fee_139 rfl ?_
              refine lv_isub hx hb dX5_fee_140 ?_
              refine w_topi (y := nI r.length) (nI_pred r.length) ?_
              refine w_lald hx hb hK hP 4 rfl r.length rfl (by omega) (Nat.le_of_ble_eq_true rfl) dX5_fee_141 ?_
              refine w_topl (y := x1) m2 ?_
              refine lv_aload_n hx hb dX5_fee_142 rfl (lv_at hl 2 rfl) ?_
              refine va_get hx hb hts in_X5 hown hK hP 0 rfl rfl 15 (by decide) (hts _ q1677) (fun _ h => h) rfl dX5_fee_143 ?_
              refine lv_iload_n hx hb dX5_fee_146 rfl (lv_at hl 0 rfl) ?_
              refine w_lald hx hb hK hP 4 rfl (r.length + 1) rfl (by omega) (Nat.le_of_ble_eq_true rfl) dX5_fee_147 ?_
              refine w_topl (y := y1) m3 ?_
              refine r_callS (As := [.int (d (298 + j)), .long x1, .long y1]) (rest := [.int (nI r.length), .ref a15]) C (m_operate l D k (d (298 + j)) x1 y1) (va_cwS 3 hts (lw_S q2001 q2002 q76 q2003) rfl rfl rfl (by decide +kernel) ⟨Nat.le_of_ble_eq_true rfl, Nat.le_of_ble_eq_true rfl⟩) hK trivial rfl hl.1 rfl (Nat.le_of_ble_eq_true rfl) dX5_fee_148 ⟨Nat.le_of_ble_eq_true rfl, Nat.le_of_ble_eq_true rfl⟩ ?_
              refine w_last hx hb hK hP (va_D_of hD rfl) hS 4 rfl r.length rfl (by omega) (Nat.le_of_ble_eq_true rfl) dX5_fee_151 (fun H locs hP _ hS => ?_)
              have hP : va_P D clA ((o, .inr (0, [.int 0, .ref a1, .int bl, .int tl, .int ps, .int er, .int ea, .int eo, .ref a8, .ref a9, .ref a10, .int ud, .int ns, .int ne, .int se, .ref a15])) :: (a8, .inl (k 0, 1798, .inl d)) :: (a9, .inl (k 0, 1798, .inl dr)) :: (a1, .inl (k 0, 900, .inl fb)) :: (a15, .inl (k 2, 1500, .inr (.inl (vp_updL a r.length (opr (d (298 + j)) x1 y1))))) :: wr) H := hP
              refine lv_iinc (v := nI (j + 1)) (lv' := [(3, .int (nI (j + 1))), (2, .int (nI (r.length + 1))), (4, .int (d (298 + j))), (0, .ref o), (1, .int (nI q))]) hx hb dX5_fee_152 hl (k := 4) rfl (nI_1 j) (by decide) rfl (fun ls hl => ?_)
              refine lv_goto (tgt := 44) hx hb dX5_fee_155 (by decide) ?_
              have he2 : evC d q ((codes d).drop (j + 1)) (opr (d (298 + j)) x1 y1 :: r) = evC d q (codes d) [] := by rw [← he, evC_op (fun h => by rw [h] at k1; exact absurd k1 (by decide)) (fun h => by rw [h] at k1; exact absurd k1 (by decide))]; rfl
              exact ih_44 (j + 1) (opr (d (298 + j)) x1 y1 :: r) (vp_updL a r.length (opr (d (298 + j)) x1 y1)) (by omega) k4 he2 m1 (by simp only [List.length_cons]; omega) (by omega) _ _ hP hS ls (lv_sub hl [3, 4, 1, 0] rfl)
            · obtain ⟨v1, t1, et, hc01, hok1⟩ : ∃ v t', (codes d).drop (j + 1) = v :: t' ∧ (d (298 + j) = 0 ∨ d (298 + j) = 1) ∧ okC t' (zs.length + 1) := by rcases hcc with h | h; exact h; exact absurd (Int32.lt_of_lt_of_le (by decide) h.1.1) c_69
              have hj1 : j + 1 < dN d 5 := by rcases Nat.lt_or_ge (j + 1) (dN d 5) with z | z; exact z; rw [codes_end z] at et; cases et
              have et2 := codes_drop hj1
              rw [et2] at et
              obtain ⟨ev1, et1⟩ := List.cons.inj et
              refine lv_iinc (v := nI (j + 1)) (lv' := [(3, .int (nI (j + 1))), (4, .int (d (298 + j))), (0, .ref o), (1, .int (nI q)), (2, .int (nI zs.length))]) hx hb dX5_fee_72 hl (k := 4) rfl (nI_1 j) (by decide) rfl (fun ls hl => ?_)
              refine lv_aload_n hx hb dX5_fee_75 rfl (lv_at hl 2 rfl) ?_
              refine va_get hx hb hts in_X5 hown hK hP 0 rfl rfl 15 (by decide) (hts _ q1677) (fun _ h => h) rfl dX5_fee_76 ?_
              refine lv_iload_n hx hb dX5_fee_79 rfl (lv_at hl 4 rfl) ?_
              refine lv_iload hx hb dX5_fee_80 (lv_at hl 1 rfl) ?_
              have J_115 : ∀ (z : Int64), (z = (if d (298 + j) = 0 then (d (298 + (j + 1))).toInt64 else (var d q (d (298 + (j + 1)))).toInt64)) → ∀ (ls : Array Slot), lv_has ls 5 [(3, .int (nI (j + 1))), (4, .int (d (298 + j))), (0, .ref o), (1, .int (nI q)), (2, .int (nI zs.length))] → W p l e (Rm 6 200 0 0) s m ([.ref o, .int (nI q)] : List Value).toArray below meth c H locs 0 0 (MQ below (eQ D (some (.int (feeV d q))) (fun st9 : Nat → Int64 => ((o, .inr (0, [.int 0, .ref a1, .int bl, .int tl, .int ps, .int er, .int ea, .int eo, .ref a8, .ref a9, .ref a10, .int ud, .int ns, .int ne, .int se, .ref a15])) :: (a8, .inl (k 0, 1798, .inl d)) :: (a9, .inl (k 0, 1798, .inl dr)) :: (a1, .inl (k 0, 900, .inl fb)) :: (a15, .inl (k 2, 1500, .inr (.inl st9))) :: wr)) A) ([.ref o, .int (nI q)] : List Value).toArray s 0 0 A) (F0 m 115 ls [.long z, .int (nI zs.length), .ref a15]) := by
                intro z h_z ls hl
                refine w_last hx hb hK hP (va_D_of hD rfl) hS 4 rfl zs.length rfl (by omega) (Nat.le_of_ble_eq_true rfl) dX5_fee_115 (fun H locs hP _ hS => ?_)
                have hP : va_P D clA ((o, .inr (0, [.int 0, .ref a1, .int bl, .int tl, .int ps, .int er, .int ea, .int eo, .ref a8, .ref a9, .ref a10, .int ud, .int ns, .int ne, .int se, .ref a15])) :: (a8, .inl (k 0, 1798, .inl d)) :: (a9, .inl (k 0, 1798, .inl dr)) :: (a1, .inl (k 0, 900, .inl fb)) :: (a15, .inl (k 2, 1500, .inr (.inl (vp_updL a zs.length z)))) :: wr) H := hP
                refine lv_iinc (v := nI (zs.length + 1)) (lv' := [(2, .int (nI (zs.length + 1))), (3, .int (nI (j + 1))), (4, .int (d (298 + j))), (0, .ref o), (1, .int (nI q))]) hx hb dX5_fee_116 hl (k := 4) rfl (nI_1 _) (by decide) rfl (fun ls hl => ?_)
                refine lv_goto (tgt := 152) hx hb dX5_fee_119 (by decide) ?_
                refine lv_iinc (v := nI (j + 1 + 1)) (lv' := [(3, .int (nI (j + 1 + 1))), (2, .int (nI (zs.length + 1))), (4, .int (d (298 + j))), (0, .ref o), (1, .int (nI q))]) hx hb dX5_fee_152 hl (k := 1) rfl (nI_1 (j + 1)) (by decide) rfl (fun ls hl => ?_)
                refine lv_goto (tgt := 44) hx hb dX5_fee_155 (by decide) ?_
                have he2 : evC d q ((codes d).drop (j + 1 + 1)) (z :: zs) = evC d q (codes d) [] := by rw [← he, et2, h_z]; rcases hc01 with h | h <;> simp [evC, h]
                exact ih_44 (j + 1 + 1) (z :: zs) (vp_updL a zs.length z) (by omega) (by rw [et1]; exact hok1) he2 (stkA_push ha) (by simp only [List.length_cons]; omega) (by omega) _ _ hP hS ls (lv_sub hl [3, 4, 1, 0] rfl)
              refine lv_if_ne (tgt := 99) hx hb dX5_fee_82 (by decide) (fun c_82 => ?_) (fun c_82 => ?_)
              · refine lv_aload_n hx hb dX5_fee_99 rfl (lv_at hl 2 rfl) ?_
                refine lv_iload_n hx hb dX5_fee_100 rfl (lv_at hl 3 rfl) ?_
                refine lv_aload_n hx hb dX5_fee_101 rfl (lv_at hl 2 rfl) ?_
                refine va_get hx hb hts in_X5 hown hK hP 0 rfl rfl 8 (by decide) (hts _ q1670) (fun _ h => h) rfl dX5_fee_102 ?_
                refine lv_sipush (v := 298) hx hb dX5_fee_105 rfl ?_
                refine lv_iload_n hx hb dX5_fee_108 rfl (lv_at hl 0 rfl) ?_
                refine lv_iadd hx hb dX5_fee_109 ?_
                refine w_topi (y := nI (298 + (j + 1))) (nI_add 298 (j + 1)) ?_
                refine w_iald hx hb hK hP 1 rfl (298 + (j + 1)) rfl (by omega) (Nat.le_of_ble_eq_true rfl) dX5_fee_110 ?_
                refine r_callV (As := [.int (nI q), .int (d (298 + (j + 1)))]) (rest := [.int (nI zs.length), .ref a15]) C (m_variable l D k o a8 ([.int 0, .ref a1, .int bl, .int tl, .int ps, .int er, .int ea, .int eo, .ref a8, .ref a9, .ref a10, .int ud, .int ns, .int ne, .int se, .ref a15] : List Value) d rfl hd q (d (298 + (j + 1))) (by omega)) (cwV 2 hts (lw_V q1997 q1999 qs65 q76 q2000) rfl rfl rfl (by decide +kernel) ⟨Nat.le_of_ble_eq_true rfl, Nat.le_of_ble_eq_true rfl⟩) hK (va_recv hK hP (ci := 0) (q0 := 0) rfl rfl) (hP.sub [0, 1] rfl) rfl hl.1 rfl (Nat.le_of_ble_eq_true rfl) dX5_fee_111 ⟨Nat.le_of_ble_eq_true rfl, Nat.le_of_ble_eq_true rfl⟩ ?_
                refine lv_i2l (v := (var d q (d (298 + (j + 1)))).toInt64) hx hb dX5_fee_114 rfl ?_
                exact J_115 ((var d q (d (298 + (j + 1)))).toInt64) (by first | exact (if_pos c_82).symm | exact (if_neg c_82).symm) ls hl
              · refine lv_aload_n hx hb dX5_fee_85 rfl (lv_at hl 2 rfl) ?_
                refine va_get hx hb hts in_X5 hown hK hP 0 rfl rfl 8 (by decide) (hts _ q1670) (fun _ h => h) rfl dX5_fee_86 ?_
                refine lv_sipush (v := 298) hx hb dX5_fee_89 rfl ?_
                refine lv_iload_n hx hb dX5_fee_92 rfl (lv_at hl 0 rfl) ?_
                refine lv_iadd hx hb dX5_fee_93 ?_
                refine w_topi (y := nI (298 + (j + 1))) (nI_add 298 (j + 1)) ?_
                refine w_iald hx hb hK hP 1 rfl (298 + (j + 1)) rfl (by omega) (Nat.le_of_ble_eq_true rfl) dX5_fee_94 ?_
                refine lv_i2l (v := (d (298 + (j + 1))).toInt64) hx hb dX5_fee_95 rfl ?_
                refine lv_goto (tgt := 115) hx hb dX5_fee_96 (by decide) ?_
                exact J_115 ((d (298 + (j + 1))).toInt64) (by first | exact (if_pos c_82).symm | exact (if_neg c_82).symm) ls hl
      exact loop_44 (dN d 5 + 1) 0 [] st (Nat.zero_le _) hcode rfl (fun j h => absurd h (by simp)) (by simp) (by omega) _ _ hP hS ls (lv_sub hl [2, 3, 1, 0] rfl)
    · exact absurd c_21 h4
  · exact absurd hhp (bI_nz c_10)
