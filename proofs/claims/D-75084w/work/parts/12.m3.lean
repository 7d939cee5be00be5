/-! the reference: its public questions (printed by gen/m3.py) -/
set_option maxRecDepth 100000
set_option maxHeartbeats 4000000 in
theorem m_thrown (l : Launch) (D : va_G) (k : Nat → ClassId) (o : Nat) (t : Int32) (fs : List Value) (h0 : fs[0]? = some (.int t)) : rM l D k yX5_thrown cX5_thrown 1 (some .int) 0 0 [.ref o] (va_P D clA [(o, .inr (0, fs))]) (some (.int t)) := by
  refine rM_of (by decide) (Nat.le_of_ble_eq_true rfl) ?_
  intro p e s m below meth c ls C hK hP hl
  obtain ⟨hx, hb, hr, hml, hown, hts, hlk⟩ := id C
  have hl : lv_has ls 1 [(0, .ref o)] := hl
  refine lv_aload_n hx hb dX5_thrown_0 rfl (lv_at hl 0 rfl) ?_
  refine va_get hx hb hts in_X5 hown hK hP 0 rfl rfl 0 (by decide) (hts _ q1662) (fun _ h => h) h0 dX5_thrown_1 ?_
  exact r_iret C rfl dX5_thrown_4
set_option maxHeartbeats 4000000 in
theorem m_fails (l : Launch) (D : va_G) (k : Nat → ClassId) (o a1 a8 a9 a10 a15 : Nat) (bl tl ps er ea eo ud ns ne se : Int32) (wr : va_W) (A : Nat → Prop) (hD : va_D A ((o, .inr (0, [.int 0, .ref a1, .int bl, .int tl, .int ps, .int er, .int ea, .int eo, .ref a8, .ref a9, .ref a10, .int ud, .int ns, .int ne, .int se, .ref a15])) :: wr)) (P : Prop) (x : Int32) (hx0 : ¬ x = 0) : wM l D k yX5_fails cX5_fails 3 (some .boolean) 0 0 [.ref o, .int (bI P), .int x] ((o, .inr (0, [.int 0, .ref a1, .int bl, .int tl, .int ps, .int er, .int ea, .int eo, .ref a8, .ref a9, .ref a10, .int ud, .int ns, .int ne, .int se, .ref a15])) :: wr) (some (.int (bI P))) ((o, .inr (0, [.int (pick P x), .ref a1, .int bl, .int tl, .int ps, .int er, .int ea, .int eo, .ref a8, .ref a9, .ref a10, .int ud, .int ns, .int ne, .int se, .ref a15])) :: wr) A := by
  refine wM_of (by decide) (Nat.le_of_ble_eq_true rfl) ?_
  intro p e s m below meth c ls C hK hP hS hl
  obtain ⟨hx, hb, hr, hml, hown, hts, hlk⟩ := id C
  have hl : lv_has ls 3 [(0, .ref o), (1, .int (bI P)), (2, .int x)] := hl
  refine lv_iload_n hx hb dX5_fails_0 rfl (lv_at hl 1 rfl) ?_
  refine lv_if_eq (tgt := 16) hx hb dX5_fails_1 (by decide) (fun c_1 => ?_) (fun c_1 => ?_)
  · have b_1 := bI_0.mp c_1
    refine lv_aload_n hx hb dX5_fails_16 rfl (lv_at hl 0 rfl) ?_
    refine va_get hx hb hts in_X5 hown hK hP 0 rfl rfl 0 (by decide) (hts _ q1662) (fun _ h => h) rfl dX5_fails_17 ?_
    refine lv_if_eq (tgt := 27) hx hb dX5_fails_20 (by decide) (fun c_20 => ?_) (fun c_20 => ?_)
    · refine lv_iconst (v := 0) hx hb dX5_fails_27 rfl ?_
      exact w_zret C (by first | exact bI_t b_1 | exact bI_f b_1 | exact absurd c_20 hx0 | exact absurd rfl c_20) (by rw [pick_f b_1]; exact hP) hS dX5_fails_28
    · exact absurd c_20 (by decide)
  · have b_1 := bI_nz c_1
    refine lv_aload_n hx hb dX5_fails_4 rfl (lv_at hl 0 rfl) ?_
    refine va_get hx hb hts in_X5 hown hK hP 0 rfl rfl 0 (by decide) (hts _ q1662) (fun _ h => h) rfl dX5_fails_5 ?_
    refine lv_if_ne (tgt := 16) hx hb dX5_fails_8 (by decide) (fun c_8 => ?_) (fun c_8 => ?_)
    · exact absurd rfl c_8
    · refine lv_aload_n hx hb dX5_fails_11 rfl (lv_at hl 0 rfl) ?_
      refine lv_iload_n hx hb dX5_fails_12 rfl (lv_at hl 2 rfl) ?_
      refine va_put hx hb hts in_X5 tyX5 tyX5_ok nmX5 hown hK hP (va_D_of hD rfl) hS 0 rfl rfl 0 (by decide) (hts _ q1662) (fun _ h => h) rfl rfl rfl rfl (Nat.le_of_ble_eq_true rfl) dX5_fails_13 (fun H locs hP _ hS => ?_)
      have hP : va_P D clA ((o, .inr (0, [.int x, .ref a1, .int bl, .int tl, .int ps, .int er, .int ea, .int eo, .ref a8, .ref a9, .ref a10, .int ud, .int ns, .int ne, .int se, .ref a15])) :: wr) H := hP
      refine lv_aload_n hx hb dX5_fails_16 rfl (lv_at hl 0 rfl) ?_
      refine va_get hx hb hts in_X5 hown hK hP 0 rfl rfl 0 (by decide) (hts _ q1662) (fun _ h => h) rfl dX5_fails_17 ?_
      refine lv_if_eq (tgt := 27) hx hb dX5_fails_20 (by decide) (fun c_20 => ?_) (fun c_20 => ?_)
      · refine lv_iconst (v := 0) hx hb dX5_fails_27 rfl ?_
        exact w_zret C (by first | exact bI_t b_1 | exact bI_f b_1 | exact absurd c_20 hx0 | exact absurd rfl c_20) (by rw [pick_t b_1]; exact hP) hS dX5_fails_28
      · refine lv_iconst (v := 1) hx hb dX5_fails_23 rfl ?_
        refine lv_goto (tgt := 28) hx hb dX5_fails_24 (by decide) ?_
        exact w_zret C (by first | exact bI_t b_1 | exact bI_f b_1 | exact absurd c_20 hx0 | exact absurd rfl c_20) (by rw [pick_t b_1]; exact hP) hS dX5_fails_28
set_option maxHeartbeats 4000000 in
theorem m_noCredit (l : Launch) (D : va_G) (k : Nat → ClassId) (o a1 a8 a9 a10 a15 : Nat) (bl tl ps er ea eo ud ns ne se : Int32) (wr : va_W) (d : Nat → Int32) (A : Nat → Prop) (hD : va_D A ((o, .inr (0, [.int 0, .ref a1, .int bl, .int tl, .int ps, .int er, .int ea, .int eo, .ref a8, .ref a9, .ref a10, .int ud, .int ns, .int ne, .int se, .ref a15])) :: (a8, .inl (k 0, 1798, .inl d)) :: wr)) (hd : okD d) (x : Int32) : wM l D k yX5_noCredit cX5_noCredit 2 (some .boolean) 1 22 [.ref o, .int x] ((o, .inr (0, [.int 0, .ref a1, .int bl, .int tl, .int ps, .int er, .int ea, .int eo, .ref a8, .ref a9, .ref a10, .int ud, .int ns, .int ne, .int se, .ref a15])) :: (a8, .inl (k 0, 1798, .inl d)) :: wr) (some (.int (bI (¬ hasC d x)))) ((o, .inr (0, [.int (pick (¬ hasC d x) 1), .ref a1, .int bl, .int tl, .int ps, .int er, .int ea, .int eo, .ref a8, .ref a9, .ref a10, .int ud, .int ns, .int ne, .int se, .ref a15])) :: (a8, .inl (k 0, 1798, .inl d)) :: wr) A := by
  refine wM_of (by decide) (Nat.le_of_ble_eq_true rfl) ?_
  intro p e s m below meth c ls C hK hP hS hl
  obtain ⟨hx, hb, hr, hml, hown, hts, hlk⟩ := id C
  have hl : lv_has ls 2 [(0, .ref o), (1, .int x)] := hl
  refine lv_aload_n hx hb dX5_noCredit_0 rfl (lv_at hl 0 rfl) ?_
  refine lv_iload_n hx hb dX5_noCredit_1 rfl (lv_at hl 1 rfl) ?_
  refine lv_iconst (v := 0) hx hb dX5_noCredit_2 rfl ?_
  refine lv_aload_n hx hb dX5_noCredit_3 rfl (lv_at hl 0 rfl) ?_
  refine va_get hx hb hts in_X5 hown hK hP 0 rfl rfl 8 (by decide) (hts _ q1670) (fun _ h => h) rfl dX5_noCredit_4 ?_
  refine lv_iconst (v := 0) hx hb dX5_noCredit_7 rfl ?_
  refine w_iald hx hb hK hP 1 rfl 0 rfl (Nat.le_of_ble_eq_true rfl) (Nat.le_of_ble_eq_true rfl) dX5_noCredit_8 ?_
  refine lv_iconst (v := 1) hx hb dX5_noCredit_9 rfl ?_
  refine lv_isub hx hb dX5_noCredit_10 ?_
  refine r_callS (As := [.int x, .int 0, .int ((d 0) - 1)]) (rest := [.ref o]) C (m_in l D k x 0 ((d 0) - 1)) (va_cwS 3 hts (lw_S q1724 q1725 q76 q1726) rfl rfl rfl (by decide +kernel) ⟨Nat.le_of_ble_eq_true rfl, Nat.le_of_ble_eq_true rfl⟩) hK trivial rfl hl.1 rfl (Nat.le_of_ble_eq_true rfl) dX5_noCredit_11 ⟨Nat.le_of_ble_eq_true rfl, Nat.le_of_ble_eq_true rfl⟩ ?_
  have J_22 : ∀ (z : Int32), (z = bI (¬ hasC d x)) → ∀ (ls : Array Slot), lv_has ls 2 [(0, .ref o), (1, .int x)] → W p l e (Rm 1 22 0 0) s m ([.ref o, .int x] : List Value).toArray below meth c s.heap [] 0 0 (MQ below (wQ D (some (.int (bI (¬ hasC d x)))) ((o, .inr (0, [.int (pick (¬ hasC d x) 1), .ref a1, .int bl, .int tl, .int ps, .int er, .int ea, .int eo, .ref a8, .ref a9, .ref a10, .int ud, .int ns, .int ne, .int se, .ref a15])) :: (a8, .inl (k 0, 1798, .inl d)) :: wr) A) ([.ref o, .int x] : List Value).toArray s 0 0 A) (F0 m 22 ls [.int z, .ref o]) := by
    intro z h_z ls hl
    refine w_topi (y := bI (¬ hasC d x)) h_z ?_
    refine lv_iconst (v := 1) hx hb dX5_noCredit_22 rfl ?_
    refine w_callV (As := [.int (bI (¬ hasC d x)), .int 1]) (rest := []) C (m_fails l D k o a1 a8 a9 a10 a15 bl tl ps er ea eo ud ns ne se ((a8, .inl (k 0, 1798, .inl d)) :: wr) A (va_D_of hD rfl) (¬ hasC d x) 1 (by decide)) (cwV 2 hts (lw_V q1727 q1729 qs31 q76 q1730) rfl rfl rfl (by decide +kernel) ⟨Nat.le_of_ble_eq_true rfl, Nat.le_of_ble_eq_true rfl⟩) hK (va_recv hK hP (ci := 0) (q0 := 0) rfl rfl) hP hS (fun _ h => h) rfl hl.1 rfl (Nat.le_of_ble_eq_true rfl) dX5_noCredit_23 ⟨Nat.le_of_ble_eq_true rfl, Nat.le_of_ble_eq_true rfl⟩ (fun H locs hP hS _ _ => ?_)
    have hP : va_P D clA ((o, .inr (0, [.int (pick (¬ hasC d x) 1), .ref a1, .int bl, .int tl, .int ps, .int er, .int ea, .int eo, .ref a8, .ref a9, .ref a10, .int ud, .int ns, .int ne, .int se, .ref a15])) :: (a8, .inl (k 0, 1798, .inl d)) :: wr) H := hP
    exact w_zret C rfl hP hS dX5_noCredit_26
  refine lv_if_ne (tgt := 21) hx hb dX5_noCredit_14 (by decide) (fun c_14 => ?_) (fun c_14 => ?_)
  · have b_14 := bI_nz c_14
    refine lv_iconst (v := 0) hx hb dX5_noCredit_21 rfl ?_
    exact J_22 0 (by first | exact bI_t b_14 | exact bI_f (fun h => h b_14)) ls hl
  · have b_14 := bI_0.mp c_14
    refine lv_iconst (v := 1) hx hb dX5_noCredit_17 rfl ?_
    refine lv_goto (tgt := 22) hx hb dX5_noCredit_18 (by decide) ?_
    exact J_22 1 (by first | exact bI_t b_14 | exact bI_f (fun h => h b_14)) ls hl
set_option maxHeartbeats 4000000 in
theorem m_noPresentation (l : Launch) (D : va_G) (k : Nat → ClassId) (o a1 a8 a9 a10 a15 : Nat) (bl tl ps er ea eo ud ns ne se : Int32) (wr : va_W) (d : Nat → Int32) (A : Nat → Prop) (hD : va_D A ((o, .inr (0, [.int 0, .ref a1, .int bl, .int tl, .int ps, .int er, .int ea, .int eo, .ref a8, .ref a9, .ref a10, .int ud, .int ns, .int ne, .int se, .ref a15])) :: (a8, .inl (k 0, 1798, .inl d)) :: wr)) (hd : okD d) (x : Int32) : wM l D k yX5_noPresentation cX5_noPresentation 2 (some .boolean) 1 22 [.ref o, .int x] ((o, .inr (0, [.int 0, .ref a1, .int bl, .int tl, .int ps, .int er, .int ea, .int eo, .ref a8, .ref a9, .ref a10, .int ud, .int ns, .int ne, .int se, .ref a15])) :: (a8, .inl (k 0, 1798, .inl d)) :: wr) (some (.int (bI (¬ hasP d x)))) ((o, .inr (0, [.int (pick (¬ hasP d x) 1), .ref a1, .int bl, .int tl, .int ps, .int er, .int ea, .int eo, .ref a8, .ref a9, .ref a10, .int ud, .int ns, .int ne, .int se, .ref a15])) :: (a8, .inl (k 0, 1798, .inl d)) :: wr) A := by
  refine wM_of (by decide) (Nat.le_of_ble_eq_true rfl) ?_
  intro p e s m below meth c ls C hK hP hS hl
  obtain ⟨hx, hb, hr, hml, hown, hts, hlk⟩ := id C
  have hl : lv_has ls 2 [(0, .ref o), (1, .int x)] := hl
  refine lv_aload_n hx hb dX5_noPresentation_0 rfl (lv_at hl 0 rfl) ?_
  refine lv_iload_n hx hb dX5_noPresentation_1 rfl (lv_at hl 1 rfl) ?_
  refine lv_iconst (v := 0) hx hb dX5_noPresentation_2 rfl ?_
  refine lv_aload_n hx hb dX5_noPresentation_3 rfl (lv_at hl 0 rfl) ?_
  refine va_get hx hb hts in_X5 hown hK hP 0 rfl rfl 8 (by decide) (hts _ q1670) (fun _ h => h) rfl dX5_noPresentation_4 ?_
  refine lv_iconst (v := 1) hx hb dX5_noPresentation_7 rfl ?_
  refine w_iald hx hb hK hP 1 rfl 1 rfl (Nat.le_of_ble_eq_true rfl) (Nat.le_of_ble_eq_true rfl) dX5_noPresentation_8 ?_
  refine lv_iconst (v := 1) hx hb dX5_noPresentation_9 rfl ?_
  refine lv_isub hx hb dX5_noPresentation_10 ?_
  refine r_callS (As := [.int x, .int 0, .int ((d 1) - 1)]) (rest := [.ref o]) C (m_in l D k x 0 ((d 1) - 1)) (va_cwS 3 hts (lw_S q1724 q1725 q76 q1726) rfl rfl rfl (by decide +kernel) ⟨Nat.le_of_ble_eq_true rfl, Nat.le_of_ble_eq_true rfl⟩) hK trivial rfl hl.1 rfl (Nat.le_of_ble_eq_true rfl) dX5_noPresentation_11 ⟨Nat.le_of_ble_eq_true rfl, Nat.le_of_ble_eq_true rfl⟩ ?_
  have J_22 : ∀ (z : Int32), (z = bI (¬ hasP d x)) → ∀ (ls : Array Slot), lv_has ls 2 [(0, .ref o), (1, .int x)] → W p l e (Rm 1 22 0 0) s m ([.ref o, .int x] : List Value).toArray below meth c s.heap [] 0 0 (MQ below (wQ D (some (.int (bI (¬ hasP d x)))) ((o, .inr (0, [.int (pick (¬ hasP d x) 1), .ref a1, .int bl, .int tl, .int ps, .int er, .int ea, .int eo, .ref a8, .ref a9, .ref a10, .int ud, .int ns, .int ne, .int se, .ref a15])) :: (a8, .inl (k 0, 1798, .inl d)) :: wr) A) ([.ref o, .int x] : List Value).toArray s 0 0 A) (F0 m 22 ls [.int z, .ref o]) := by
    intro z h_z ls hl
    refine w_topi (y := bI (¬ hasP d x)) h_z ?_
    refine lv_iconst (v := 1) hx hb dX5_noPresentation_22 rfl ?_
    refine w_callV (As := [.int (bI (¬ hasP d x)), .int 1]) (rest := []) C (m_fails l D k o a1 a8 a9 a10 a15 bl tl ps er ea eo ud ns ne se ((a8, .inl (k 0, 1798, .inl d)) :: wr) A (va_D_of hD rfl) (¬ hasP d x) 1 (by decide)) (cwV 2 hts (lw_V q1727 q1729 qs31 q76 q1730) rfl rfl rfl (by decide +kernel) ⟨Nat.le_of_ble_eq_true rfl, Nat.le_of_ble_eq_true rfl⟩) hK (va_recv hK hP (ci := 0) (q0 := 0) rfl rfl) hP hS (fun _ h => h) rfl hl.1 rfl (Nat.le_of_ble_eq_true rfl) dX5_noPresentation_23 ⟨Nat.le_of_ble_eq_true rfl, Nat.le_of_ble_eq_true rfl⟩ (fun H locs hP hS _ _ => ?_)
    have hP : va_P D clA ((o, .inr (0, [.int (pick (¬ hasP d x) 1), .ref a1, .int bl, .int tl, .int ps, .int er, .int ea, .int eo, .ref a8, .ref a9, .ref a10, .int ud, .int ns, .int ne, .int se, .ref a15])) :: (a8, .inl (k 0, 1798, .inl d)) :: wr) H := hP
    exact w_zret C rfl hP hS dX5_noPresentation_26
  refine lv_if_ne (tgt := 21) hx hb dX5_noPresentation_14 (by decide) (fun c_14 => ?_) (fun c_14 => ?_)
  · have b_14 := bI_nz c_14
    refine lv_iconst (v := 0) hx hb dX5_noPresentation_21 rfl ?_
    exact J_22 0 (by first | exact bI_t b_14 | exact bI_f (fun h => h b_14)) ls hl
  · have b_14 := bI_0.mp c_14
    refine lv_iconst (v := 1) hx hb dX5_noPresentation_17 rfl ?_
    refine lv_goto (tgt := 22) hx hb dX5_noPresentation_18 (by decide) ?_
    exact J_22 1 (by first | exact bI_t b_14 | exact bI_f (fun h => h b_14)) ls hl
set_option maxHeartbeats 4000000 in
theorem m_creditCount (l : Launch) (D : va_G) (k : Nat → ClassId) (o a1 a8 a9 a10 a15 : Nat) (t bl tl ps er ea eo ud ns ne se : Int32) (wr : va_W) (d : Nat → Int32) (A : Nat → Prop) (hD : va_D A ((o, .inr (0, [.int t, .ref a1, .int bl, .int tl, .int ps, .int er, .int ea, .int eo, .ref a8, .ref a9, .ref a10, .int ud, .int ns, .int ne, .int se, .ref a15])) :: (a8, .inl (k 0, 1798, .inl d)) :: wr)) (hd : okD d) : wM l D k yX5_creditCount cX5_creditCount 1 (some .int) 0 0 [.ref o] ((o, .inr (0, [.int t, .ref a1, .int bl, .int tl, .int ps, .int er, .int ea, .int eo, .ref a8, .ref a9, .ref a10, .int ud, .int ns, .int ne, .int se, .ref a15])) :: (a8, .inl (k 0, 1798, .inl d)) :: wr) (some (.int (d 0))) ((o, .inr (0, [.int 0, .ref a1, .int bl, .int tl, .int ps, .int er, .int ea, .int eo, .ref a8, .ref a9, .ref a10, .int ud, .int ns, .int ne, .int se, .ref a15])) :: (a8, .inl (k 0, 1798, .inl d)) :: wr) A := by
  refine wM_of (by decide) (Nat.le_of_ble_eq_true rfl) ?_
  intro p e s m below meth c ls C hK hP hS hl
  obtain ⟨hx, hb, hr, hml, hown, hts, hlk⟩ := id C
  have hl : lv_has ls 1 [(0, .ref o)] := hl
  refine lv_aload_n hx hb dX5_creditCount_0 rfl (lv_at hl 0 rfl) ?_
  refine lv_iconst (v := 0) hx hb dX5_creditCount_1 rfl ?_
  refine va_put hx hb hts in_X5 tyX5 tyX5_ok nmX5 hown hK hP (va_D_of hD rfl) hS 0 rfl rfl 0 (by decide) (hts _ q1662) (fun _ h => h) rfl rfl rfl rfl (Nat.le_of_ble_eq_true rfl) dX5_creditCount_2 (fun H locs hP _ hS => ?_)
  have hP : va_P D clA ((o, .inr (0, [.int 0, .ref a1, .int bl, .int tl, .int ps, .int er, .int ea, .int eo, .ref a8, .ref a9, .ref a10, .int ud, .int ns, .int ne, .int se, .ref a15])) :: (a8, .inl (k 0, 1798, .inl d)) :: wr) H := hP
  refine lv_aload_n hx hb dX5_creditCount_5 rfl (lv_at hl 0 rfl) ?_
  refine va_get hx hb hts in_X5 hown hK hP 0 rfl rfl 8 (by decide) (hts _ q1670) (fun _ h => h) rfl dX5_creditCount_6 ?_
  refine lv_iconst (v := 0) hx hb dX5_creditCount_9 rfl ?_
  refine w_iald hx hb hK hP 1 rfl 0 rfl (Nat.le_of_ble_eq_true rfl) (Nat.le_of_ble_eq_true rfl) dX5_creditCount_10 ?_
  exact w_iret C rfl hP hS dX5_creditCount_11
set_option maxHeartbeats 4000000 in
theorem m_presentationCount (l : Launch) (D : va_G) (k : Nat → ClassId) (o a1 a8 a9 a10 a15 : Nat) (t bl tl ps er ea eo ud ns ne se : Int32) (wr : va_W) (d : Nat → Int32) (A : Nat → Prop) (hD : va_D A ((o, .inr (0, [.int t, .ref a1, .int bl, .int tl, .int ps, .int er, .int ea, .int eo, .ref a8, .ref a9, .ref a10, .int ud, .int ns, .int ne, .int se, .ref a15])) :: (a8, .inl (k 0, 1798, .inl d)) :: wr)) (hd : okD d) : wM l D k yX5_presentationCount cX5_presentationCount 1 (some .int) 0 0 [.ref o] ((o, .inr (0, [.int t, .ref a1, .int bl, .int tl, .int ps, .int er, .int ea, .int eo, .ref a8, .ref a9, .ref a10, .int ud, .int ns, .int ne, .int se, .ref a15])) :: (a8, .inl (k 0, 1798, .inl d)) :: wr) (some (.int (d 1))) ((o, .inr (0, [.int 0, .ref a1, .int bl, .int tl, .int ps, .int er, .int ea, .int eo, .ref a8, .ref a9, .ref a10, .int ud, .int ns, .int ne, .int se, .ref a15])) :: (a8, .inl (k 0, 1798, .inl d)) :: wr) A := by
  refine wM_of (by decide) (Nat.le_of_ble_eq_true rfl) ?_
  intro p e s m below meth c ls C hK hP hS hl
  obtain ⟨hx, hb, hr, hml, hown, hts, hlk⟩ := id C
  have hl : lv_has ls 1 [(0, .ref o)] := hl
  refine lv_aload_n hx hb dX5_presentationCount_0 rfl (lv_at hl 0 rfl) ?_
  refine lv_iconst (v := 0) hx hb dX5_presentationCount_1 rfl ?_
  refine va_put hx hb hts in_X5 tyX5 tyX5_ok nmX5 hown hK hP (va_D_of hD rfl) hS 0 rfl rfl 0 (by decide) (hts _ q1662) (fun _ h => h) rfl rfl rfl rfl (Nat.le_of_ble_eq_true rfl) dX5_presentationCount_2 (fun H locs hP _ hS => ?_)
  have hP : va_P D clA ((o, .inr (0, [.int 0, .ref a1, .int bl, .int tl, .int ps, .int er, .int ea, .int eo, .ref a8, .ref a9, .ref a10, .int ud, .int ns, .int ne, .int se, .ref a15])) :: (a8, .inl (k 0, 1798, .inl d)) :: wr) H := hP
  refine lv_aload_n hx hb dX5_presentationCount_5 rfl (lv_at hl 0 rfl) ?_
  refine va_get hx hb hts in_X5 hown hK hP 0 rfl rfl 8 (by decide) (hts _ q1670) (fun _ h => h) rfl dX5_presentationCount_6 ?_
  refine lv_iconst (v := 1) hx hb dX5_presentationCount_9 rfl ?_
  refine w_iald hx hb hK hP 1 rfl 1 rfl (Nat.le_of_ble_eq_true rfl) (Nat.le_of_ble_eq_true rfl) dX5_presentationCount_10 ?_
  exact w_iret C rfl hP hS dX5_presentationCount_11
set_option maxHeartbeats 4000000 in
theorem m_today (l : Launch) (D : va_G) (k : Nat → ClassId) (o a1 a8 a9 a10 a15 : Nat) (t bl tl ps er ea eo ud ns ne se : Int32) (wr : va_W) (d : Nat → Int32) (A : Nat → Prop) (hD : va_D A ((o, .inr (0, [.int t, .ref a1, .int bl, .int tl, .int ps, .int er, .int ea, .int eo, .ref a8, .ref a9, .ref a10, .int ud, .int ns, .int ne, .int se, .ref a15])) :: (a8, .inl (k 0, 1798, .inl d)) :: wr)) (hd : okD d) : wM l D k yX5_today cX5_today 1 (some .int) 0 0 [.ref o] ((o, .inr (0, [.int t, .ref a1, .int bl, .int tl, .int ps, .int er, .int ea, .int eo, .ref a8, .ref a9, .ref a10, .int ud, .int ns, .int ne, .int se, .ref a15])) :: (a8, .inl (k 0, 1798, .inl d)) :: wr) (some (.int (d 3))) ((o, .inr (0, [.int 0, .ref a1, .int bl, .int tl, .int ps, .int er, .int ea, .int eo, .ref a8, .ref a9, .ref a10, .int ud, .int ns, .int ne, .int se, .ref a15])) :: (a8, .inl (k 0, 1798, .inl d)) :: wr) A := by
  refine wM_of (by decide) (Nat.le_of_ble_eq_true rfl) ?_
  intro p e s m below meth c ls C hK hP hS hl
  obtain ⟨hx, hb, hr, hml, hown, hts, hlk⟩ := id C
  have hl : lv_has ls 1 [(0, .ref o)] := hl
  refine lv_aload_n hx hb dX5_today_0 rfl (lv_at hl 0 rfl) ?_
  refine lv_iconst (v := 0) hx hb dX5_today_1 rfl ?_
  refine va_put hx hb hts in_X5 tyX5 tyX5_ok nmX5 hown hK hP (va_D_of hD rfl) hS 0 rfl rfl 0 (by decide) (hts _ q1662) (fun _ h => h) rfl rfl rfl rfl (Nat.le_of_ble_eq_true rfl) dX5_today_2 (fun H locs hP _ hS => ?_)
  have hP : va_P D clA ((o, .inr (0, [.int 0, .ref a1, .int bl, .int tl, .int ps, .int er, .int ea, .int eo, .ref a8, .ref a9, .ref a10, .int ud, .int ns, .int ne, .int se, .ref a15])) :: (a8, .inl (k 0, 1798, .inl d)) :: wr) H := hP
  refine lv_aload_n hx hb dX5_today_5 rfl (lv_at hl 0 rfl) ?_
  refine va_get hx hb hts in_X5 hown hK hP 0 rfl rfl 8 (by decide) (hts _ q1670) (fun _ h => h) rfl dX5_today_6 ?_
  refine lv_iconst (v := 3) hx hb dX5_today_9 rfl ?_
  refine w_iald hx hb hK hP 1 rfl 3 rfl (Nat.le_of_ble_eq_true rfl) (Nat.le_of_ble_eq_true rfl) dX5_today_10 ?_
  exact w_iret C rfl hP hS dX5_today_11
set_option maxHeartbeats 4000000 in
theorem m_errorOffset (l : Launch) (D : va_G) (k : Nat → ClassId) (o a1 a8 a9 a10 a15 : Nat) (t bl tl ps er ea eo ud ns ne se : Int32) (wr : va_W) (d : Nat → Int32) (A : Nat → Prop) (hD : va_D A ((o, .inr (0, [.int t, .ref a1, .int bl, .int tl, .int ps, .int er, .int ea, .int eo, .ref a8, .ref a9, .ref a10, .int ud, .int ns, .int ne, .int se, .ref a15])) :: (a8, .inl (k 0, 1798, .inl d)) :: wr)) (hd : okD d) : wM l D k yX5_errorOffset cX5_errorOffset 1 (some .int) 0 0 [.ref o] ((o, .inr (0, [.int t, .ref a1, .int bl, .int tl, .int ps, .int er, .int ea, .int eo, .ref a8, .ref a9, .ref a10, .int ud, .int ns, .int ne, .int se, .ref a15])) :: (a8, .inl (k 0, 1798, .inl d)) :: wr) (some (.int eo)) ((o, .inr (0, [.int 0, .ref a1, .int bl, .int tl, .int ps, .int er, .int ea, .int eo, .ref a8, .ref a9, .ref a10, .int ud, .int ns, .int ne, .int se, .ref a15])) :: (a8, .inl (k 0, 1798, .inl d)) :: wr) A := by
  refine wM_of (by decide) (Nat.le_of_ble_eq_true rfl) ?_
  intro p e s m below meth c ls C hK hP hS hl
  obtain ⟨hx, hb, hr, hml, hown, hts, hlk⟩ := id C
  have hl : lv_has ls 1 [(0, .ref o)] := hl
  refine lv_aload_n hx hb dX5_errorOffset_0 rfl (lv_at hl 0 rfl) ?_
  refine lv_iconst (v := 0) hx hb dX5_errorOffset_1 rfl ?_
  refine va_put hx hb hts in_X5 tyX5 tyX5_ok nmX5 hown hK hP (va_D_of hD rfl) hS 0 rfl rfl 0 (by decide) (hts _ q1662) (fun _ h => h) rfl rfl rfl rfl (Nat.le_of_ble_eq_true rfl) dX5_errorOffset_2 (fun H locs hP _ hS => ?_)
  have hP : va_P D clA ((o, .inr (0, [.int 0, .ref a1, .int bl, .int tl, .int ps, .int er, .int ea, .int eo, .ref a8, .ref a9, .ref a10, .int ud, .int ns, .int ne, .int se, .ref a15])) :: (a8, .inl (k 0, 1798, .inl d)) :: wr) H := hP
  refine lv_aload_n hx hb dX5_errorOffset_5 rfl (lv_at hl 0 rfl) ?_
  refine va_get hx hb hts in_X5 hown hK hP 0 rfl rfl 7 (by decide) (hts _ q1669) (fun _ h => h) rfl dX5_errorOffset_6 ?_
  exact w_iret C rfl hP hS dX5_errorOffset_9
set_option maxHeartbeats 4000000 in
theorem m_parent (l : Launch) (D : va_G) (k : Nat → ClassId) (o a1 a8 a9 a10 a15 : Nat) (t bl tl ps er ea eo ud ns ne se : Int32) (wr : va_W) (d : Nat → Int32) (A : Nat → Prop) (hD : va_D A ((o, .inr (0, [.int t, .ref a1, .int bl, .int tl, .int ps, .int er, .int ea, .int eo, .ref a8, .ref a9, .ref a10, .int ud, .int ns, .int ne, .int se, .ref a15])) :: (a8, .inl (k 0, 1798, .inl d)) :: wr)) (hd : okD d) (x : Int32) : wM l D k yX5_parent cX5_parent 2 (some .int) 2 43 [.ref o, .int x] ((o, .inr (0, [.int t, .ref a1, .int bl, .int tl, .int ps, .int er, .int ea, .int eo, .ref a8, .ref a9, .ref a10, .int ud, .int ns, .int ne, .int se, .ref a15])) :: (a8, .inl (k 0, 1798, .inl d)) :: wr) (some (.int (pick (hasC d x) (cf d (ci x) 10)))) ((o, .inr (0, [.int (pick (¬ hasC d x) 1), .ref a1, .int bl, .int tl, .int ps, .int er, .int ea, .int eo, .ref a8, .ref a9, .ref a10, .int ud, .int ns, .int ne, .int se, .ref a15])) :: (a8, .inl (k 0, 1798, .inl d)) :: wr) A := by
  refine wM_of (by decide) (Nat.le_of_ble_eq_true rfl) ?_
  intro p e s m below meth c ls C hK hP hS hl
  obtain ⟨hx, hb, hr, hml, hown, hts, hlk⟩ := id C
  have hl : lv_has ls 2 [(0, .ref o), (1, .int x)] := hl
  refine lv_aload_n hx hb dX5_parent_0 rfl (lv_at hl 0 rfl) ?_
  refine lv_iconst (v := 0) hx hb dX5_parent_1 rfl ?_
  refine va_put hx hb hts in_X5 tyX5 tyX5_ok nmX5 hown hK hP (va_D_of hD rfl) hS 0 rfl rfl 0 (by decide) (hts _ q1662) (fun _ h => h) rfl rfl rfl rfl (Nat.le_of_ble_eq_true rfl) dX5_parent_2 (fun H locs hP _ hS => ?_)
  have hP : va_P D clA ((o, .inr (0, [.int 0, .ref a1, .int bl, .int tl, .int ps, .int er, .int ea, .int eo, .ref a8, .ref a9, .ref a10, .int ud, .int ns, .int ne, .int se, .ref a15])) :: (a8, .inl (k 0, 1798, .inl d)) :: wr) H := hP
  refine lv_aload_n hx hb dX5_parent_5 rfl (lv_at hl 0 rfl) ?_
  refine lv_iload_n hx hb dX5_parent_6 rfl (lv_at hl 1 rfl) ?_
  refine w_callV (As := [.int x]) (rest := []) C (m_noCredit l D k o a1 a8 a9 a10 a15 bl tl ps er ea eo ud ns ne se wr d A (va_D_of hD rfl) hd x) (cwV 1 hts (lw_V q1885 q1887 qs52 q76 q1888) rfl rfl rfl (by decide +kernel) ⟨Nat.le_of_ble_eq_true rfl, Nat.le_of_ble_eq_true rfl⟩) hK (va_recv hK hP (ci := 0) (q0 := 0) rfl rfl) hP hS (fun _ h => h) rfl hl.1 rfl (Nat.le_of_ble_eq_true rfl) dX5_parent_7 ⟨Nat.le_of_ble_eq_true rfl, Nat.le_of_ble_eq_true rfl⟩ (fun H locs hP hS _ _ => ?_)
  have hP : va_P D clA ((o, .inr (0, [.int (pick (¬ hasC d x) 1), .ref a1, .int bl, .int tl, .int ps, .int er, .int ea, .int eo, .ref a8, .ref a9, .ref a10, .int ud, .int ns, .int ne, .int se, .ref a15])) :: (a8, .inl (k 0, 1798, .inl d)) :: wr) H := hP
  refine lv_if_eq (tgt := 17) hx hb dX5_parent_10 (by decide) (fun c_10 => ?_) (fun c_10 => ?_)
  · have b_10 := bI_0.mp c_10
    have hlk := hl
    have hPk := hP
    have hSk := hS
    obtain ⟨q, hq, rfl⟩ := hasC_n hd (Classical.not_not.mp b_10)
    have hl := hlk
    have hP := hPk
    have hS := hSk
    obtain ⟨⟨⟨_, n0⟩, ⟨_, n1⟩, -⟩, -⟩ := id hd
    refine lv_aload_n hx hb dX5_parent_17 rfl (lv_at hl 0 rfl) ?_
    refine va_get hx hb hts in_X5 hown hK hP 0 rfl rfl 8 (by decide) (hts _ q1670) (fun _ h => h) rfl dX5_parent_18 ?_
    refine lv_iload_n hx hb dX5_parent_21 rfl (lv_at hl 1 rfl) ?_
    refine r_callS (As := [.int (nI q)]) (rest := [.ref a8]) C (m_creditN l D k q) (va_cwS 1 hts (lw_S q1788 q1789 q76 q1790) rfl rfl rfl (by decide +kernel) ⟨Nat.le_of_ble_eq_true rfl, Nat.le_of_ble_eq_true rfl⟩) hK trivial rfl hl.1 rfl (Nat.le_of_ble_eq_true rfl) dX5_parent_22 ⟨Nat.le_of_ble_eq_true rfl, Nat.le_of_ble_eq_true rfl⟩ ?_
    refine lv_bipush (v := 10) hx hb dX5_parent_25 rfl ?_
    refine lv_iadd hx hb dX5_parent_27 ?_
    refine w_topi (y := nI ((22 + 11 * q) + 10)) (nI_add (22 + 11 * q) 10) ?_
    refine w_iald hx hb hK hP 1 rfl ((22 + 11 * q) + 10) rfl (by omega) (Nat.le_of_ble_eq_true rfl) dX5_parent_28 ?_
    exact w_iret C (by rw [pick_t (Classical.not_not.mp b_10)] <;> (try rw [ci_n (by omega)]) <;> (try rfl)) hP hS dX5_parent_29
  · have b_10 := bI_nz c_10
    refine lv_iconst (v := 0) hx hb dX5_parent_13 rfl ?_
    refine lv_goto (tgt := 29) hx hb dX5_parent_14 (by decide) ?_
    exact w_iret C (pick_f b_10).symm hP hS dX5_parent_29
set_option maxHeartbeats 4000000 in
theorem m_expiry (l : Launch) (D : va_G) (k : Nat → ClassId) (o a1 a8 a9 a10 a15 : Nat) (t bl tl ps er ea eo ud ns ne se : Int32) (wr : va_W) (d : Nat → Int32) (A : Nat → Prop) (hD : va_D A ((o, .inr (0, [.int t, .ref a1, .int bl, .int tl, .int ps, .int er, .int ea, .int eo, .ref a8, .ref a9, .ref a10, .int ud, .int ns, .int ne, .int se, .ref a15])) :: (a8, .inl (k 0, 1798, .inl d)) :: wr)) (hd : okD d) (x : Int32) : wM l D k yX5_expiry cX5_expiry 2 (some .int) 2 43 [.ref o, .int x] ((o, .inr (0, [.int t, .ref a1, .int bl, .int tl, .int ps, .int er, .int ea, .int eo, .ref a8, .ref a9, .ref a10, .int ud, .int ns, .int ne, .int se, .ref a15])) :: (a8, .inl (k 0, 1798, .inl d)) :: wr) (some (.int (pick (hasC d x) (cf d (ci x) 3)))) ((o, .inr (0, [.int (pick (¬ hasC d x) 1), .ref a1, .int bl, .int tl, .int ps, .int er, .int ea, .int eo, .ref a8, .ref a9, .ref a10, .int ud, .int ns, .int ne, .int se, .ref a15])) :: (a8, .inl (k 0, 1798, .inl d)) :: wr) A := by
  refine wM_of (by decide) (Nat.le_of_ble_eq_true rfl) ?_
  intro p e s m below meth c ls C hK hP hS hl
  obtain ⟨hx, hb, hr, hml, hown, hts, hlk⟩ := id C
  have hl : lv_has ls 2 [(0, .ref o), (1, .int x)] := hl
  refine lv_aload_n hx hb dX5_expiry_0 rfl (lv_at hl 0 rfl) ?_
  refine lv_iconst (v := 0) hx hb dX5_expiry_1 rfl ?_
  refine va_put hx hb hts in_X5 tyX5 tyX5_ok nmX5 hown hK hP (va_D_of hD rfl) hS 0 rfl rfl 0 (by decide) (hts _ q1662) (fun _ h => h) rfl rfl rfl rfl (Nat.le_of_ble_eq_true rfl) dX5_expiry_2 (fun H locs hP _ hS => ?_)
  have hP : va_P D clA ((o, .inr (0, [.int 0, .ref a1, .int bl, .int tl, .int ps, .int er, .int ea, .int eo, .ref a8, .ref a9, .ref a10, .int ud, .int ns, .int ne, .int se, .ref a15])) :: (a8, .inl (k 0, 1798, .inl d)) :: wr) H := hP
  refine lv_aload_n hx hb dX5_expiry_5 rfl (lv_at hl 0 rfl) ?_
  refine lv_iload_n hx hb dX5_expiry_6 rfl (lv_at hl 1 rfl) ?_
  refine w_callV (As := [.int x]) (rest := []) C (m_noCredit l D k o a1 a8 a9 a10 a15 bl tl ps er ea eo ud ns ne se wr d A (va_D_of hD rfl) hd x) (cwV 1 hts (lw_V q1885 q1887 qs52 q76 q1888) rfl rfl rfl (by decide +kernel) ⟨Nat.le_of_ble_eq_true rfl, Nat.le_of_ble_eq_true rfl⟩) hK (va_recv hK hP (ci := 0) (q0 := 0) rfl rfl) hP hS (fun _ h => h) rfl hl.1 rfl (Nat.le_of_ble_eq_true rfl) dX5_expiry_7 ⟨Nat.le_of_ble_eq_true rfl, Nat.le_of_ble_eq_true rfl⟩ (fun H locs hP hS _ _ => ?_)
  have hP : va_P D clA ((o, .inr (0, [.int (pick (¬ hasC d x) 1), .ref a1, .int bl, .int tl, .int ps, .int er, .int ea, .int eo, .ref a8, .ref a9, .ref a10, .int ud, .int ns, .int ne, .int se, .ref a15])) :: (a8, .inl (k 0, 1798, .inl d)) :: wr) H := hP
  refine lv_if_eq (tgt := 17) hx hb dX5_expiry_10 (by decide) (fun c_10 => ?_) (fun c_10 => ?_)
  · have b_10 := bI_0.mp c_10
    have hlk := hl
    have hPk := hP
    have hSk := hS
    obtain ⟨q, hq, rfl⟩ := hasC_n hd (Classical.not_not.mp b_10)
    have hl := hlk
    have hP := hPk
    have hS := hSk
    obtain ⟨⟨⟨_, n0⟩, ⟨_, n1⟩, -⟩, -⟩ := id hd
    refine lv_aload_n hx hb dX5_expiry_17 rfl (lv_at hl 0 rfl) ?_
    refine va_get hx hb hts in_X5 hown hK hP 0 rfl rfl 8 (by decide) (hts _ q1670) (fun _ h => h) rfl dX5_expiry_18 ?_
    refine lv_iload_n hx hb dX5_expiry_21 rfl (lv_at hl 1 rfl) ?_
    refine r_callS (As := [.int (nI q)]) (rest := [.ref a8]) C (m_creditN l D k q) (va_cwS 1 hts (lw_S q1788 q1789 q76 q1790) rfl rfl rfl (by decide +kernel) ⟨Nat.le_of_ble_eq_true rfl, Nat.le_of_ble_eq_true rfl⟩) hK trivial rfl hl.1 rfl (Nat.le_of_ble_eq_true rfl) dX5_expiry_22 ⟨Nat.le_of_ble_eq_true rfl, Nat.le_of_ble_eq_true rfl⟩ ?_
    refine lv_iconst (v := 3) hx hb dX5_expiry_25 rfl ?_
    refine lv_iadd hx hb dX5_expiry_26 ?_
    refine w_topi (y := nI ((22 + 11 * q) + 3)) (nI_add (22 + 11 * q) 3) ?_
    refine w_iald hx hb hK hP 1 rfl ((22 + 11 * q) + 3) rfl (by omega) (Nat.le_of_ble_eq_true rfl) dX5_expiry_27 ?_
    exact w_iret C (by rw [pick_t (Classical.not_not.mp b_10)] <;> (try rw [ci_n (by omega)]) <;> (try rfl)) hP hS dX5_expiry_28
  · have b_10 := bI_nz c_10
    refine lv_iconst (v := 0) hx hb dX5_expiry_13 rfl ?_
    refine lv_goto (tgt := 28) hx hb dX5_expiry_14 (by decide) ?_
    exact w_iret C (pick_f b_10).symm hP hS dX5_expiry_28
set_option maxHeartbeats 4000000 in
theorem m_drawn (l : Launch) (D : va_G) (k : Nat → ClassId) (o a1 a8 a9 a10 a15 : Nat) (t bl tl ps er ea eo ud ns ne se : Int32) (wr : va_W) (d : Nat → Int32) (A : Nat → Prop) (hD : va_D A ((o, .inr (0, [.int t, .ref a1, .int bl, .int tl, .int ps, .int er, .int ea, .int eo, .ref a8, .ref a9, .ref a10, .int ud, .int ns, .int ne, .int se, .ref a15])) :: (a8, .inl (k 0, 1798, .inl d)) :: wr)) (hd : okD d) (x : Int32) : wM l D k yX5_drawn cX5_drawn 2 (some .int) 3 65 [.ref o, .int x] ((o, .inr (0, [.int t, .ref a1, .int bl, .int tl, .int ps, .int er, .int ea, .int eo, .ref a8, .ref a9, .ref a10, .int ud, .int ns, .int ne, .int se, .ref a15])) :: (a8, .inl (k 0, 1798, .inl d)) :: wr) (some (.int (pick (hasC d x) (drawn d x)))) ((o, .inr (0, [.int (pick (¬ hasC d x) 1), .ref a1, .int bl, .int tl, .int ps, .int er, .int ea, .int eo, .ref a8, .ref a9, .ref a10, .int ud, .int ns, .int ne, .int se, .ref a15])) :: (a8, .inl (k 0, 1798, .inl d)) :: wr) A := by
  refine wM_of (by decide) (Nat.le_of_ble_eq_true rfl) ?_
  intro p e s m below meth c ls C hK hP hS hl
  obtain ⟨hx, hb, hr, hml, hown, hts, hlk⟩ := id C
  have hl : lv_has ls 2 [(0, .ref o), (1, .int x)] := hl
  refine lv_aload_n hx hb dX5_drawn_0 rfl (lv_at hl 0 rfl) ?_
  refine lv_iconst (v := 0) hx hb dX5_drawn_1 rfl ?_
  refine va_put hx hb hts in_X5 tyX5 tyX5_ok nmX5 hown hK hP (va_D_of hD rfl) hS 0 rfl rfl 0 (by decide) (hts _ q1662) (fun _ h => h) rfl rfl rfl rfl (Nat.le_of_ble_eq_true rfl) dX5_drawn_2 (fun H locs hP _ hS => ?_)
  have hP : va_P D clA ((o, .inr (0, [.int 0, .ref a1, .int bl, .int tl, .int ps, .int er, .int ea, .int eo, .ref a8, .ref a9, .ref a10, .int ud, .int ns, .int ne, .int se, .ref a15])) :: (a8, .inl (k 0, 1798, .inl d)) :: wr) H := hP
  refine lv_aload_n hx hb dX5_drawn_5 rfl (lv_at hl 0 rfl) ?_
  refine lv_iload_n hx hb dX5_drawn_6 rfl (lv_at hl 1 rfl) ?_
  refine w_callV (As := [.int x]) (rest := []) C (m_noCredit l D k o a1 a8 a9 a10 a15 bl tl ps er ea eo ud ns ne se wr d A (va_D_of hD rfl) hd x) (cwV 1 hts (lw_V q1885 q1887 qs52 q76 q1888) rfl rfl rfl (by decide +kernel) ⟨Nat.le_of_ble_eq_true rfl, Nat.le_of_ble_eq_true rfl⟩) hK (va_recv hK hP (ci := 0) (q0 := 0) rfl rfl) hP hS (fun _ h => h) rfl hl.1 rfl (Nat.le_of_ble_eq_true rfl) dX5_drawn_7 ⟨Nat.le_of_ble_eq_true rfl, Nat.le_of_ble_eq_true rfl⟩ (fun H locs hP hS _ _ => ?_)
  have hP : va_P D clA ((o, .inr (0, [.int (pick (¬ hasC d x) 1), .ref a1, .int bl, .int tl, .int ps, .int er, .int ea, .int eo, .ref a8, .ref a9, .ref a10, .int ud, .int ns, .int ne, .int se, .ref a15])) :: (a8, .inl (k 0, 1798, .inl d)) :: wr) H := hP
  refine lv_if_eq (tgt := 17) hx hb dX5_drawn_10 (by decide) (fun c_10 => ?_) (fun c_10 => ?_)
  · have b_10 := bI_0.mp c_10
    have hlk := hl
    have hPk := hP
    have hSk := hS
    obtain ⟨q, hq, rfl⟩ := hasC_n hd (Classical.not_not.mp b_10)
    have hl := hlk
    have hP := hPk
    have hS := hSk
    obtain ⟨⟨⟨_, n0⟩, ⟨_, n1⟩, -⟩, -⟩ := id hd
    refine lv_aload_n hx hb dX5_drawn_17 rfl (lv_at hl 0 rfl) ?_
    refine lv_iload_n hx hb dX5_drawn_18 rfl (lv_at hl 1 rfl) ?_
    refine r_callV (As := [.int (nI q)]) (rest := []) C (m_drawnOf l D k o a8 ([.int (pick (¬ hasC d (nI q)) 1), .ref a1, .int bl, .int tl, .int ps, .int er, .int ea, .int eo, .ref a8, .ref a9, .ref a10, .int ud, .int ns, .int ne, .int se, .ref a15] : List Value) d rfl hd (nI q)) (cwV 1 hts (lw_V q1909 q1911 qs55 q76 q1912) rfl rfl rfl (by decide +kernel) ⟨Nat.le_of_ble_eq_true rfl, Nat.le_of_ble_eq_true rfl⟩) hK (va_recv hK hP (ci := 0) (q0 := 0) rfl rfl) (hP.sub [0, 1] rfl) rfl hl.1 rfl (Nat.le_of_ble_eq_true rfl) dX5_drawn_19 ⟨Nat.le_of_ble_eq_true rfl, Nat.le_of_ble_eq_true rfl⟩ ?_
    exact w_iret C (by rw [pick_t (Classical.not_not.mp b_10)] <;> (try rw [ci_n (by omega)]) <;> (try rfl)) hP hS dX5_drawn_22
  · have b_10 := bI_nz c_10
    refine lv_iconst (v := 0) hx hb dX5_drawn_13 rfl ?_
    refine lv_goto (tgt := 22) hx hb dX5_drawn_14 (by decide) ?_
    exact w_iret C (pick_f b_10).symm hP hS dX5_drawn_22
set_option maxHeartbeats 4000000 in
theorem m_transferred (l : Launch) (D : va_G) (k : Nat → ClassId) (o a1 a8 a9 a10 a15 : Nat) (t bl tl ps er ea eo ud ns ne se : Int32) (wr : va_W) (d : Nat → Int32) (A : Nat → Prop) (hD : va_D A ((o, .inr (0, [.int t, .ref a1, .int bl, .int tl, .int ps, .int er, .int ea, .int eo, .ref a8, .ref a9, .ref a10, .int ud, .int ns, .int ne, .int se, .ref a15])) :: (a8, .inl (k 0, 1798, .inl d)) :: wr)) (hd : okD d) (x : Int32) : wM l D k yX5_transferred cX5_transferred 2 (some .int) 2 43 [.ref o, .int x] ((o, .inr (0, [.int t, .ref a1, .int bl, .int tl, .int ps, .int er, .int ea, .int eo, .ref a8, .ref a9, .ref a10, .int ud, .int ns, .int ne, .int se, .ref a15])) :: (a8, .inl (k 0, 1798, .inl d)) :: wr) (some (.int (pick (hasC d x) (transf d x)))) ((o, .inr (0, [.int (pick (¬ hasC d x) 1), .ref a1, .int bl, .int tl, .int ps, .int er, .int ea, .int eo, .ref a8, .ref a9, .ref a10, .int ud, .int ns, .int ne, .int se, .ref a15])) :: (a8, .inl (k 0, 1798, .inl d)) :: wr) A := by
  refine wM_of (by decide) (Nat.le_of_ble_eq_true rfl) ?_
  intro p e s m below meth c ls C hK hP hS hl
  obtain ⟨hx, hb, hr, hml, hown, hts, hlk⟩ := id C
  have hl : lv_has ls 2 [(0, .ref o), (1, .int x)] := hl
  refine lv_aload_n hx hb dX5_transferred_0 rfl (lv_at hl 0 rfl) ?_
  refine lv_iconst (v := 0) hx hb dX5_transferred_1 rfl ?_
  refine va_put hx hb hts in_X5 tyX5 tyX5_ok nmX5 hown hK hP (va_D_of hD rfl) hS 0 rfl rfl 0 (by decide) (hts _ q1662) (fun _ h => h) rfl rfl rfl rfl (Nat.le_of_ble_eq_true rfl) dX5_transferred_2 (fun H locs hP _ hS => ?_)
  have hP : va_P D clA ((o, .inr (0, [.int 0, .ref a1, .int bl, .int tl, .int ps, .int er, .int ea, .int eo, .ref a8, .ref a9, .ref a10, .int ud, .int ns, .int ne, .int se, .ref a15])) :: (a8, .inl (k 0, 1798, .inl d)) :: wr) H := hP
  refine lv_aload_n hx hb dX5_transferred_5 rfl (lv_at hl 0 rfl) ?_
  refine lv_iload_n hx hb dX5_transferred_6 rfl (lv_at hl 1 rfl) ?_
  refine w_callV (As := [.int x]) (rest := []) C (m_noCredit l D k o a1 a8 a9 a10 a15 bl tl ps er ea eo ud ns ne se wr d A (va_D_of hD rfl) hd x) (cwV 1 hts (lw_V q1885 q1887 qs52 q76 q1888) rfl rfl rfl (by decide +kernel) ⟨Nat.le_of_ble_eq_true rfl, Nat.le_of_ble_eq_true rfl⟩) hK (va_recv hK hP (ci := 0) (q0 := 0) rfl rfl) hP hS (fun _ h => h) rfl hl.1 rfl (Nat.le_of_ble_eq_true rfl) dX5_transferred_7 ⟨Nat.le_of_ble_eq_true rfl, Nat.le_of_ble_eq_true rfl⟩ (fun H locs hP hS _ _ => ?_)
  have hP : va_P D clA ((o, .inr (0, [.int (pick (¬ hasC d x) 1), .ref a1, .int bl, .int tl, .int ps, .int er, .int ea, .int eo, .ref a8, .ref a9, .ref a10, .int ud, .int ns, .int ne, .int se, .ref a15])) :: (a8, .inl (k 0, 1798, .inl d)) :: wr) H := hP
  refine lv_if_eq (tgt := 17) hx hb dX5_transferred_10 (by decide) (fun c_10 => ?_) (fun c_10 => ?_)
  · have b_10 := bI_0.mp c_10
    have hlk := hl
    have hPk := hP
    have hSk := hS
    obtain ⟨q, hq, rfl⟩ := hasC_n hd (Classical.not_not.mp b_10)
    have hl := hlk
    have hP := hPk
    have hS := hSk
    obtain ⟨⟨⟨_, n0⟩, ⟨_, n1⟩, -⟩, -⟩ := id hd
    refine lv_aload_n hx hb dX5_transferred_17 rfl (lv_at hl 0 rfl) ?_
    refine lv_iload_n hx hb dX5_transferred_18 rfl (lv_at hl 1 rfl) ?_
    refine r_callV (As := [.int (nI q)]) (rest := []) C (m_transferredOf l D k o a8 ([.int (pick (¬ hasC d (nI q)) 1), .ref a1, .int bl, .int tl, .int ps, .int er, .int ea, .int eo, .ref a8, .ref a9, .ref a10, .int ud, .int ns, .int ne, .int se, .ref a15] : List Value) d rfl hd (nI q)) (cwV 1 hts (lw_V q1924 q1926 qs57 q76 q1927) rfl rfl rfl (by decide +kernel) ⟨Nat.le_of_ble_eq_true rfl, Nat.le_of_ble_eq_true rfl⟩) hK (va_recv hK hP (ci := 0) (q0 := 0) rfl rfl) (hP.sub [0, 1] rfl) rfl hl.1 rfl (Nat.le_of_ble_eq_true rfl) dX5_transferred_19 ⟨Nat.le_of_ble_eq_true rfl, Nat.le_of_ble_eq_true rfl⟩ ?_
    exact w_iret C (by rw [pick_t (Classical.not_not.mp b_10)] <;> (try rw [ci_n (by omega)]) <;> (try rfl)) hP hS dX5_transferred_22
  · have b_10 := bI_nz c_10
    refine lv_iconst (v := 0) hx hb dX5_transferred_13 rfl ?_
    refine lv_goto (tgt := 22) hx hb dX5_transferred_14 (by decide) ?_
    exact w_iret C (pick_f b_10).symm hP hS dX5_transferred_22
set_option maxHeartbeats 4000000 in
theorem m_available (l : Launch) (D : va_G) (k : Nat → ClassId) (o a1 a8 a9 a10 a15 : Nat) (t bl tl ps er ea eo ud ns ne se : Int32) (wr : va_W) (d : Nat → Int32) (A : Nat → Prop) (hD : va_D A ((o, .inr (0, [.int t, .ref a1, .int bl, .int tl, .int ps, .int er, .int ea, .int eo, .ref a8, .ref a9, .ref a10, .int ud, .int ns, .int ne, .int se, .ref a15])) :: (a8, .inl (k 0, 1798, .inl d)) :: wr)) (hd : okD d) (x : Int32) : wM l D k yX5_available cX5_available 2 (some .int) 4 86 [.ref o, .int x] ((o, .inr (0, [.int t, .ref a1, .int bl, .int tl, .int ps, .int er, .int ea, .int eo, .ref a8, .ref a9, .ref a10, .int ud, .int ns, .int ne, .int se, .ref a15])) :: (a8, .inl (k 0, 1798, .inl d)) :: wr) (some (.int (pick (hasC d x) (avail d (ci x))))) ((o, .inr (0, [.int (pick (¬ hasC d x) 1), .ref a1, .int bl, .int tl, .int ps, .int er, .int ea, .int eo, .ref a8, .ref a9, .ref a10, .int ud, .int ns, .int ne, .int se, .ref a15])) :: (a8, .inl (k 0, 1798, .inl d)) :: wr) A := by
  refine wM_of (by decide) (Nat.le_of_ble_eq_true rfl) ?_
  intro p e s m below meth c ls C hK hP hS hl
  obtain ⟨hx, hb, hr, hml, hown, hts, hlk⟩ := id C
  have hl : lv_has ls 2 [(0, .ref o), (1, .int x)] := hl
  refine lv_aload_n hx hb dX5_available_0 rfl (lv_at hl 0 rfl) ?_
  refine lv_iconst (v := 0) hx hb dX5_available_1 rfl ?_
  refine va_put hx hb hts in_X5 tyX5 tyX5_ok nmX5 hown hK hP (va_D_of hD rfl) hS 0 rfl rfl 0 (by decide) (hts _ q1662) (fun _ h => h) rfl rfl rfl rfl (Nat.le_of_ble_eq_true rfl) dX5_available_2 (fun H locs hP _ hS => ?_)
  have hP : va_P D clA ((o, .inr (0, [.int 0, .ref a1, .int bl, .int tl, .int ps, .int er, .int ea, .int eo, .ref a8, .ref a9, .ref a10, .int ud, .int ns, .int ne, .int se, .ref a15])) :: (a8, .inl (k 0, 1798, .inl d)) :: wr) H := hP
  refine lv_aload_n hx hb dX5_available_5 rfl (lv_at hl 0 rfl) ?_
  refine lv_iload_n hx hb dX5_available_6 rfl (lv_at hl 1 rfl) ?_
  refine w_callV (As := [.int x]) (rest := []) C (m_noCredit l D k o a1 a8 a9 a10 a15 bl tl ps er ea eo ud ns ne se wr d A (va_D_of hD rfl) hd x) (cwV 1 hts (lw_V q1885 q1887 qs52 q76 q1888) rfl rfl rfl (by decide +kernel) ⟨Nat.le_of_ble_eq_true rfl, Nat.le_of_ble_eq_true rfl⟩) hK (va_recv hK hP (ci := 0) (q0 := 0) rfl rfl) hP hS (fun _ h => h) rfl hl.1 rfl (Nat.le_of_ble_eq_true rfl) dX5_available_7 ⟨Nat.le_of_ble_eq_true rfl, Nat.le_of_ble_eq_true rfl⟩ (fun H locs hP hS _ _ => ?_)
  have hP : va_P D clA ((o, .inr (0, [.int (pick (¬ hasC d x) 1), .ref a1, .int bl, .int tl, .int ps, .int er, .int ea, .int eo, .ref a8, .ref a9, .ref a10, .int ud, .int ns, .int ne, .int se, .ref a15])) :: (a8, .inl (k 0, 1798, .inl d)) :: wr) H := hP
  refine lv_if_eq (tgt := 17) hx hb dX5_available_10 (by decide) (fun c_10 => ?_) (fun c_10 => ?_)
  · have b_10 := bI_0.mp c_10
    have hlk := hl
    have hPk := hP
    have hSk := hS
    obtain ⟨q, hq, rfl⟩ := hasC_n hd (Classical.not_not.mp b_10)
    have hl := hlk
    have hP := hPk
    have hS := hSk
    obtain ⟨⟨⟨_, n0⟩, ⟨_, n1⟩, -⟩, -⟩ := id hd
    refine lv_aload_n hx hb dX5_available_17 rfl (lv_at hl 0 rfl) ?_
    refine lv_iload_n hx hb dX5_available_18 rfl (lv_at hl 1 rfl) ?_
    refine r_callV (As := [.int (nI q)]) (rest := []) C (m_availableOf l D k o a8 ([.int (pick (¬ hasC d (nI q)) 1), .ref a1, .int bl, .int tl, .int ps, .int er, .int ea, .int eo, .ref a8, .ref a9, .ref a10, .int ud, .int ns, .int ne, .int se, .ref a15] : List Value) d rfl hd q (by omega)) (cwV 1 hts (lw_V q1932 q1934 qs58 q76 q1935) rfl rfl rfl (by decide +kernel) ⟨Nat.le_of_ble_eq_true rfl, Nat.le_of_ble_eq_true rfl⟩) hK (va_recv hK hP (ci := 0) (q0 := 0) rfl rfl) (hP.sub [0, 1] rfl) rfl hl.1 rfl (Nat.le_of_ble_eq_true rfl) dX5_available_19 ⟨Nat.le_of_ble_eq_true rfl, Nat.le_of_ble_eq_true rfl⟩ ?_
    exact w_iret C (by rw [pick_t (Classical.not_not.mp b_10)] <;> (try rw [ci_n (by omega)]) <;> (try rfl)) hP hS dX5_available_22
  · have b_10 := bI_nz c_10
    refine lv_iconst (v := 0) hx hb dX5_available_13 rfl ?_
    refine lv_goto (tgt := 22) hx hb dX5_available_14 (by decide) ?_
    exact w_iret C (pick_f b_10).symm hP hS dX5_available_22
set_option maxHeartbeats 4000000 in
theorem m_creditOf (l : Launch) (D : va_G) (k : Nat → ClassId) (o a1 a8 a9 a10 a15 : Nat) (t bl tl ps er ea eo ud ns ne se : Int32) (wr : va_W) (d : Nat → Int32) (A : Nat → Prop) (hD : va_D A ((o, .inr (0, [.int t, .ref a1, .int bl, .int tl, .int ps, .int er, .int ea, .int eo, .ref a8, .ref a9, .ref a10, .int ud, .int ns, .int ne, .int se, .ref a15])) :: (a8, .inl (k 0, 1798, .inl d)) :: wr)) (hd : okD d) (x : Int32) : wM l D k yX5_creditOf cX5_creditOf 2 (some .int) 2 43 [.ref o, .int x] ((o, .inr (0, [.int t, .ref a1, .int bl, .int tl, .int ps, .int er, .int ea, .int eo, .ref a8, .ref a9, .ref a10, .int ud, .int ns, .int ne, .int se, .ref a15])) :: (a8, .inl (k 0, 1798, .inl d)) :: wr) (some (.int (pick (hasP d x) (pf d (ci x) 0)))) ((o, .inr (0, [.int (pick (¬ hasP d x) 1), .ref a1, .int bl, .int tl, .int ps, .int er, .int ea, .int eo, .ref a8, .ref a9, .ref a10, .int ud, .int ns, .int ne, .int se, .ref a15])) :: (a8, .inl (k 0, 1798, .inl d)) :: wr) A := by
  refine wM_of (by decide) (Nat.le_of_ble_eq_true rfl) ?_
  intro p e s m below meth c ls C hK hP hS hl
  obtain ⟨hx, hb, hr, hml, hown, hts, hlk⟩ := id C
  have hl : lv_has ls 2 [(0, .ref o), (1, .int x)] := hl
  refine lv_aload_n hx hb dX5_creditOf_0 rfl (lv_at hl 0 rfl) ?_
  refine lv_iconst (v := 0) hx hb dX5_creditOf_1 rfl ?_
  refine va_put hx hb hts in_X5 tyX5 tyX5_ok nmX5 hown hK hP (va_D_of hD rfl) hS 0 rfl rfl 0 (by decide) (hts _ q1662) (fun _ h => h) rfl rfl rfl rfl (Nat.le_of_ble_eq_true rfl) dX5_creditOf_2 (fun H locs hP _ hS => ?_)
  have hP : va_P D clA ((o, .inr (0, [.int 0, .ref a1, .int bl, .int tl, .int ps, .int er, .int ea, .int eo, .ref a8, .ref a9, .ref a10, .int ud, .int ns, .int ne, .int se, .ref a15])) :: (a8, .inl (k 0, 1798, .inl d)) :: wr) H := hP
  refine lv_aload_n hx hb dX5_creditOf_5 rfl (lv_at hl 0 rfl) ?_
  refine lv_iload_n hx hb dX5_creditOf_6 rfl (lv_at hl 1 rfl) ?_
  refine w_callV (As := [.int x]) (rest := []) C (m_noPresentation l D k o a1 a8 a9 a10 a15 bl tl ps er ea eo ud ns ne se wr d A (va_D_of hD rfl) hd x) (cwV 1 hts (lw_V q1961 q1963 qs62 q76 q1964) rfl rfl rfl (by decide +kernel) ⟨Nat.le_of_ble_eq_true rfl, Nat.le_of_ble_eq_true rfl⟩) hK (va_recv hK hP (ci := 0) (q0 := 0) rfl rfl) hP hS (fun _ h => h) rfl hl.1 rfl (Nat.le_of_ble_eq_true rfl) dX5_creditOf_7 ⟨Nat.le_of_ble_eq_true rfl, Nat.le_of_ble_eq_true rfl⟩ (fun H locs hP hS _ _ => ?_)
  have hP : va_P D clA ((o, .inr (0, [.int (pick (¬ hasP d x) 1), .ref a1, .int bl, .int tl, .int ps, .int er, .int ea, .int eo, .ref a8, .ref a9, .ref a10, .int ud, .int ns, .int ne, .int se, .ref a15])) :: (a8, .inl (k 0, 1798, .inl d)) :: wr) H := hP
  refine lv_if_eq (tgt := 17) hx hb dX5_creditOf_10 (by decide) (fun c_10 => ?_) (fun c_10 => ?_)
  · have b_10 := bI_0.mp c_10
    have hlk := hl
    have hPk := hP
    have hSk := hS
    obtain ⟨q, hq, rfl⟩ := hasP_n hd (Classical.not_not.mp b_10)
    have hl := hlk
    have hP := hPk
    have hS := hSk
    obtain ⟨⟨⟨_, n0⟩, ⟨_, n1⟩, -⟩, -⟩ := id hd
    refine lv_aload_n hx hb dX5_creditOf_17 rfl (lv_at hl 0 rfl) ?_
    refine va_get hx hb hts in_X5 hown hK hP 0 rfl rfl 8 (by decide) (hts _ q1670) (fun _ h => h) rfl dX5_creditOf_18 ?_
    refine lv_iload_n hx hb dX5_creditOf_21 rfl (lv_at hl 1 rfl) ?_
    refine r_callS (As := [.int (nI q)]) (rest := [.ref a8]) C (m_presentationN l D k q) (va_cwS 1 hts (lw_S q1917 q1918 q76 q1919) rfl rfl rfl (by decide +kernel) ⟨Nat.le_of_ble_eq_true rfl, Nat.le_of_ble_eq_true rfl⟩) hK trivial rfl hl.1 rfl (Nat.le_of_ble_eq_true rfl) dX5_creditOf_22 ⟨Nat.le_of_ble_eq_true rfl, Nat.le_of_ble_eq_true rfl⟩ ?_
    refine w_iald hx hb hK hP 1 rfl (154 + 6 * q) rfl (by omega) (Nat.le_of_ble_eq_true rfl) dX5_creditOf_25 ?_
    exact w_iret C (by rw [pick_t (Classical.not_not.mp b_10)] <;> (try rw [ci_n (by omega)]) <;> (try rfl)) hP hS dX5_creditOf_26
  · have b_10 := bI_nz c_10
    refine lv_iconst (v := 0) hx hb dX5_creditOf_13 rfl ?_
    refine lv_goto (tgt := 26) hx hb dX5_creditOf_14 (by decide) ?_
    exact w_iret C (pick_f b_10).symm hP hS dX5_creditOf_26
set_option maxHeartbeats 4000000 in
theorem m_state (l : Launch) (D : va_G) (k : Nat → ClassId) (o a1 a8 a9 a10 a15 : Nat) (t bl tl ps er ea eo ud ns ne se : Int32) (wr : va_W) (d : Nat → Int32) (A : Nat → Prop) (hD : va_D A ((o, .inr (0, [.int t, .ref a1, .int bl, .int tl, .int ps, .int er, .int ea, .int eo, .ref a8, .ref a9, .ref a10, .int ud, .int ns, .int ne, .int se, .ref a15])) :: (a8, .inl (k 0, 1798, .inl d)) :: wr)) (hd : okD d) (x : Int32) : wM l D k yX5_state cX5_state 2 (some .int) 2 43 [.ref o, .int x] ((o, .inr (0, [.int t, .ref a1, .int bl, .int tl, .int ps, .int er, .int ea, .int eo, .ref a8, .ref a9, .ref a10, .int ud, .int ns, .int ne, .int se, .ref a15])) :: (a8, .inl (k 0, 1798, .inl d)) :: wr) (some (.int (pick (hasP d x) (pf d (ci x) 4)))) ((o, .inr (0, [.int (pick (¬ hasP d x) 1), .ref a1, .int bl, .int tl, .int ps, .int er, .int ea, .int eo, .ref a8, .ref a9, .ref a10, .int ud, .int ns, .int ne, .int se, .ref a15])) :: (a8, .inl (k 0, 1798, .inl d)) :: wr) A := by
  refine wM_of (by decide) (Nat.le_of_ble_eq_true rfl) ?_
  intro p e s m below meth c ls C hK hP hS hl
  obtain ⟨hx, hb, hr, hml, hown, hts, hlk⟩ := id C
  have hl : lv_has ls 2 [(0, .ref o), (1, .int x)] := hl
  refine lv_aload_n hx hb dX5_state_0 rfl (lv_at hl 0 rfl) ?_
  refine lv_iconst (v := 0) hx hb dX5_state_1 rfl ?_
  refine va_put hx hb hts in_X5 tyX5 tyX5_ok nmX5 hown hK hP (va_D_of hD rfl) hS 0 rfl rfl 0 (by decide) (hts _ q1662) (fun _ h => h) rfl rfl rfl rfl (Nat.le_of_ble_eq_true rfl) dX5_state_2 (fun H locs hP _ hS => ?_)
  have hP : va_P D clA ((o, .inr (0, [.int 0, .ref a1, .int bl, .int tl, .int ps, .int er, .int ea, .int eo, .ref a8, .ref a9, .ref a10, .int ud, .int ns, .int ne, .int se, .ref a15])) :: (a8, .inl (k 0, 1798, .inl d)) :: wr) H := hP
  refine lv_aload_n hx hb dX5_state_5 rfl (lv_at hl 0 rfl) ?_
  refine lv_iload_n hx hb dX5_state_6 rfl (lv_at hl 1 rfl) ?_
  refine w_callV (As := [.int x]) (rest := []) C (m_noPresentation l D k o a1 a8 a9 a10 a15 bl tl ps er ea eo ud ns ne se wr d A (va_D_of hD rfl) hd x) (cwV 1 hts (lw_V q1961 q1963 qs62 q76 q1964) rfl rfl rfl (by decide +kernel) ⟨Nat.le_of_ble_eq_true rfl, Nat.le_of_ble_eq_true rfl⟩) hK (va_recv hK hP (ci := 0) (q0 := 0) rfl rfl) hP hS (fun _ h => h) rfl hl.1 rfl (Nat.le_of_ble_eq_true rfl) dX5_state_7 ⟨Nat.le_of_ble_eq_true rfl, Nat.le_of_ble_eq_true rfl⟩ (fun H locs hP hS _ _ => ?_)
  have hP : va_P D clA ((o, .inr (0, [.int (pick (¬ hasP d x) 1), .ref a1, .int bl, .int tl, .int ps, .int er, .int ea, .int eo, .ref a8, .ref a9, .ref a10, .int ud, .int ns, .int ne, .int se, .ref a15])) :: (a8, .inl (k 0, 1798, .inl d)) :: wr) H := hP
  refine lv_if_eq (tgt := 17) hx hb dX5_state_10 (by decide) (fun c_10 => ?_) (fun c_10 => ?_)
  · have b_10 := bI_0.mp c_10
    have hlk := hl
    have hPk := hP
    have hSk := hS
    obtain ⟨q, hq, rfl⟩ := hasP_n hd (Classical.not_not.mp b_10)
    have hl := hlk
    have hP := hPk
    have hS := hSk
    obtain ⟨⟨⟨_, n0⟩, ⟨_, n1⟩, -⟩, -⟩ := id hd
    refine lv_aload_n hx hb dX5_state_17 rfl (lv_at hl 0 rfl) ?_
    refine va_get hx hb hts in_X5 hown hK hP 0 rfl rfl 8 (by decide) (hts _ q1670) (fun _ h => h) rfl dX5_state_18 ?_
    refine lv_iload_n hx hb dX5_state_21 rfl (lv_at hl 1 rfl) ?_
    refine r_callS (As := [.int (nI q)]) (rest := [.ref a8]) C (m_presentationN l D k q) (va_cwS 1 hts (lw_S q1917 q1918 q76 q1919) rfl rfl rfl (by decide +kernel) ⟨Nat.le_of_ble_eq_true rfl, Nat.le_of_ble_eq_true rfl⟩) hK trivial rfl hl.1 rfl (Nat.le_of_ble_eq_true rfl) dX5_state_22 ⟨Nat.le_of_ble_eq_true rfl, Nat.le_of_ble_eq_true rfl⟩ ?_
    refine lv_iconst (v := 4) hx hb dX5_state_25 rfl ?_
    refine lv_iadd hx hb dX5_state_26 ?_
    refine w_topi (y := nI ((154 + 6 * q) + 4)) (nI_add (154 + 6 * q) 4) ?_
    refine w_iald hx hb hK hP 1 rfl ((154 + 6 * q) + 4) rfl (by omega) (Nat.le_of_ble_eq_true rfl) dX5_state_27 ?_
    exact w_iret C (by rw [pick_t (Classical.not_not.mp b_10)] <;> (try rw [ci_n (by omega)]) <;> (try rfl)) hP hS dX5_state_28
  · have b_10 := bI_nz c_10
    refine lv_iconst (v := 0) hx hb dX5_state_13 rfl ?_
    refine lv_goto (tgt := 28) hx hb dX5_state_14 (by decide) ?_
    exact w_iret C (pick_f b_10).symm hP hS dX5_state_28
set_option maxHeartbeats 4000000 in
theorem m_discrepancies (l : Launch) (D : va_G) (k : Nat → ClassId) (o a1 a8 a9 a10 a15 : Nat) (t bl tl ps er ea eo ud ns ne se : Int32) (wr : va_W) (d : Nat → Int32) (A : Nat → Prop) (hD : va_D A ((o, .inr (0, [.int t, .ref a1, .int bl, .int tl, .int ps, .int er, .int ea, .int eo, .ref a8, .ref a9, .ref a10, .int ud, .int ns, .int ne, .int se, .ref a15])) :: (a8, .inl (k 0, 1798, .inl d)) :: wr)) (hd : okD d) (x : Int32) : wM l D k yX5_discrepancies cX5_discrepancies 2 (some .int) 2 43 [.ref o, .int x] ((o, .inr (0, [.int t, .ref a1, .int bl, .int tl, .int ps, .int er, .int ea, .int eo, .ref a8, .ref a9, .ref a10, .int ud, .int ns, .int ne, .int se, .ref a15])) :: (a8, .inl (k 0, 1798, .inl d)) :: wr) (some (.int (pick (hasP d x) (pf d (ci x) 3)))) ((o, .inr (0, [.int (pick (¬ hasP d x) 1), .ref a1, .int bl, .int tl, .int ps, .int er, .int ea, .int eo, .ref a8, .ref a9, .ref a10, .int ud, .int ns, .int ne, .int se, .ref a15])) :: (a8, .inl (k 0, 1798, .inl d)) :: wr) A := by
  refine wM_of (by decide) (Nat.le_of_ble_eq_true rfl) ?_
  intro p e s m below meth c ls C hK hP hS hl
  obtain ⟨hx, hb, hr, hml, hown, hts, hlk⟩ := id C
  have hl : lv_has ls 2 [(0, .ref o), (1, .int x)] := hl
  refine lv_aload_n hx hb dX5_discrepancies_0 rfl (lv_at hl 0 rfl) ?_
  refine lv_iconst (v := 0) hx hb dX5_discrepancies_1 rfl ?_
  refine va_put hx hb hts in_X5 tyX5 tyX5_ok nmX5 hown hK hP (va_D_of hD rfl) hS 0 rfl rfl 0 (by decide) (hts _ q1662) (fun _ h => h) rfl rfl rfl rfl (Nat.le_of_ble_eq_true rfl) dX5_discrepancies_2 (fun H locs hP _ hS => ?_)
  have hP : va_P D clA ((o, .inr (0, [.int 0, .ref a1, .int bl, .int tl, .int ps, .int er, .int ea, .int eo, .ref a8, .ref a9, .ref a10, .int ud, .int ns, .int ne, .int se, .ref a15])) :: (a8, .inl (k 0, 1798, .inl d)) :: wr) H := hP
  refine lv_aload_n hx hb dX5_discrepancies_5 rfl (lv_at hl 0 rfl) ?_
  refine lv_iload_n hx hb dX5_discrepancies_6 rfl (lv_at hl 1 rfl) ?_
  refine w_callV (As := [.int x]) (rest := []) C (m_noPresentation l D k o a1 a8 a9 a10 a15 bl tl ps er ea eo ud ns ne se wr d A (va_D_of hD rfl) hd x) (cwV 1 hts (lw_V q1961 q1963 qs62 q76 q1964) rfl rfl rfl (by decide +kernel) ⟨Nat.le_of_ble_eq_true rfl, Nat.le_of_ble_eq_true rfl⟩) hK (va_recv hK hP (ci := 0) (q0 := 0) rfl rfl) hP hS (fun _ h => h) rfl hl.1 rfl (Nat.le_of_ble_eq_true rfl) dX5_discrepancies_7 ⟨Nat.le_of_ble_eq_true rfl, Nat.le_of_ble_eq_true rfl⟩ (fun H locs hP hS _ _ => ?_)
  have hP : va_P D clA ((o, .inr (0, [.int (pick (¬ hasP d x) 1), .ref a1, .int bl, .int tl, .int ps, .int er, .int ea, .int eo, .ref a8, .ref a9, .ref a10, .int ud, .int ns, .int ne, .int se, .ref a15])) :: (a8, .inl (k 0, 1798, .inl d)) :: wr) H := hP
  refine lv_if_eq (tgt := 17) hx hb dX5_discrepancies_10 (by decide) (fun c_10 => ?_) (fun c_10 => ?_)
  · have b_10 := bI_0.mp c_10
    have hlk := hl
    have hPk := hP
    have hSk := hS
    obtain ⟨q, hq, rfl⟩ := hasP_n hd (Classical.not_not.mp b_10)
    have hl := hlk
    have hP := hPk
    have hS := hSk
    obtain ⟨⟨⟨_, n0⟩, ⟨_, n1⟩, -⟩, -⟩ := id hd
    refine lv_aload_n hx hb dX5_discrepancies_17 rfl (lv_at hl 0 rfl) ?_
    refine va_get hx hb hts in_X5 hown hK hP 0 rfl rfl 8 (by decide) (hts _ q1670) (fun _ h => h) rfl dX5_discrepancies_18 ?_
    refine lv_iload_n hx hb dX5_discrepancies_21 rfl (lv_at hl 1 rfl) ?_
    refine r_callS (As := [.int (nI q)]) (rest := [.ref a8]) C (m_presentationN l D k q) (va_cwS 1 hts (lw_S q1917 q1918 q76 q1919) rfl rfl rfl (by decide +kernel) ⟨Nat.le_of_ble_eq_true rfl, Nat.le_of_ble_eq_true rfl⟩) hK trivial rfl hl.1 rfl (Nat.le_of_ble_eq_true rfl) dX5_discrepancies_22 ⟨Nat.le_of_ble_eq_true rfl, Nat.le_of_ble_eq_true rfl⟩ ?_
    refine lv_iconst (v := 3) hx hb dX5_discrepancies_25 rfl ?_
    refine lv_iadd hx hb dX5_discrepancies_26 ?_
    refine w_topi (y := nI ((154 + 6 * q) + 3)) (nI_add (154 + 6 * q) 3) ?_
    refine w_iald hx hb hK hP 1 rfl ((154 + 6 * q) + 3) rfl (by omega) (Nat.le_of_ble_eq_true rfl) dX5_discrepancies_27 ?_
    exact w_iret C (by rw [pick_t (Classical.not_not.mp b_10)] <;> (try rw [ci_n (by omega)]) <;> (try rfl)) hP hS dX5_discrepancies_28
  · have b_10 := bI_nz c_10
    refine lv_iconst (v := 0) hx hb dX5_discrepancies_13 rfl ?_
    refine lv_goto (tgt := 28) hx hb dX5_discrepancies_14 (by decide) ?_
    exact w_iret C (pick_f b_10).symm hP hS dX5_discrepancies_28
set_option maxHeartbeats 4000000 in
theorem m_deadline (l : Launch) (D : va_G) (k : Nat → ClassId) (o a1 a8 a9 a10 a15 : Nat) (t bl tl ps er ea eo ud ns ne se : Int32) (wr : va_W) (d : Nat → Int32) (A : Nat → Prop) (hD : va_D A ((o, .inr (0, [.int t, .ref a1, .int bl, .int tl, .int ps, .int er, .int ea, .int eo, .ref a8, .ref a9, .ref a10, .int ud, .int ns, .int ne, .int se, .ref a15])) :: (a8, .inl (k 0, 1798, .inl d)) :: wr)) (hd : okD d) (x : Int32) : wM l D k yX5_deadline cX5_deadline 2 (some .int) 4 89 [.ref o, .int x] ((o, .inr (0, [.int t, .ref a1, .int bl, .int tl, .int ps, .int er, .int ea, .int eo, .ref a8, .ref a9, .ref a10, .int ud, .int ns, .int ne, .int se, .ref a15])) :: (a8, .inl (k 0, 1798, .inl d)) :: wr) (some (.int (pick (hasP d x) (nI (dead d (ci x)))))) ((o, .inr (0, [.int (pick (¬ hasP d x) 1), .ref a1, .int bl, .int tl, .int ps, .int er, .int ea, .int eo, .ref a8, .ref a9, .ref a10, .int ud, .int ns, .int ne, .int se, .ref a15])) :: (a8, .inl (k 0, 1798, .inl d)) :: wr) A := by
  refine wM_of (by decide) (Nat.le_of_ble_eq_true rfl) ?_
  intro p e s m below meth c ls C hK hP hS hl
  obtain ⟨hx, hb, hr, hml, hown, hts, hlk⟩ := id C
  have hl : lv_has ls 2 [(0, .ref o), (1, .int x)] := hl
  refine lv_aload_n hx hb dX5_deadline_0 rfl (lv_at hl 0 rfl) ?_
  refine lv_iconst (v := 0) hx hb dX5_deadline_1 rfl ?_
  refine va_put hx hb hts in_X5 tyX5 tyX5_ok nmX5 hown hK hP (va_D_of hD rfl) hS 0 rfl rfl 0 (by decide) (hts _ q1662) (fun _ h => h) rfl rfl rfl rfl (Nat.le_of_ble_eq_true rfl) dX5_deadline_2 (fun H locs hP _ hS => ?_)
  have hP : va_P D clA ((o, .inr (0, [.int 0, .ref a1, .int bl, .int tl, .int ps, .int er, .int ea, .int eo, .ref a8, .ref a9, .ref a10, .int ud, .int ns, .int ne, .int se, .ref a15])) :: (a8, .inl (k 0, 1798, .inl d)) :: wr) H := hP
  refine lv_aload_n hx hb dX5_deadline_5 rfl (lv_at hl 0 rfl) ?_
  refine lv_iload_n hx hb dX5_deadline_6 rfl (lv_at hl 1 rfl) ?_
  refine w_callV (As := [.int x]) (rest := []) C (m_noPresentation l D k o a1 a8 a9 a10 a15 bl tl ps er ea eo ud ns ne se wr d A (va_D_of hD rfl) hd x) (cwV 1 hts (lw_V q1961 q1963 qs62 q76 q1964) rfl rfl rfl (by decide +kernel) ⟨Nat.le_of_ble_eq_true rfl, Nat.le_of_ble_eq_true rfl⟩) hK (va_recv hK hP (ci := 0) (q0 := 0) rfl rfl) hP hS (fun _ h => h) rfl hl.1 rfl (Nat.le_of_ble_eq_true rfl) dX5_deadline_7 ⟨Nat.le_of_ble_eq_true rfl, Nat.le_of_ble_eq_true rfl⟩ (fun H locs hP hS _ _ => ?_)
  have hP : va_P D clA ((o, .inr (0, [.int (pick (¬ hasP d x) 1), .ref a1, .int bl, .int tl, .int ps, .int er, .int ea, .int eo, .ref a8, .ref a9, .ref a10, .int ud, .int ns, .int ne, .int se, .ref a15])) :: (a8, .inl (k 0, 1798, .inl d)) :: wr) H := hP
  refine lv_if_eq (tgt := 17) hx hb dX5_deadline_10 (by decide) (fun c_10 => ?_) (fun c_10 => ?_)
  · have b_10 := bI_0.mp c_10
    have hlk := hl
    have hPk := hP
    have hSk := hS
    obtain ⟨q, hq, rfl⟩ := hasP_n hd (Classical.not_not.mp b_10)
    have hl := hlk
    have hP := hPk
    have hS := hSk
    obtain ⟨⟨⟨_, n0⟩, ⟨_, n1⟩, -⟩, -⟩ := id hd
    refine lv_aload_n hx hb dX5_deadline_17 rfl (lv_at hl 0 rfl) ?_
    refine lv_iload_n hx hb dX5_deadline_18 rfl (lv_at hl 1 rfl) ?_
    refine r_callV (As := [.int (nI q)]) (rest := []) C (m_deadlineOf l D k o a8 ([.int (pick (¬ hasP d (nI q)) 1), .ref a1, .int bl, .int tl, .int ps, .int er, .int ea, .int eo, .ref a8, .ref a9, .ref a10, .int ud, .int ns, .int ne, .int se, .ref a15] : List Value) d rfl hd q (by omega)) (cwV 1 hts (lw_V q1977 q1979 qs63 q76 q1980) rfl rfl rfl (by decide +kernel) ⟨Nat.le_of_ble_eq_true rfl, Nat.le_of_ble_eq_true rfl⟩) hK (va_recv hK hP (ci := 0) (q0 := 0) rfl rfl) (hP.sub [0, 1] rfl) rfl hl.1 rfl (Nat.le_of_ble_eq_true rfl) dX5_deadline_19 ⟨Nat.le_of_ble_eq_true rfl, Nat.le_of_ble_eq_true rfl⟩ ?_
    exact w_iret C (by rw [pick_t (Classical.not_not.mp b_10)] <;> (try rw [ci_n (by omega)]) <;> (try rfl)) hP hS dX5_deadline_22
  · have b_10 := bI_nz c_10
    refine lv_iconst (v := 0) hx hb dX5_deadline_13 rfl ?_
    refine lv_goto (tgt := 22) hx hb dX5_deadline_14 (by decide) ?_
    exact w_iret C (pick_f b_10).symm hP hS dX5_deadline_22
set_option maxHeartbeats 4000000 in
theorem m_dueDay (l : Launch) (D : va_G) (k : Nat → ClassId) (o a1 a8 a9 a10 a15 : Nat) (t bl tl ps er ea eo ud ns ne se : Int32) (wr : va_W) (d : Nat → Int32) (A : Nat → Prop) (hD : va_D A ((o, .inr (0, [.int t, .ref a1, .int bl, .int tl, .int ps, .int er, .int ea, .int eo, .ref a8, .ref a9, .ref a10, .int ud, .int ns, .int ne, .int se, .ref a15])) :: (a8, .inl (k 0, 1798, .inl d)) :: wr)) (hd : okD d) (x : Int32) : wM l D k yX5_dueDay cX5_dueDay 2 (some .int) 3 66 [.ref o, .int x] ((o, .inr (0, [.int t, .ref a1, .int bl, .int tl, .int ps, .int er, .int ea, .int eo, .ref a8, .ref a9, .ref a10, .int ud, .int ns, .int ne, .int se, .ref a15])) :: (a8, .inl (k 0, 1798, .inl d)) :: wr) (some (.int (pick (hasP d x) (due d (ci x))))) ((o, .inr (0, [.int (pick (¬ hasP d x) 1), .ref a1, .int bl, .int tl, .int ps, .int er, .int ea, .int eo, .ref a8, .ref a9, .ref a10, .int ud, .int ns, .int ne, .int se, .ref a15])) :: (a8, .inl (k 0, 1798, .inl d)) :: wr) A := by
  refine wM_of (by decide) (Nat.le_of_ble_eq_true rfl) ?_
  intro p e s m below meth c ls C hK hP hS hl
  obtain ⟨hx, hb, hr, hml, hown, hts, hlk⟩ := id C
  have hl : lv_has ls 2 [(0, .ref o), (1, .int x)] := hl
  refine lv_aload_n hx hb dX5_dueDay_0 rfl (lv_at hl 0 rfl) ?_
  refine lv_iconst (v := 0) hx hb dX5_dueDay_1 rfl ?_
  refine va_put hx hb hts in_X5 tyX5 tyX5_ok nmX5 hown hK hP (va_D_of hD rfl) hS 0 rfl rfl 0 (by decide) (hts _ q1662) (fun _ h => h) rfl rfl rfl rfl (Nat.le_of_ble_eq_true rfl) dX5_dueDay_2 (fun H locs hP _ hS => ?_)
  have hP : va_P D clA ((o, .inr (0, [.int 0, .ref a1, .int bl, .int tl, .int ps, .int er, .int ea, .int eo, .ref a8, .ref a9, .ref a10, .int ud, .int ns, .int ne, .int se, .ref a15])) :: (a8, .inl (k 0, 1798, .inl d)) :: wr) H := hP
  refine lv_aload_n hx hb dX5_dueDay_5 rfl (lv_at hl 0 rfl) ?_
  refine lv_iload_n hx hb dX5_dueDay_6 rfl (lv_at hl 1 rfl) ?_
  refine w_callV (As := [.int x]) (rest := []) C (m_noPresentation l D k o a1 a8 a9 a10 a15 bl tl ps er ea eo ud ns ne se wr d A (va_D_of hD rfl) hd x) (cwV 1 hts (lw_V q1961 q1963 qs62 q76 q1964) rfl rfl rfl (by decide +kernel) ⟨Nat.le_of_ble_eq_true rfl, Nat.le_of_ble_eq_true rfl⟩) hK (va_recv hK hP (ci := 0) (q0 := 0) rfl rfl) hP hS (fun _ h => h) rfl hl.1 rfl (Nat.le_of_ble_eq_true rfl) dX5_dueDay_7 ⟨Nat.le_of_ble_eq_true rfl, Nat.le_of_ble_eq_true rfl⟩ (fun H locs hP hS _ _ => ?_)
  have hP : va_P D clA ((o, .inr (0, [.int (pick (¬ hasP d x) 1), .ref a1, .int bl, .int tl, .int ps, .int er, .int ea, .int eo, .ref a8, .ref a9, .ref a10, .int ud, .int ns, .int ne, .int se, .ref a15])) :: (a8, .inl (k 0, 1798, .inl d)) :: wr) H := hP
  refine lv_if_eq (tgt := 17) hx hb dX5_dueDay_10 (by decide) (fun c_10 => ?_) (fun c_10 => ?_)
  · have b_10 := bI_0.mp c_10
    have hlk := hl
    have hPk := hP
    have hSk := hS
    obtain ⟨q, hq, rfl⟩ := hasP_n hd (Classical.not_not.mp b_10)
    have hl := hlk
    have hP := hPk
    have hS := hSk
    obtain ⟨⟨⟨_, n0⟩, ⟨_, n1⟩, -⟩, -⟩ := id hd
    refine lv_aload_n hx hb dX5_dueDay_17 rfl (lv_at hl 0 rfl) ?_
    refine lv_iload_n hx hb dX5_dueDay_18 rfl (lv_at hl 1 rfl) ?_
    refine r_callV (As := [.int (nI q)]) (rest := []) C (m_dueOf l D k o a8 ([.int (pick (¬ hasP d (nI q)) 1), .ref a1, .int bl, .int tl, .int ps, .int er, .int ea, .int eo, .ref a8, .ref a9, .ref a10, .int ud, .int ns, .int ne, .int se, .ref a15] : List Value) d rfl hd q (by omega)) (cwV 1 hts (lw_V q1985 q1987 qs64 q76 q1988) rfl rfl rfl (by decide +kernel) ⟨Nat.le_of_ble_eq_true rfl, Nat.le_of_ble_eq_true rfl⟩) hK (va_recv hK hP (ci := 0) (q0 := 0) rfl rfl) (hP.sub [0, 1] rfl) rfl hl.1 rfl (Nat.le_of_ble_eq_true rfl) dX5_dueDay_19 ⟨Nat.le_of_ble_eq_true rfl, Nat.le_of_ble_eq_true rfl⟩ ?_
    exact w_iret C (by rw [pick_t (Classical.not_not.mp b_10)] <;> (try rw [ci_n (by omega)]) <;> (try rfl)) hP hS dX5_dueDay_22
  · have b_10 := bI_nz c_10
    refine lv_iconst (v := 0) hx hb dX5_dueDay_13 rfl ?_
    refine lv_goto (tgt := 22) hx hb dX5_dueDay_14 (by decide) ?_
    exact w_iret C (pick_f b_10).symm hP hS dX5_dueDay_22
set_option maxHeartbeats 4000000 in
theorem m_bound (l : Launch) (D : va_G) (k : Nat → ClassId) (o a1 a8 a9 a10 a15 : Nat) (t bl tl ps er ea eo ud ns ne se : Int32) (wr : va_W) (d : Nat → Int32) (A : Nat → Prop) (hD : va_D A ((o, .inr (0, [.int t, .ref a1, .int bl, .int tl, .int ps, .int er, .int ea, .int eo, .ref a8, .ref a9, .ref a10, .int ud, .int ns, .int ne, .int se, .ref a15])) :: (a8, .inl (k 0, 1798, .inl d)) :: wr)) (hd : okD d) (x : Int32) (up : Int32) : wM l D k yX5_bound cX5_bound 3 (some .int) 2 43 [.ref o, .int x, .int up] ((o, .inr (0, [.int t, .ref a1, .int bl, .int tl, .int ps, .int er, .int ea, .int eo, .ref a8, .ref a9, .ref a10, .int ud, .int ns, .int ne, .int se, .ref a15])) :: (a8, .inl (k 0, 1798, .inl d)) :: wr) (some (.int (pick (hasC d x) (@ite _ (up = 0) (inferInstance) (least d (ci x)) (most d (ci x)))))) ((o, .inr (0, [.int (pick (¬ hasC d x) 1), .ref a1, .int bl, .int tl, .int ps, .int er, .int ea, .int eo, .ref a8, .ref a9, .ref a10, .int ud, .int ns, .int ne, .int se, .ref a15])) :: (a8, .inl (k 0, 1798, .inl d)) :: wr) A := by
  refine wM_of (by decide) (Nat.le_of_ble_eq_true rfl) ?_
  intro p e s m below meth c ls C hK hP hS hl
  obtain ⟨hx, hb, hr, hml, hown, hts, hlk⟩ := id C
  have hl : lv_has ls 3 [(0, .ref o), (1, .int x), (2, .int up)] := hl
  refine lv_aload_n hx hb dX5_bound_0 rfl (lv_at hl 0 rfl) ?_
  refine lv_iconst (v := 0) hx hb dX5_bound_1 rfl ?_
  refine va_put hx hb hts in_X5 tyX5 tyX5_ok nmX5 hown hK hP (va_D_of hD rfl) hS 0 rfl rfl 0 (by decide) (hts _ q1662) (fun _ h => h) rfl rfl rfl rfl (Nat.le_of_ble_eq_true rfl) dX5_bound_2 (fun H locs hP _ hS => ?_)
  have hP : va_P D clA ((o, .inr (0, [.int 0, .ref a1, .int bl, .int tl, .int ps, .int er, .int ea, .int eo, .ref a8, .ref a9, .ref a10, .int ud, .int ns, .int ne, .int se, .ref a15])) :: (a8, .inl (k 0, 1798, .inl d)) :: wr) H := hP
  refine lv_aload_n hx hb dX5_bound_5 rfl (lv_at hl 0 rfl) ?_
  refine lv_iload_n hx hb dX5_bound_6 rfl (lv_at hl 1 rfl) ?_
  refine w_callV (As := [.int x]) (rest := []) C (m_noCredit l D k o a1 a8 a9 a10 a15 bl tl ps er ea eo ud ns ne se wr d A (va_D_of hD rfl) hd x) (cwV 1 hts (lw_V q1885 q1887 qs52 q76 q1888) rfl rfl rfl (by decide +kernel) ⟨Nat.le_of_ble_eq_true rfl, Nat.le_of_ble_eq_true rfl⟩) hK (va_recv hK hP (ci := 0) (q0 := 0) rfl rfl) hP hS (fun _ h => h) rfl hl.1 rfl (Nat.le_of_ble_eq_true rfl) dX5_bound_7 ⟨Nat.le_of_ble_eq_true rfl, Nat.le_of_ble_eq_true rfl⟩ (fun H locs hP hS _ _ => ?_)
  have hP : va_P D clA ((o, .inr (0, [.int (pick (¬ hasC d x) 1), .ref a1, .int bl, .int tl, .int ps, .int er, .int ea, .int eo, .ref a8, .ref a9, .ref a10, .int ud, .int ns, .int ne, .int se, .ref a15])) :: (a8, .inl (k 0, 1798, .inl d)) :: wr) H := hP
  refine lv_if_eq (tgt := 17) hx hb dX5_bound_10 (by decide) (fun c_10 => ?_) (fun c_10 => ?_)
  · have b_10 := bI_0.mp c_10
    have hlk := hl
    have hPk := hP
    have hSk := hS
    obtain ⟨q, hq, rfl⟩ := hasC_n hd (Classical.not_not.mp b_10)
    have hl := hlk
    have hP := hPk
    have hS := hSk
    obtain ⟨⟨⟨_, n0⟩, ⟨_, n1⟩, -⟩, -⟩ := id hd
    refine lv_iload_n hx hb dX5_bound_17 rfl (lv_at hl 2 rfl) ?_
    refine lv_if_eq (tgt := 29) hx hb dX5_bound_18 (by decide) (fun c_18 => ?_) (fun c_18 => ?_)
    · refine lv_aload_n hx hb dX5_bound_29 rfl (lv_at hl 0 rfl) ?_
      refine lv_iload_n hx hb dX5_bound_30 rfl (lv_at hl 1 rfl) ?_
      refine r_callV (As := [.int (nI q)]) (rest := []) C (m_least l D k o a8 ([.int (pick (¬ hasC d (nI q)) 1), .ref a1, .int bl, .int tl, .int ps, .int er, .int ea, .int eo, .ref a8, .ref a9, .ref a10, .int ud, .int ns, .int ne, .int se, .ref a15] : List Value) d rfl hd q (by omega)) (cwV 1 hts (lw_V q1897 q1899 qs54 q76 q1900) rfl rfl rfl (by decide +kernel) ⟨Nat.le_of_ble_eq_true rfl, Nat.le_of_ble_eq_true rfl⟩) hK (va_recv hK hP (ci := 0) (q0 := 0) rfl rfl) (hP.sub [0, 1] rfl) rfl hl.1 rfl (Nat.le_of_ble_eq_true rfl) dX5_bound_31 ⟨Nat.le_of_ble_eq_true rfl, Nat.le_of_ble_eq_true rfl⟩ ?_
      exact w_iret C (by rw [pick_t (Classical.not_not.mp b_10), ci_n (by omega)]; first | rw [if_pos c_18] | rw [if_neg c_18]) hP hS dX5_bound_34
    · refine lv_aload_n hx hb dX5_bound_21 rfl (lv_at hl 0 rfl) ?_
      refine lv_iload_n hx hb dX5_bound_22 rfl (lv_at hl 1 rfl) ?_
      refine r_callV (As := [.int (nI q)]) (rest := []) C (m_most l D k o a8 ([.int (pick (¬ hasC d (nI q)) 1), .ref a1, .int bl, .int tl, .int ps, .int er, .int ea, .int eo, .ref a8, .ref a9, .ref a10, .int ud, .int ns, .int ne, .int se, .ref a15] : List Value) d rfl hd q (by omega)) (cwV 1 hts (lw_V q1893 q1895 qs53 q76 q1896) rfl rfl rfl (by decide +kernel) ⟨Nat.le_of_ble_eq_true rfl, Nat.le_of_ble_eq_true rfl⟩) hK (va_recv hK hP (ci := 0) (q0 := 0) rfl rfl) (hP.sub [0, 1] rfl) rfl hl.1 rfl (Nat.le_of_ble_eq_true rfl) dX5_bound_23 ⟨Nat.le_of_ble_eq_true rfl, Nat.le_of_ble_eq_true rfl⟩ ?_
      refine lv_goto (tgt := 34) hx hb dX5_bound_26 (by decide) ?_
      exact w_iret C (by rw [pick_t (Classical.not_not.mp b_10), ci_n (by omega)]; first | rw [if_pos c_18] | rw [if_neg c_18]) hP hS dX5_bound_34
  · have b_10 := bI_nz c_10
    refine lv_iconst (v := 0) hx hb dX5_bound_13 rfl ?_
    refine lv_goto (tgt := 34) hx hb dX5_bound_14 (by decide) ?_
    exact w_iret C (pick_f b_10).symm hP hS dX5_bound_34
set_option maxHeartbeats 4000000 in
theorem m_isBusinessDay (l : Launch) (D : va_G) (k : Nat → ClassId) (o a1 a8 a9 a10 a15 : Nat) (t bl tl ps er ea eo ud ns ne se : Int32) (wr : va_W) (d : Nat → Int32) (A : Nat → Prop) (hD : va_D A ((o, .inr (0, [.int t, .ref a1, .int bl, .int tl, .int ps, .int er, .int ea, .int eo, .ref a8, .ref a9, .ref a10, .int ud, .int ns, .int ne, .int se, .ref a15])) :: (a8, .inl (k 0, 1798, .inl d)) :: wr)) (hd : okD d) (x : Int32) : wM l D k yX5_isBusinessDay cX5_isBusinessDay 2 (some .boolean) 2 42 [.ref o, .int x] ((o, .inr (0, [.int t, .ref a1, .int bl, .int tl, .int ps, .int er, .int ea, .int eo, .ref a8, .ref a9, .ref a10, .int ud, .int ns, .int ne, .int se, .ref a15])) :: (a8, .inl (k 0, 1798, .inl d)) :: wr) (some (.int (bI (inR x 0 9999 ∧ isBus d (ci x))))) ((o, .inr (0, [.int (pick (¬ inR x 0 9999) 1), .ref a1, .int bl, .int tl, .int ps, .int er, .int ea, .int eo, .ref a8, .ref a9, .ref a10, .int ud, .int ns, .int ne, .int se, .ref a15])) :: (a8, .inl (k 0, 1798, .inl d)) :: wr) A := by
  refine wM_of (by decide) (Nat.le_of_ble_eq_true rfl) ?_
  intro p e s m below meth c ls C hK hP hS hl
  obtain ⟨hx, hb, hr, hml, hown, hts, hlk⟩ := id C
  have hl : lv_has ls 2 [(0, .ref o), (1, .int x)] := hl
  refine lv_aload_n hx hb dX5_isBusinessDay_0 rfl (lv_at hl 0 rfl) ?_
  refine lv_iconst (v := 0) hx hb dX5_isBusinessDay_1 rfl ?_
  refine va_put hx hb hts in_X5 tyX5 tyX5_ok nmX5 hown hK hP (va_D_of hD rfl) hS 0 rfl rfl 0 (by decide) (hts _ q1662) (fun _ h => h) rfl rfl rfl rfl (Nat.le_of_ble_eq_true rfl) dX5_isBusinessDay_2 (fun H locs hP _ hS => ?_)
  have hP : va_P D clA ((o, .inr (0, [.int 0, .ref a1, .int bl, .int tl, .int ps, .int er, .int ea, .int eo, .ref a8, .ref a9, .ref a10, .int ud, .int ns, .int ne, .int se, .ref a15])) :: (a8, .inl (k 0, 1798, .inl d)) :: wr) H := hP
  refine lv_aload_n hx hb dX5_isBusinessDay_5 rfl (lv_at hl 0 rfl) ?_
  refine lv_iload_n hx hb dX5_isBusinessDay_6 rfl (lv_at hl 1 rfl) ?_
  refine r_callS (As := [.int x]) (rest := [.ref o]) C (m_isDay l D k x) (va_cwS 1 hts (lw_S q1846 q1847 q76 q1848) rfl rfl rfl (by decide +kernel) ⟨Nat.le_of_ble_eq_true rfl, Nat.le_of_ble_eq_true rfl⟩) hK trivial rfl hl.1 rfl (Nat.le_of_ble_eq_true rfl) dX5_isBusinessDay_7 ⟨Nat.le_of_ble_eq_true rfl, Nat.le_of_ble_eq_true rfl⟩ ?_
  have J_18 : ∀ (z : Int32), (z = bI (¬ inR x 0 9999)) → ∀ (ls : Array Slot), lv_has ls 2 [(0, .ref o), (1, .int x)] → W p l e (Rm 2 42 0 0) s m ([.ref o, .int x] : List Value).toArray below meth c H locs 0 0 (MQ below (wQ D (some (.int (bI (inR x 0 9999 ∧ isBus d (ci x))))) ((o, .inr (0, [.int (pick (¬ inR x 0 9999) 1), .ref a1, .int bl, .int tl, .int ps, .int er, .int ea, .int eo, .ref a8, .ref a9, .ref a10, .int ud, .int ns, .int ne, .int se, .ref a15])) :: (a8, .inl (k 0, 1798, .inl d)) :: wr) A) ([.ref o, .int x] : List Value).toArray s 0 0 A) (F0 m 18 ls [.int z, .ref o]) := by
    intro z h_z ls hl
    refine w_topi (y := bI (¬ inR x 0 9999)) h_z ?_
    refine lv_iconst (v := 1) hx hb dX5_isBusinessDay_18 rfl ?_
    refine w_callV (As := [.int (bI (¬ inR x 0 9999)), .int 1]) (rest := []) C (m_fails l D k o a1 a8 a9 a10 a15 bl tl ps er ea eo ud ns ne se ((a8, .inl (k 0, 1798, .inl d)) :: wr) A (va_D_of hD rfl) (¬ inR x 0 9999) 1 (by decide)) (cwV 2 hts (lw_V q1727 q1729 qs31 q76 q1730) rfl rfl rfl (by decide +kernel) ⟨Nat.le_of_ble_eq_true rfl, Nat.le_of_ble_eq_true rfl⟩) hK (va_recv hK hP (ci := 0) (q0 := 0) rfl rfl) hP hS (fun _ h => h) rfl hl.1 rfl (Nat.le_of_ble_eq_true rfl) dX5_isBusinessDay_19 ⟨Nat.le_of_ble_eq_true rfl, Nat.le_of_ble_eq_true rfl⟩ (fun H locs hP hS _ _ => ?_)
    have hP : va_P D clA ((o, .inr (0, [.int (pick (¬ inR x 0 9999) 1), .ref a1, .int bl, .int tl, .int ps, .int er, .int ea, .int eo, .ref a8, .ref a9, .ref a10, .int ud, .int ns, .int ne, .int se, .ref a15])) :: (a8, .inl (k 0, 1798, .inl d)) :: wr) H := hP
    refine lv_if_ne (tgt := 37) hx hb dX5_isBusinessDay_22 (by decide) (fun c_22 => ?_) (fun c_22 => ?_)
    · have b_22 := bI_nz c_22
      refine lv_iconst (v := 0) hx hb dX5_isBusinessDay_37 rfl ?_
      exact w_zret C (bI_f (fun h => b_22 h.1)) hP hS dX5_isBusinessDay_38
    · have b_22 := bI_0.mp c_22
      have hlk := hl
      have hPk := hP
      have hSk := hS
      obtain ⟨q, hq, rfl⟩ := day_n (Classical.not_not.mp b_22)
      have hl := hlk
      have hP := hPk
      have hS := hSk
      refine lv_aload_n hx hb dX5_isBusinessDay_25 rfl (lv_at hl 0 rfl) ?_
      refine lv_iload_n hx hb dX5_isBusinessDay_26 rfl (lv_at hl 1 rfl) ?_
      refine r_callV (As := [.int (nI q)]) (rest := []) C (m_isBusiness l D k o a8 ([.int (pick (¬ inR (nI q) 0 9999) 1), .ref a1, .int bl, .int tl, .int ps, .int er, .int ea, .int eo, .ref a8, .ref a9, .ref a10, .int ud, .int ns, .int ne, .int se, .ref a15] : List Value) d rfl hd q (by omega)) (cwV 1 hts (lw_V q1849 q1851 qs49 q76 q1852) rfl rfl rfl (by decide +kernel) ⟨Nat.le_of_ble_eq_true rfl, Nat.le_of_ble_eq_true rfl⟩) hK (va_recv hK hP (ci := 0) (q0 := 0) rfl rfl) (hP.sub [0, 1] rfl) rfl hl.1 rfl (Nat.le_of_ble_eq_true rfl) dX5_isBusinessDay_27 ⟨Nat.le_of_ble_eq_true rfl, Nat.le_of_ble_eq_true rfl⟩ ?_
      refine lv_if_eq (tgt := 37) hx hb dX5_isBusinessDay_30 (by decide) (fun c_30 => ?_) (fun c_30 => ?_)
      · have b_30 := bI_0.mp c_30
        refine lv_iconst (v := 0) hx hb dX5_isBusinessDay_37 rfl ?_
        exact w_zret C (bI_f (fun h => b_30 (by have := h.2; rwa [ci_n (by omega)] at this))) hP hS dX5_isBusinessDay_38
      · have b_30 := bI_nz c_30
        refine lv_iconst (v := 1) hx hb dX5_isBusinessDay_33 rfl ?_
        refine lv_goto (tgt := 38) hx hb dX5_isBusinessDay_34 (by decide) ?_
        exact w_zret C (bI_t ⟨Classical.not_not.mp b_22, by rwa [ci_n (by omega)]⟩) hP hS dX5_isBusinessDay_38
  refine lv_if_ne (tgt := 17) hx hb dX5_isBusinessDay_10 (by decide) (fun c_10 => ?_) (fun c_10 => ?_)
  · have b_10 := bI_nz c_10
    refine lv_iconst (v := 0) hx hb dX5_isBusinessDay_17 rfl ?_
    exact J_18 0 (by first | exact bI_t b_10 | exact bI_f (fun h => h b_10)) ls hl
  · have b_10 := bI_0.mp c_10
    refine lv_iconst (v := 1) hx hb dX5_isBusinessDay_13 rfl ?_
    refine lv_goto (tgt := 18) hx hb dX5_isBusinessDay_14 (by decide) ?_
    exact J_18 1 (by first | exact bI_t b_10 | exact bI_f (fun h => h b_10)) ls hl
set_option maxHeartbeats 4000000 in
theorem m_extended (l : Launch) (D : va_G) (k : Nat → ClassId) (o a1 a8 a9 a10 a15 : Nat) (t bl tl ps er ea eo ud ns ne se : Int32) (wr : va_W) (d : Nat → Int32) (A : Nat → Prop) (hD : va_D A ((o, .inr (0, [.int t, .ref a1, .int bl, .int tl, .int ps, .int er, .int ea, .int eo, .ref a8, .ref a9, .ref a10, .int ud, .int ns, .int ne, .int se, .ref a15])) :: (a8, .inl (k 0, 1798, .inl d)) :: wr)) (hd : okD d) (x : Int32) : wM l D k yX5_extended cX5_extended 2 (some .int) 2 44 [.ref o, .int x] ((o, .inr (0, [.int t, .ref a1, .int bl, .int tl, .int ps, .int er, .int ea, .int eo, .ref a8, .ref a9, .ref a10, .int ud, .int ns, .int ne, .int se, .ref a15])) :: (a8, .inl (k 0, 1798, .inl d)) :: wr) (some (.int (pick (inR x 0 9999) (nI (ext d (ci x)))))) ((o, .inr (0, [.int (pick (¬ inR x 0 9999) 1), .ref a1, .int bl, .int tl, .int ps, .int er, .int ea, .int eo, .ref a8, .ref a9, .ref a10, .int ud, .int ns, .int ne, .int se, .ref a15])) :: (a8, .inl (k 0, 1798, .inl d)) :: wr) A := by
  refine wM_of (by decide) (Nat.le_of_ble_eq_true rfl) ?_
  intro p e s m below meth c ls C hK hP hS hl
  obtain ⟨hx, hb, hr, hml, hown, hts, hlk⟩ := id C
  have hl : lv_has ls 2 [(0, .ref o), (1, .int x)] := hl
  refine lv_aload_n hx hb dX5_extended_0 rfl (lv_at hl 0 rfl) ?_
  refine lv_iconst (v := 0) hx hb dX5_extended_1 rfl ?_
  refine va_put hx hb hts in_X5 tyX5 tyX5_ok nmX5 hown hK hP (va_D_of hD rfl) hS 0 rfl rfl 0 (by decide) (hts _ q1662) (fun _ h => h) rfl rfl rfl rfl (Nat.le_of_ble_eq_true rfl) dX5_extended_2 (fun H locs hP _ hS => ?_)
  have hP : va_P D clA ((o, .inr (0, [.int 0, .ref a1, .int bl, .int tl, .int ps, .int er, .int ea, .int eo, .ref a8, .ref a9, .ref a10, .int ud, .int ns, .int ne, .int se, .ref a15])) :: (a8, .inl (k 0, 1798, .inl d)) :: wr) H := hP
  refine lv_aload_n hx hb dX5_extended_5 rfl (lv_at hl 0 rfl) ?_
  refine lv_iload_n hx hb dX5_extended_6 rfl (lv_at hl 1 rfl) ?_
  refine r_callS (As := [.int x]) (rest := [.ref o]) C (m_isDay l D k x) (va_cwS 1 hts (lw_S q1846 q1847 q76 q1848) rfl rfl rfl (by decide +kernel) ⟨Nat.le_of_ble_eq_true rfl, Nat.le_of_ble_eq_true rfl⟩) hK trivial rfl hl.1 rfl (Nat.le_of_ble_eq_true rfl) dX5_extended_7 ⟨Nat.le_of_ble_eq_true rfl, Nat.le_of_ble_eq_true rfl⟩ ?_
  have J_18 : ∀ (z : Int32), (z = bI (¬ inR x 0 9999)) → ∀ (ls : Array Slot), lv_has ls 2 [(0, .ref o), (1, .int x)] → W p l e (Rm 2 44 0 0) s m ([.ref o, .int x] : List Value).toArray below meth c H locs 0 0 (MQ below (wQ D (some (.int (pick (inR x 0 9999) (nI (ext d (ci x)))))) ((o, .inr (0, [.int (pick (¬ inR x 0 9999) 1), .ref a1, .int bl, .int tl, .int ps, .int er, .int ea, .int eo, .ref a8, .ref a9, .ref a10, .int ud, .int ns, .int ne, .int se, .ref a15])) :: (a8, .inl (k 0, 1798, .inl d)) :: wr) A) ([.ref o, .int x] : List Value).toArray s 0 0 A) (F0 m 18 ls [.int z, .ref o]) := by
    intro z h_z ls hl
    refine w_topi (y := bI (¬ inR x 0 9999)) h_z ?_
    refine lv_iconst (v := 1) hx hb dX5_extended_18 rfl ?_
    refine w_callV (As := [.int (bI (¬ inR x 0 9999)), .int 1]) (rest := []) C (m_fails l D k o a1 a8 a9 a10 a15 bl tl ps er ea eo ud ns ne se ((a8, .inl (k 0, 1798, .inl d)) :: wr) A (va_D_of hD rfl) (¬ inR x 0 9999) 1 (by decide)) (cwV 2 hts (lw_V q1727 q1729 qs31 q76 q1730) rfl rfl rfl (by decide +kernel) ⟨Nat.le_of_ble_eq_true rfl, Nat.le_of_ble_eq_true rfl⟩) hK (va_recv hK hP (ci := 0) (q0 := 0) rfl rfl) hP hS (fun _ h => h) rfl hl.1 rfl (Nat.le_of_ble_eq_true rfl) dX5_extended_19 ⟨Nat.le_of_ble_eq_true rfl, Nat.le_of_ble_eq_true rfl⟩ (fun H locs hP hS _ _ => ?_)
    have hP : va_P D clA ((o, .inr (0, [.int (pick (¬ inR x 0 9999) 1), .ref a1, .int bl, .int tl, .int ps, .int er, .int ea, .int eo, .ref a8, .ref a9, .ref a10, .int ud, .int ns, .int ne, .int se, .ref a15])) :: (a8, .inl (k 0, 1798, .inl d)) :: wr) H := hP
    refine lv_if_eq (tgt := 29) hx hb dX5_extended_22 (by decide) (fun c_22 => ?_) (fun c_22 => ?_)
    · have b_22 := bI_0.mp c_22
      have hlk := hl
      have hPk := hP
      have hSk := hS
      obtain ⟨q, hq, rfl⟩ := day_n (Classical.not_not.mp b_22)
      have hl := hlk
      have hP := hPk
      have hS := hSk
      refine lv_aload_n hx hb dX5_extended_29 rfl (lv_at hl 0 rfl) ?_
      refine lv_iload_n hx hb dX5_extended_30 rfl (lv_at hl 1 rfl) ?_
      refine r_callV (As := [.int (nI q)]) (rest := []) C (m_extend l D k o a8 ([.int (pick (¬ inR (nI q) 0 9999) 1), .ref a1, .int bl, .int tl, .int ps, .int er, .int ea, .int eo, .ref a8, .ref a9, .ref a10, .int ud, .int ns, .int ne, .int se, .ref a15] : List Value) d rfl hd q (by omega)) (cwV 1 hts (lw_V q1857 q1859 qs50 q76 q1860) rfl rfl rfl (by decide +kernel) ⟨Nat.le_of_ble_eq_true rfl, Nat.le_of_ble_eq_true rfl⟩) hK (va_recv hK hP (ci := 0) (q0 := 0) rfl rfl) (hP.sub [0, 1] rfl) rfl hl.1 rfl (Nat.le_of_ble_eq_true rfl) dX5_extended_31 ⟨Nat.le_of_ble_eq_true rfl, Nat.le_of_ble_eq_true rfl⟩ ?_
      exact w_iret C (by rw [pick_t (Classical.not_not.mp b_22), ci_n (by omega)]) hP hS dX5_extended_34
    · have b_22 := bI_nz c_22
      refine lv_iconst (v := 0) hx hb dX5_extended_25 rfl ?_
      refine lv_goto (tgt := 34) hx hb dX5_extended_26 (by decide) ?_
      exact w_iret C (pick_f b_22).symm hP hS dX5_extended_34
  refine lv_if_ne (tgt := 17) hx hb dX5_extended_10 (by decide) (fun c_10 => ?_) (fun c_10 => ?_)
  · have b_10 := bI_nz c_10
    refine lv_iconst (v := 0) hx hb dX5_extended_17 rfl ?_
    exact J_18 0 (by first | exact bI_t b_10 | exact bI_f (fun h => h b_10)) ls hl
  · have b_10 := bI_0.mp c_10
    refine lv_iconst (v := 1) hx hb dX5_extended_13 rfl ?_
    refine lv_goto (tgt := 18) hx hb dX5_extended_14 (by decide) ?_
    exact J_18 1 (by first | exact bI_t b_10 | exact bI_f (fun h => h b_10)) ls hl
set_option maxHeartbeats 4000000 in
theorem m_addBusinessDays (l : Launch) (D : va_G) (k : Nat → ClassId) (o a1 a8 a9 a10 a15 : Nat) (t bl tl ps er ea eo ud ns ne se : Int32) (wr : va_W) (d : Nat → Int32) (A : Nat → Prop) (hD : va_D A ((o, .inr (0, [.int t, .ref a1, .int bl, .int tl, .int ps, .int er, .int ea, .int eo, .ref a8, .ref a9, .ref a10, .int ud, .int ns, .int ne, .int se, .ref a15])) :: (a8, .inl (k 0, 1798, .inl d)) :: wr)) (hd : okD d) (x y : Int32) : wM l D k yX5_addBusinessDays cX5_addBusinessDays 3 (some .int) 3 68 [.ref o, .int x, .int y] ((o, .inr (0, [.int t, .ref a1, .int bl, .int tl, .int ps, .int er, .int ea, .int eo, .ref a8, .ref a9, .ref a10, .int ud, .int ns, .int ne, .int se, .ref a15])) :: (a8, .inl (k 0, 1798, .inl d)) :: wr) (some (.int (pick (inR x 0 9999 ∧ inR y 0 100) (nI (addB d (ci x) (ci y)))))) ((o, .inr (0, [.int (pick (¬ (inR x 0 9999 ∧ inR y 0 100)) 1), .ref a1, .int bl, .int tl, .int ps, .int er, .int ea, .int eo, .ref a8, .ref a9, .ref a10, .int ud, .int ns, .int ne, .int se, .ref a15])) :: (a8, .inl (k 0, 1798, .inl d)) :: wr) A := by
  refine wM_of (by decide) (Nat.le_of_ble_eq_true rfl) ?_
  intro p e s m below meth c ls C hK hP hS hl
  obtain ⟨hx, hb, hr, hml, hown, hts, hlk⟩ := id C
  have hl : lv_has ls 3 [(0, .ref o), (1, .int x), (2, .int y)] := hl
  refine lv_aload_n hx hb dX5_addBusinessDays_0 rfl (lv_at hl 0 rfl) ?_
  refine lv_iconst (v := 0) hx hb dX5_addBusinessDays_1 rfl ?_
  refine va_put hx hb hts in_X5 tyX5 tyX5_ok nmX5 hown hK hP (va_D_of hD rfl) hS 0 rfl rfl 0 (by decide) (hts _ q1662) (fun _ h => h) rfl rfl rfl rfl (Nat.le_of_ble_eq_true rfl) dX5_addBusinessDays_2 (fun H locs hP _ hS => ?_)
  have hP : va_P D clA ((o, .inr (0, [.int 0, .ref a1, .int bl, .int tl, .int ps, .int er, .int ea, .int eo, .ref a8, .ref a9, .ref a10, .int ud, .int ns, .int ne, .int se, .ref a15])) :: (a8, .inl (k 0, 1798, .inl d)) :: wr) H := hP
  refine lv_aload_n hx hb dX5_addBusinessDays_5 rfl (lv_at hl 0 rfl) ?_
  refine lv_iload_n hx hb dX5_addBusinessDays_6 rfl (lv_at hl 1 rfl) ?_
  refine r_callS (As := [.int x]) (rest := [.ref o]) C (m_isDay l D k x) (va_cwS 1 hts (lw_S q1846 q1847 q76 q1848) rfl rfl rfl (by decide +kernel) ⟨Nat.le_of_ble_eq_true rfl, Nat.le_of_ble_eq_true rfl⟩) hK trivial rfl hl.1 rfl (Nat.le_of_ble_eq_true rfl) dX5_addBusinessDays_7 ⟨Nat.le_of_ble_eq_true rfl, Nat.le_of_ble_eq_true rfl⟩ ?_
  have J_28 : ∀ (z : Int32), (z = bI (¬ (inR x 0 9999 ∧ inR y 0 100))) → ∀ (ls : Array Slot), lv_has ls 3 [(0, .ref o), (1, .int x), (2, .int y)] → W p l e (Rm 3 68 0 0) s m ([.ref o, .int x, .int y] : List Value).toArray below meth c H locs 0 0 (MQ below (wQ D (some (.int (pick (inR x 0 9999 ∧ inR y 0 100) (nI (addB d (ci x) (ci y)))))) ((o, .inr (0, [.int (pick (¬ (inR x 0 9999 ∧ inR y 0 100)) 1), .ref a1, .int bl, .int tl, .int ps, .int er, .int ea, .int eo, .ref a8, .ref a9, .ref a10, .int ud, .int ns, .int ne, .int se, .ref a15])) :: (a8, .inl (k 0, 1798, .inl d)) :: wr) A) ([.ref o, .int x, .int y] : List Value).toArray s 0 0 A) (F0 m 28 ls [.int z, .ref o]) := by
    intro z h_z ls hl
    refine w_topi (y := bI (¬ (inR x 0 9999 ∧ inR y 0 100))) h_z ?_
    refine lv_iconst (v := 1) hx hb dX5_addBusinessDays_28 rfl ?_
    refine w_callV (As := [.int (bI (¬ (inR x 0 9999 ∧ inR y 0 100))), .int 1]) (rest := []) C (m_fails l D k o a1 a8 a9 a10 a15 bl tl ps er ea eo ud ns ne se ((a8, .inl (k 0, 1798, .inl d)) :: wr) A (va_D_of hD rfl) (¬ (inR x 0 9999 ∧ inR y 0 100)) 1 (by decide)) (cwV 2 hts (lw_V q1727 q1729 qs31 q76 q1730) rfl rfl rfl (by decide +kernel) ⟨Nat.le_of_ble_eq_true rfl, Nat.le_of_ble_eq_true rfl⟩) hK (va_recv hK hP (ci := 0) (q0 := 0) rfl rfl) hP hS (fun _ h => h) rfl hl.1 rfl (Nat.le_of_ble_eq_true rfl) dX5_addBusinessDays_29 ⟨Nat.le_of_ble_eq_true rfl, Nat.le_of_ble_eq_true rfl⟩ (fun H locs hP hS _ _ => ?_)
    have hP : va_P D clA ((o, .inr (0, [.int (pick (¬ (inR x 0 9999 ∧ inR y 0 100)) 1), .ref a1, .int bl, .int tl, .int ps, .int er, .int ea, .int eo, .ref a8, .ref a9, .ref a10, .int ud, .int ns, .int ne, .int se, .ref a15])) :: (a8, .inl (k 0, 1798, .inl d)) :: wr) H := hP
    refine lv_if_eq (tgt := 39) hx hb dX5_addBusinessDays_32 (by decide) (fun c_32 => ?_) (fun c_32 => ?_)
    · have b_32 := bI_0.mp c_32
      have hlk := hl
      have hPk := hP
      have hSk := hS
      obtain ⟨q, hq, rfl⟩ := day_n (Classical.not_not.mp b_32).1
      have hl := hlk
      have hP := hPk
      have hS := hSk
      have hlk := hl
      have hPk := hP
      have hSk := hS
      obtain ⟨r, hr2, rfl⟩ := nI_of2 (n := 100) rfl (Int32.not_lt.mpr (Classical.not_not.mp b_32).2.1) (Classical.not_not.mp b_32).2.2
      have hl := hlk
      have hP := hPk
      have hS := hSk
      refine lv_aload_n hx hb dX5_addBusinessDays_39 rfl (lv_at hl 0 rfl) ?_
      refine lv_iload_n hx hb dX5_addBusinessDays_40 rfl (lv_at hl 1 rfl) ?_
      refine lv_iload_n hx hb dX5_addBusinessDays_41 rfl (lv_at hl 2 rfl) ?_
      refine r_callV (As := [.int (nI q), .int (nI r)]) (rest := []) C (m_add l D k o a8 ([.int (pick (¬ (inR (nI q) 0 9999 ∧ inR (nI r) 0 100)) 1), .ref a1, .int bl, .int tl, .int ps, .int er, .int ea, .int eo, .ref a8, .ref a9, .ref a10, .int ud, .int ns, .int ne, .int se, .ref a15] : List Value) d rfl hd q r (by omega) (by omega)) (cwV 2 hts (lw_V q1865 q1867 qs51 q76 q1868) rfl rfl rfl (by decide +kernel) ⟨Nat.le_of_ble_eq_true rfl, Nat.le_of_ble_eq_true rfl⟩) hK (va_recv hK hP (ci := 0) (q0 := 0) rfl rfl) (hP.sub [0, 1] rfl) rfl hl.1 rfl (Nat.le_of_ble_eq_true rfl) dX5_addBusinessDays_42 ⟨Nat.le_of_ble_eq_true rfl, Nat.le_of_ble_eq_true rfl⟩ ?_
      exact w_iret C (by rw [pick_t (Classical.not_not.mp b_32), ci_n (by omega), ci_n (by omega)]) hP hS dX5_addBusinessDays_45
    · have b_32 := bI_nz c_32
      refine lv_iconst (v := 0) hx hb dX5_addBusinessDays_35 rfl ?_
      refine lv_goto (tgt := 45) hx hb dX5_addBusinessDays_36 (by decide) ?_
      exact w_iret C (pick_f b_32).symm hP hS dX5_addBusinessDays_45
  refine lv_if_eq (tgt := 23) hx hb dX5_addBusinessDays_10 (by decide) (fun c_10 => ?_) (fun c_10 => ?_)
  · have b_10 := bI_0.mp c_10
    refine lv_iconst (v := 1) hx hb dX5_addBusinessDays_23 rfl ?_
    refine lv_goto (tgt := 28) hx hb dX5_addBusinessDays_24 (by decide) ?_
    exact J_28 1 (by first | exact bI_t (fun h => b_10 h.1) | exact bI_t (fun h => b_20 h.2) | exact bI_f (fun h => h ⟨b_10, b_20⟩)) ls hl
  · have b_10 := bI_nz c_10
    refine lv_iload_n hx hb dX5_addBusinessDays_13 rfl (lv_at hl 2 rfl) ?_
    refine lv_iconst (v := 0) hx hb dX5_addBusinessDays_14 rfl ?_
    refine lv_bipush (v := 100) hx hb dX5_addBusinessDays_15 rfl ?_
    refine r_callS (As := [.int y, .int 0, .int 100]) (rest := [.ref o]) C (m_in l D k y 0 100) (va_cwS 3 hts (lw_S q1724 q1725 q76 q1726) rfl rfl rfl (by decide +kernel) ⟨Nat.le_of_ble_eq_true rfl, Nat.le_of_ble_eq_true rfl⟩) hK trivial rfl hl.1 rfl (Nat.le_of_ble_eq_true rfl) dX5_addBusinessDays_17 ⟨Nat.le_of_ble_eq_true rfl, Nat.le_of_ble_eq_true rfl⟩ ?_
    refine lv_if_ne (tgt := 27) hx hb dX5_addBusinessDays_20 (by decide) (fun c_20 => ?_) (fun c_20 => ?_)
    · have b_20 := bI_nz c_20
      refine lv_iconst (v := 0) hx hb dX5_addBusinessDays_27 rfl ?_
      exact J_28 0 (by first | exact bI_t (fun h => b_10 h.1) | exact bI_t (fun h => b_20 h.2) | exact bI_f (fun h => h ⟨b_10, b_20⟩)) ls hl
    · have b_20 := bI_0.mp c_20
      refine lv_iconst (v := 1) hx hb dX5_addBusinessDays_23 rfl ?_
      refine lv_goto (tgt := 28) hx hb dX5_addBusinessDays_24 (by decide) ?_
      exact J_28 1 (by first | exact bI_t (fun h => b_10 h.1) | exact bI_t (fun h => b_20 h.2) | exact bI_f (fun h => h ⟨b_10, b_20⟩)) ls hl
set_option maxHeartbeats 4000000 in
theorem m_businessDays (l : Launch) (D : va_G) (k : Nat → ClassId) (o a1 a8 a9 a10 a15 : Nat) (t bl tl ps er ea eo ud ns ne se : Int32) (wr : va_W) (d : Nat → Int32) (A : Nat → Prop) (hD : va_D A ((o, .inr (0, [.int t, .ref a1, .int bl, .int tl, .int ps, .int er, .int ea, .int eo, .ref a8, .ref a9, .ref a10, .int ud, .int ns, .int ne, .int se, .ref a15])) :: (a8, .inl (k 0, 1798, .inl d)) :: wr)) (hd : okD d) (x y : Int32) : wM l D k yX5_businessDays cX5_businessDays 5 (some .int) 2 42 [.ref o, .int x, .int y] ((o, .inr (0, [.int t, .ref a1, .int bl, .int tl, .int ps, .int er, .int ea, .int eo, .ref a8, .ref a9, .ref a10, .int ud, .int ns, .int ne, .int se, .ref a15])) :: (a8, .inl (k 0, 1798, .inl d)) :: wr) (some (.int (pick (inR x 0 9999 ∧ inR y 0 9999) (cntB d (ci x) (ci y - ci x))))) ((o, .inr (0, [.int (pick (¬ (inR x 0 9999 ∧ inR y 0 9999)) 1), .ref a1, .int bl, .int tl, .int ps, .int er, .int ea, .int eo, .ref a8, .ref a9, .ref a10, .int ud, .int ns, .int ne, .int se, .ref a15])) :: (a8, .inl (k 0, 1798, .inl d)) :: wr) A := by
  refine wM_of (by decide) (Nat.le_of_ble_eq_true rfl) ?_
  intro p e s m below meth c ls C hK hP hS hl
  obtain ⟨hx, hb, hr, hml, hown, hts, hlk⟩ := id C
  have hl : lv_has ls 5 [(0, .ref o), (1, .int x), (2, .int y)] := hl
  refine lv_aload_n hx hb dX5_businessDays_0 rfl (lv_at hl 0 rfl) ?_
  refine lv_iconst (v := 0) hx hb dX5_businessDays_1 rfl ?_
  refine va_put hx hb hts in_X5 tyX5 tyX5_ok nmX5 hown hK hP (va_D_of hD rfl) hS 0 rfl rfl 0 (by decide) (hts _ q1662) (fun _ h => h) rfl rfl rfl rfl (Nat.le_of_ble_eq_true rfl) dX5_businessDays_2 (fun H locs hP _ hS => ?_)
  have hP : va_P D clA ((o, .inr (0, [.int 0, .ref a1, .int bl, .int tl, .int ps, .int er, .int ea, .int eo, .ref a8, .ref a9, .ref a10, .int ud, .int ns, .int ne, .int se, .ref a15])) :: (a8, .inl (k 0, 1798, .inl d)) :: wr) H := hP
  refine lv_aload_n hx hb dX5_businessDays_5 rfl (lv_at hl 0 rfl) ?_
  refine lv_iload_n hx hb dX5_businessDays_6 rfl (lv_at hl 1 rfl) ?_
  refine r_callS (As := [.int x]) (rest := [.ref o]) C (m_isDay l D k x) (va_cwS 1 hts (lw_S q1846 q1847 q76 q1848) rfl rfl rfl (by decide +kernel) ⟨Nat.le_of_ble_eq_true rfl, Nat.le_of_ble_eq_true rfl⟩) hK trivial rfl hl.1 rfl (Nat.le_of_ble_eq_true rfl) dX5_businessDays_7 ⟨Nat.le_of_ble_eq_true rfl, Nat.le_of_ble_eq_true rfl⟩ ?_
  have J_25 : ∀ (z : Int32), (z = bI (¬ (inR x 0 9999 ∧ inR y 0 9999))) → ∀ (ls : Array Slot), lv_has ls 5 [(0, .ref o), (1, .int x), (2, .int y)] → W p l e (Rm 2 42 0 0) s m ([.ref o, .int x, .int y] : List Value).toArray below meth c H locs 0 0 (MQ below (wQ D (some (.int (pick (inR x 0 9999 ∧ inR y 0 9999) (cntB d (ci x) (ci y - ci x))))) ((o, .inr (0, [.int (pick (¬ (inR x 0 9999 ∧ inR y 0 9999)) 1), .ref a1, .int bl, .int tl, .int ps, .int er, .int ea, .int eo, .ref a8, .ref a9, .ref a10, .int ud, .int ns, .int ne, .int se, .ref a15])) :: (a8, .inl (k 0, 1798, .inl d)) :: wr) A) ([.ref o, .int x, .int y] : List Value).toArray s 0 0 A) (F0 m 25 ls [.int z, .ref o]) := by
    intro z h_z ls hl
    refine w_topi (y := bI (¬ (inR x 0 9999 ∧ inR y 0 9999))) h_z ?_
    refine lv_iconst (v := 1) hx hb dX5_businessDays_25 rfl ?_
    refine w_callV (As := [.int (bI (¬ (inR x 0 9999 ∧ inR y 0 9999))), .int 1]) (rest := []) C (m_fails l D k o a1 a8 a9 a10 a15 bl tl ps er ea eo ud ns ne se ((a8, .inl (k 0, 1798, .inl d)) :: wr) A (va_D_of hD rfl) (¬ (inR x 0 9999 ∧ inR y 0 9999)) 1 (by decide)) (cwV 2 hts (lw_V q1727 q1729 qs31 q76 q1730) rfl rfl rfl (by decide +kernel) ⟨Nat.le_of_ble_eq_true rfl, Nat.le_of_ble_eq_true rfl⟩) hK (va_recv hK hP (ci := 0) (q0 := 0) rfl rfl) hP hS (fun _ h => h) rfl hl.1 rfl (Nat.le_of_ble_eq_true rfl) dX5_businessDays_26 ⟨Nat.le_of_ble_eq_true rfl, Nat.le_of_ble_eq_true rfl⟩ (fun H locs hP hS _ _ => ?_)
    have hP : va_P D clA ((o, .inr (0, [.int (pick (¬ (inR x 0 9999 ∧ inR y 0 9999)) 1), .ref a1, .int bl, .int tl, .int ps, .int er, .int ea, .int eo, .ref a8, .ref a9, .ref a10, .int ud, .int ns, .int ne, .int se, .ref a15])) :: (a8, .inl (k 0, 1798, .inl d)) :: wr) H := hP
    refine lv_if_eq (tgt := 34) hx hb dX5_businessDays_29 (by decide) (fun c_29 => ?_) (fun c_29 => ?_)
    · have b_29 := bI_0.mp c_29
      have hlk := hl
      have hPk := hP
      have hSk := hS
      obtain ⟨q, hq, rfl⟩ := day_n (Classical.not_not.mp b_29).1
      have hl := hlk
      have hP := hPk
      have hS := hSk
      have hlk := hl
      have hPk := hP
      have hSk := hS
      obtain ⟨r, hr, rfl⟩ := day_n (Classical.not_not.mp b_29).2
      have hl := hlk
      have hP := hPk
      have hS := hSk
      refine lv_iconst (v := 0) hx hb dX5_businessDays_34 rfl ?_
      refine lv_istore_n (lv' := [(3, .int 0), (0, .ref o), (1, .int (nI q)), (2, .int (nI r))]) hx hb dX5_businessDays_35 rfl hl (by decide) rfl (fun ls hl => ?_)
      refine lv_iload_n hx hb dX5_businessDays_36 rfl (lv_at hl 2 rfl) ?_
      refine lv_istore (lv' := [(4, .int (nI q)), (3, .int 0), (0, .ref o), (1, .int (nI q)), (2, .int (nI r))]) hx hb dX5_businessDays_37 hl (by decide) rfl (fun ls hl => ?_)
      have loop_39 : ∀ (n : Nat) (j : Nat), (j ≤ r - q) → (r - q + 1 ≤ j + n) → ∀ (ls : Array Slot), lv_has ls 5 [(0, .ref o), (1, .int (nI q)), (2, .int (nI r)), (3, .int (cntB d q j)), (4, .int (nI (q + j)))] → W p l e (Rm 2 42 0 0) s m ([.ref o, .int (nI q), .int (nI r)] : List Value).toArray below meth c H locs 0 0 (MQ below (wQ D (some (.int (pick (inR (nI q) 0 9999 ∧ inR (nI r) 0 9999) (cntB d (ci (nI q)) (ci (nI r) - ci (nI q)))))) ((o, .inr (0, [.int (pick (¬ (inR (nI q) 0 9999 ∧ inR (nI r) 0 9999)) 1), .ref a1, .int bl, .int tl, .int ps, .int er, .int ea, .int eo, .ref a8, .ref a9, .ref a10, .int ud, .int ns, .int ne, .int se, .ref a15])) :: (a8, .inl (k 0, 1798, .inl d)) :: wr) A) ([.ref o, .int (nI q), .int (nI r)] : List Value).toArray s 0 0 A) (F0 m 39 ls []) := by
        intro n
        induction n with
        | zero =>
          intro j hj hn
          exact absurd hn (by omega)
        | succ n ih_39 =>
          intro j hj hn ls hl
          refine lv_iload hx hb dX5_businessDays_39 (lv_at hl 4 rfl) ?_
          refine lv_iload_n hx hb dX5_businessDays_41 rfl (lv_at hl 2 rfl) ?_
          refine lv_icmp_ge (tgt := 68) hx hb dX5_businessDays_42 (by decide) (fun c_42 => ?_) (fun c_42 => ?_)
          · have g_42 := nI_le' c_42 (by omega) (by omega)
            refine lv_iload_n hx hb dX5_businessDays_68 rfl (lv_at hl 3 rfl) ?_
            exact w_iret C (by rw [pick_t (Classical.not_not.mp b_29), ci_n (by omega), ci_n (by omega), show j = r - q by omega]) hP hS dX5_businessDays_69
          · have g_42 := nI_nle' c_42 (by omega) (by omega)
            refine lv_iload_n hx hb dX5_businessDays_45 rfl (lv_at hl 3 rfl) ?_
            refine lv_aload_n hx hb dX5_businessDays_46 rfl (lv_at hl 0 rfl) ?_
            refine lv_iload hx hb dX5_businessDays_47 (lv_at hl 4 rfl) ?_
            refine r_callV (As := [.int (nI (q + j))]) (rest := [.int (cntB d q j)]) C (m_isBusiness l D k o a8 ([.int (pick (¬ (inR (nI q) 0 9999 ∧ inR (nI r) 0 9999)) 1), .ref a1, .int bl, .int tl, .int ps, .int er, .int ea, .int eo, .ref a8, .ref a9, .ref a10, .int ud, .int ns, .int ne, .int se, .ref a15] : List Value) d rfl hd (q + j) (by omega)) (cwV 1 hts (lw_V q1849 q1851 qs49 q76 q1852) rfl rfl rfl (by decide +kernel) ⟨Nat.le_of_ble_eq_true rfl, Nat.le_of_ble_eq_true rfl⟩) hK (va_recv hK hP (ci := 0) (q0 := 0) rfl rfl) (hP.sub [0, 1] rfl) rfl hl.1 rfl (Nat.le_of_ble_eq_true rfl) dX5_businessDays_49 ⟨Nat.le_of_ble_eq_true rfl, Nat.le_of_ble_eq_true rfl⟩ ?_
            have J_60 : ∀ (z2 : Int32), (z2 = bI (isBus d (q + j))) → ∀ (ls : Array Slot), lv_has ls 5 [(0, .ref o), (1, .int (nI q)), (2, .int (nI r)), (3, .int (cntB d q j)), (4, .int (nI (q + j)))] → W p l e (Rm 2 42 0 0) s m ([.ref o, .int (nI q), .int (nI r)] : List Value).toArray below meth c H locs 0 0 (MQ below (wQ D (some (.int (pick (inR (nI q) 0 9999 ∧ inR (nI r) 0 9999) (cntB d (ci (nI q)) (ci (nI r) - ci (nI q)))))) ((o, .inr (0, [.int (pick (¬ (inR (nI q) 0 9999 ∧ inR (nI r) 0 9999)) 1), .ref a1, .int bl, .int tl, .int ps, .int er, .int ea, .int eo, .ref a8, .ref a9, .ref a10, .int ud, .int ns, .int ne, .int se, .ref a15])) :: (a8, .inl (k 0, 1798, .inl d)) :: wr) A) ([.ref o, .int (nI q), .int (nI r)] : List Value).toArray s 0 0 A) (F0 m 60 ls [.int z2, .int (cntB d q j)]) := by
              intro z2 h_z2 ls hl
              refine lv_iadd hx hb dX5_businessDays_60 ?_
              refine w_topi (y := cntB d q (j + 1)) (by rw [h_z2]; rfl) ?_
              refine lv_istore_n (lv' := [(3, .int (cntB d q (j + 1))), (0, .ref o), (1, .int (nI q)), (2, .int (nI r)), (4, .int (nI (q + j)))]) hx hb dX5_businessDays_61 rfl hl (by decide) rfl (fun ls hl => ?_)
              refine lv_iinc (v := nI (q + (j + 1))) (lv' := [(4, .int (nI (q + (j + 1)))), (3, .int (cntB d q (j + 1))), (0, .ref o), (1, .int (nI q)), (2, .int (nI r))]) hx hb dX5_businessDays_62 hl (k := 4) rfl (nI_1 (q + j)) (by decide) rfl (fun ls hl => ?_)
              refine lv_goto (tgt := 39) hx hb dX5_businessDays_65 (by decide) ?_
              exact ih_39 (j + 1) (by omega) (by omega) ls (lv_sub hl [2, 3, 4, 1, 0] rfl)
            refine lv_if_eq (tgt := 59) hx hb dX5_businessDays_52 (by decide) (fun c_52 => ?_) (fun c_52 => ?_)
            · have b_52 := bI_0.mp c_52
              refine lv_iconst (v := 0) hx hb dX5_businessDays_59 rfl ?_
              exact J_60 0 (by first | exact bI_t b_52 | exact bI_f b_52) ls hl
            · have b_52 := bI_nz c_52
              refine lv_iconst (v := 1) hx hb dX5_businessDays_55 rfl ?_
              refine lv_goto (tgt := 60) hx hb dX5_businessDays_56 (by decide) ?_
              exact J_60 1 (by first | exact bI_t b_52 | exact bI_f b_52) ls hl
      exact loop_39 (r - q + 1) 0 (Nat.zero_le _) (by omega) ls (lv_sub hl [2, 3, 4, 1, 0] rfl)
    · have b_29 := bI_nz c_29
      refine lv_iconst (v := 0) hx hb dX5_businessDays_32 rfl ?_
      exact w_iret C (pick_f b_29).symm hP hS dX5_businessDays_33
  refine lv_if_eq (tgt := 20) hx hb dX5_businessDays_10 (by decide) (fun c_10 => ?_) (fun c_10 => ?_)
  · have b_10 := bI_0.mp c_10
    refine lv_iconst (v := 1) hx hb dX5_businessDays_20 rfl ?_
    refine lv_goto (tgt := 25) hx hb dX5_businessDays_21 (by decide) ?_
    exact J_25 1 (by first | exact bI_t (fun h => b_10 h.1) | exact bI_t (fun h => b_17 h.2) | exact bI_f (fun h => h ⟨b_10, b_17⟩)) ls hl
  · have b_10 := bI_nz c_10
    refine lv_iload_n hx hb dX5_businessDays_13 rfl (lv_at hl 2 rfl) ?_
    refine r_callS (As := [.int y]) (rest := [.ref o]) C (m_isDay l D k y) (va_cwS 1 hts (lw_S q1846 q1847 q76 q1848) rfl rfl rfl (by decide +kernel) ⟨Nat.le_of_ble_eq_true rfl, Nat.le_of_ble_eq_true rfl⟩) hK trivial rfl hl.1 rfl (Nat.le_of_ble_eq_true rfl) dX5_businessDays_14 ⟨Nat.le_of_ble_eq_true rfl, Nat.le_of_ble_eq_true rfl⟩ ?_
    refine lv_if_ne (tgt := 24) hx hb dX5_businessDays_17 (by decide) (fun c_17 => ?_) (fun c_17 => ?_)
    · have b_17 := bI_nz c_17
      refine lv_iconst (v := 0) hx hb dX5_businessDays_24 rfl ?_
      exact J_25 0 (by first | exact bI_t (fun h => b_10 h.1) | exact bI_t (fun h => b_17 h.2) | exact bI_f (fun h => h ⟨b_10, b_17⟩)) ls hl
    · have b_17 := bI_0.mp c_17
      refine lv_iconst (v := 1) hx hb dX5_businessDays_20 rfl ?_
      refine lv_goto (tgt := 25) hx hb dX5_businessDays_21 (by decide) ?_
      exact J_25 1 (by first | exact bI_t (fun h => b_10 h.1) | exact bI_t (fun h => b_17 h.2) | exact bI_f (fun h => h ⟨b_10, b_17⟩)) ls hl
set_option maxHeartbeats 4000000 in
theorem m_check (l : Launch) (D : va_G) (k : Nat → ClassId) (o a1 a8 a9 a10 a15 : Nat) (t bl tl ps er ea eo ud ns ne se : Int32) (wr : va_W) (d : Nat → Int32) (A : Nat → Prop) (hD : va_D A ((o, .inr (0, [.int t, .ref a1, .int bl, .int tl, .int ps, .int er, .int ea, .int eo, .ref a8, .ref a9, .ref a10, .int ud, .int ns, .int ne, .int se, .ref a15])) :: (a8, .inl (k 0, 1798, .inl d)) :: wr)) (hd : okD d) (x y am dc ins : Int32) : wM l D k yX5_check cX5_check 6 (some .int) 5 116 [.ref o, .int x, .int y, .int am, .int dc, .int ins] ((o, .inr (0, [.int t, .ref a1, .int bl, .int tl, .int ps, .int er, .int ea, .int eo, .ref a8, .ref a9, .ref a10, .int ud, .int ns, .int ne, .int se, .ref a15])) :: (a8, .inl (k 0, 1798, .inl d)) :: wr) (some (.int (pick (hasC d x ∧ ¬ wrong y am dc ins) (faults d (ci x) (ci y) am dc ins)))) ((o, .inr (0, [.int (thr2 (¬ hasC d x) (wrong y am dc ins)), .ref a1, .int bl, .int tl, .int ps, .int er, .int ea, .int eo, .ref a8, .ref a9, .ref a10, .int ud, .int ns, .int ne, .int se, .ref a15])) :: (a8, .inl (k 0, 1798, .inl d)) :: wr) A := by
  refine wM_of (by decide) (Nat.le_of_ble_eq_true rfl) ?_
  intro p e s m below meth c ls C hK hP hS hl
  obtain ⟨hx, hb, hr, hml, hown, hts, hlk⟩ := id C
  have hl : lv_has ls 6 [(0, .ref o), (1, .int x), (2, .int y), (3, .int am), (4, .int dc), (5, .int ins)] := hl
  refine lv_aload_n hx hb dX5_check_0 rfl (lv_at hl 0 rfl) ?_
  refine lv_iconst (v := 0) hx hb dX5_check_1 rfl ?_
  refine va_put hx hb hts in_X5 tyX5 tyX5_ok nmX5 hown hK hP (va_D_of hD rfl) hS 0 rfl rfl 0 (by decide) (hts _ q1662) (fun _ h => h) rfl rfl rfl rfl (Nat.le_of_ble_eq_true rfl) dX5_check_2 (fun H locs hP _ hS => ?_)
  have hP : va_P D clA ((o, .inr (0, [.int 0, .ref a1, .int bl, .int tl, .int ps, .int er, .int ea, .int eo, .ref a8, .ref a9, .ref a10, .int ud, .int ns, .int ne, .int se, .ref a15])) :: (a8, .inl (k 0, 1798, .inl d)) :: wr) H := hP
  refine lv_aload_n hx hb dX5_check_5 rfl (lv_at hl 0 rfl) ?_
  refine lv_iload_n hx hb dX5_check_6 rfl (lv_at hl 1 rfl) ?_
  refine w_callV (As := [.int x]) (rest := []) C (m_noCredit l D k o a1 a8 a9 a10 a15 bl tl ps er ea eo ud ns ne se wr d A (va_D_of hD rfl) hd x) (cwV 1 hts (lw_V q1885 q1887 qs52 q76 q1888) rfl rfl rfl (by decide +kernel) ⟨Nat.le_of_ble_eq_true rfl, Nat.le_of_ble_eq_true rfl⟩) hK (va_recv hK hP (ci := 0) (q0 := 0) rfl rfl) hP hS (fun _ h => h) rfl hl.1 rfl (Nat.le_of_ble_eq_true rfl) dX5_check_7 ⟨Nat.le_of_ble_eq_true rfl, Nat.le_of_ble_eq_true rfl⟩ (fun H locs hP hS _ _ => ?_)
  have hP : va_P D clA ((o, .inr (0, [.int (pick (¬ hasC d x) 1), .ref a1, .int bl, .int tl, .int ps, .int er, .int ea, .int eo, .ref a8, .ref a9, .ref a10, .int ud, .int ns, .int ne, .int se, .ref a15])) :: (a8, .inl (k 0, 1798, .inl d)) :: wr) H := hP
  refine lv_if_ne (tgt := 31) hx hb dX5_check_10 (by decide) (fun c_10 => ?_) (fun c_10 => ?_)
  · have b_10 := bI_nz c_10
    rw [pick_t b_10] at hP
    refine lv_iconst (v := 0) hx hb dX5_check_31 rfl ?_
    refine lv_goto (tgt := 46) hx hb dX5_check_32 (by decide) ?_
    exact w_iret C (pick_f (fun h => b_10 h.1)).symm (by rw [thr2_a b_10]; exact hP) hS dX5_check_46
  · have b_10 := bI_0.mp c_10
    rw [pick_f b_10] at hP
    refine lv_aload_n hx hb dX5_check_13 rfl (lv_at hl 0 rfl) ?_
    refine lv_aload_n hx hb dX5_check_14 rfl (lv_at hl 0 rfl) ?_
    refine lv_iload_n hx hb dX5_check_15 rfl (lv_at hl 2 rfl) ?_
    refine lv_iload_n hx hb dX5_check_16 rfl (lv_at hl 3 rfl) ?_
    refine lv_iload hx hb dX5_check_17 (lv_at hl 4 rfl) ?_
    refine lv_iload hx hb dX5_check_19 (lv_at hl 5 rfl) ?_
    refine r_callV (As := [.int y, .int am, .int dc, .int ins]) (rest := [.ref o]) C (m_isWrong l D k o ([.int 0, .ref a1, .int bl, .int tl, .int ps, .int er, .int ea, .int eo, .ref a8, .ref a9, .ref a10, .int ud, .int ns, .int ne, .int se, .ref a15] : List Value) y am dc ins) (cwV 4 hts (lw_V q1940 q1942 qs59 q76 q1943) rfl rfl rfl (by decide +kernel) ⟨Nat.le_of_ble_eq_true rfl, Nat.le_of_ble_eq_true rfl⟩) hK (va_recv hK hP (ci := 0) (q0 := 0) rfl rfl) (hP.sub [0] rfl) rfl hl.1 rfl (Nat.le_of_ble_eq_true rfl) dX5_check_21 ⟨Nat.le_of_ble_eq_true rfl, Nat.le_of_ble_eq_true rfl⟩ ?_
    refine lv_iconst (v := 2) hx hb dX5_check_24 rfl ?_
    refine w_callV (As := [.int (bI (wrong y am dc ins)), .int 2]) (rest := []) C (m_fails l D k o a1 a8 a9 a10 a15 bl tl ps er ea eo ud ns ne se ((a8, .inl (k 0, 1798, .inl d)) :: wr) A (va_D_of hD rfl) (wrong y am dc ins) 2 (by decide)) (cwV 2 hts (lw_V q1727 q1729 qs31 q76 q1730) rfl rfl rfl (by decide +kernel) ⟨Nat.le_of_ble_eq_true rfl, Nat.le_of_ble_eq_true rfl⟩) hK (va_recv hK hP (ci := 0) (q0 := 0) rfl rfl) hP hS (fun _ h => h) rfl hl.1 rfl (Nat.le_of_ble_eq_true rfl) dX5_check_25 ⟨Nat.le_of_ble_eq_true rfl, Nat.le_of_ble_eq_true rfl⟩ (fun H locs hP hS _ _ => ?_)
    have hP : va_P D clA ((o, .inr (0, [.int (pick (wrong y am dc ins) 2), .ref a1, .int bl, .int tl, .int ps, .int er, .int ea, .int eo, .ref a8, .ref a9, .ref a10, .int ud, .int ns, .int ne, .int se, .ref a15])) :: (a8, .inl (k 0, 1798, .inl d)) :: wr) H := hP
    refine lv_if_eq (tgt := 35) hx hb dX5_check_28 (by decide) (fun c_28 => ?_) (fun c_28 => ?_)
    · have b_28 := bI_0.mp c_28
      rw [pick_f b_28] at hP
      have hlk := hl
      have hPk := hP
      have hSk := hS
      obtain ⟨q, hq, rfl⟩ := hasC_n hd (Classical.not_not.mp b_10)
      have hl := hlk
      have hP := hPk
      have hS := hSk
      obtain ⟨⟨⟨_, n0⟩, ⟨_, n1⟩, -⟩, -⟩ := id hd
      have hlk := hl
      have hPk := hP
      have hSk := hS
      obtain ⟨r, hr2, rfl⟩ := day_n (Classical.not_not.mp (fun h => b_28 (Or.inl h)))
      have hl := hlk
      have hP := hPk
      have hS := hSk
      refine lv_aload_n hx hb dX5_check_35 rfl (lv_at hl 0 rfl) ?_
      refine lv_iload_n hx hb dX5_check_36 rfl (lv_at hl 1 rfl) ?_
      refine lv_iload_n hx hb dX5_check_37 rfl (lv_at hl 2 rfl) ?_
      refine lv_iload_n hx hb dX5_check_38 rfl (lv_at hl 3 rfl) ?_
      refine lv_iload hx hb dX5_check_39 (lv_at hl 4 rfl) ?_
      refine lv_iload hx hb dX5_check_41 (lv_at hl 5 rfl) ?_
      refine r_callV (As := [.int (nI q), .int (nI r), .int am, .int dc, .int ins]) (rest := []) C (m_faultsOf l D k o a8 ([.int 0, .ref a1, .int bl, .int tl, .int ps, .int er, .int ea, .int eo, .ref a8, .ref a9, .ref a10, .int ud, .int ns, .int ne, .int se, .ref a15] : List Value) d rfl hd q r am dc ins (by omega) (by omega)) (cwV 5 hts (lw_V q1945 q1947 qs60 q76 q1948) rfl rfl rfl (by decide +kernel) ⟨Nat.le_of_ble_eq_true rfl, Nat.le_of_ble_eq_true rfl⟩) hK (va_recv hK hP (ci := 0) (q0 := 0) rfl rfl) (hP.sub [0, 1] rfl) rfl hl.1 rfl (Nat.le_of_ble_eq_true rfl) dX5_check_43 ⟨Nat.le_of_ble_eq_true rfl, Nat.le_of_ble_eq_true rfl⟩ ?_
      exact w_iret C (by rw [pick_t ⟨Classical.not_not.mp b_10, b_28⟩, ci_n (by omega), ci_n (by omega)]) (by rw [thr2_c b_10 b_28]; exact hP) hS dX5_check_46
    · have b_28 := bI_nz c_28
      rw [pick_t b_28] at hP
      refine lv_iconst (v := 0) hx hb dX5_check_31 rfl ?_
      refine lv_goto (tgt := 46) hx hb dX5_check_32 (by decide) ?_
      exact w_iret C (pick_f (fun h => h.2 b_28)).symm (by rw [thr2_b b_10 b_28]; exact hP) hS dX5_check_46
set_option maxHeartbeats 4000000 in
theorem m_lastDay (l : Launch) (D : va_G) (k : Nat → ClassId) (o a1 a8 a9 a10 a15 : Nat) (t bl tl ps er ea eo ud ns ne se : Int32) (wr : va_W) (d : Nat → Int32) (A : Nat → Prop) (hD : va_D A ((o, .inr (0, [.int t, .ref a1, .int bl, .int tl, .int ps, .int er, .int ea, .int eo, .ref a8, .ref a9, .ref a10, .int ud, .int ns, .int ne, .int se, .ref a15])) :: (a8, .inl (k 0, 1798, .inl d)) :: wr)) (hd : okD d) (x y : Int32) : wM l D k yX5_lastDay cX5_lastDay 3 (some .int) 3 66 [.ref o, .int x, .int y] ((o, .inr (0, [.int t, .ref a1, .int bl, .int tl, .int ps, .int er, .int ea, .int eo, .ref a8, .ref a9, .ref a10, .int ud, .int ns, .int ne, .int se, .ref a15])) :: (a8, .inl (k 0, 1798, .inl d)) :: wr) (some (.int (pick (hasC d x ∧ inR y 0 9999) (lastD d (ci x) (ci y))))) ((o, .inr (0, [.int (thr2 (¬ hasC d x) (¬ inR y 0 9999)), .ref a1, .int bl, .int tl, .int ps, .int er, .int ea, .int eo, .ref a8, .ref a9, .ref a10, .int ud, .int ns, .int ne, .int se, .ref a15])) :: (a8, .inl (k 0, 1798, .inl d)) :: wr) A := by
  refine wM_of (by decide) (Nat.le_of_ble_eq_true rfl) ?_
  intro p e s m below meth c ls C hK hP hS hl
  obtain ⟨hx, hb, hr, hml, hown, hts, hlk⟩ := id C
  have hl : lv_has ls 3 [(0, .ref o), (1, .int x), (2, .int y)] := hl
  refine lv_aload_n hx hb dX5_lastDay_0 rfl (lv_at hl 0 rfl) ?_
  refine lv_iconst (v := 0) hx hb dX5_lastDay_1 rfl ?_
  refine va_put hx hb hts in_X5 tyX5 tyX5_ok nmX5 hown hK hP (va_D_of hD rfl) hS 0 rfl rfl 0 (by decide) (hts _ q1662) (fun _ h => h) rfl rfl rfl rfl (Nat.le_of_ble_eq_true rfl) dX5_lastDay_2 (fun H locs hP _ hS => ?_)
  have hP : va_P D clA ((o, .inr (0, [.int 0, .ref a1, .int bl, .int tl, .int ps, .int er, .int ea, .int eo, .ref a8, .ref a9, .ref a10, .int ud, .int ns, .int ne, .int se, .ref a15])) :: (a8, .inl (k 0, 1798, .inl d)) :: wr) H := hP
  refine lv_aload_n hx hb dX5_lastDay_5 rfl (lv_at hl 0 rfl) ?_
  refine lv_iload_n hx hb dX5_lastDay_6 rfl (lv_at hl 1 rfl) ?_
  refine w_callV (As := [.int x]) (rest := []) C (m_noCredit l D k o a1 a8 a9 a10 a15 bl tl ps er ea eo ud ns ne se wr d A (va_D_of hD rfl) hd x) (cwV 1 hts (lw_V q1885 q1887 qs52 q76 q1888) rfl rfl rfl (by decide +kernel) ⟨Nat.le_of_ble_eq_true rfl, Nat.le_of_ble_eq_true rfl⟩) hK (va_recv hK hP (ci := 0) (q0 := 0) rfl rfl) hP hS (fun _ h => h) rfl hl.1 rfl (Nat.le_of_ble_eq_true rfl) dX5_lastDay_7 ⟨Nat.le_of_ble_eq_true rfl, Nat.le_of_ble_eq_true rfl⟩ (fun H locs hP hS _ _ => ?_)
  have hP : va_P D clA ((o, .inr (0, [.int (pick (¬ hasC d x) 1), .ref a1, .int bl, .int tl, .int ps, .int er, .int ea, .int eo, .ref a8, .ref a9, .ref a10, .int ud, .int ns, .int ne, .int se, .ref a15])) :: (a8, .inl (k 0, 1798, .inl d)) :: wr) H := hP
  refine lv_if_ne (tgt := 33) hx hb dX5_lastDay_10 (by decide) (fun c_10 => ?_) (fun c_10 => ?_)
  · have b_10 := bI_nz c_10
    rw [pick_t b_10] at hP
    refine lv_iconst (v := 0) hx hb dX5_lastDay_33 rfl ?_
    refine lv_goto (tgt := 43) hx hb dX5_lastDay_34 (by decide) ?_
    exact w_iret C (pick_f (fun h => b_10 h.1)).symm (by rw [thr2_a b_10]; exact hP) hS dX5_lastDay_43
  · have b_10 := bI_0.mp c_10
    rw [pick_f b_10] at hP
    refine lv_aload_n hx hb dX5_lastDay_13 rfl (lv_at hl 0 rfl) ?_
    refine lv_iload_n hx hb dX5_lastDay_14 rfl (lv_at hl 2 rfl) ?_
    refine r_callS (As := [.int y]) (rest := [.ref o]) C (m_isDay l D k y) (va_cwS 1 hts (lw_S q1846 q1847 q76 q1848) rfl rfl rfl (by decide +kernel) ⟨Nat.le_of_ble_eq_true rfl, Nat.le_of_ble_eq_true rfl⟩) hK trivial rfl hl.1 rfl (Nat.le_of_ble_eq_true rfl) dX5_lastDay_15 ⟨Nat.le_of_ble_eq_true rfl, Nat.le_of_ble_eq_true rfl⟩ ?_
    have J_26 : ∀ (z : Int32), (z = bI (¬ inR y 0 9999)) → ∀ (ls : Array Slot), lv_has ls 3 [(0, .ref o), (1, .int x), (2, .int y)] → W p l e (Rm 3 66 0 0) s m ([.ref o, .int x, .int y] : List Value).toArray below meth c H locs 0 0 (MQ below (wQ D (some (.int (pick (hasC d x ∧ inR y 0 9999) (lastD d (ci x) (ci y))))) ((o, .inr (0, [.int (thr2 (¬ hasC d x) (¬ inR y 0 9999)), .ref a1, .int bl, .int tl, .int ps, .int er, .int ea, .int eo, .ref a8, .ref a9, .ref a10, .int ud, .int ns, .int ne, .int se, .ref a15])) :: (a8, .inl (k 0, 1798, .inl d)) :: wr) A) ([.ref o, .int x, .int y] : List Value).toArray s 0 0 A) (F0 m 26 ls [.int z, .ref o]) := by
      intro z h_z ls hl
      refine w_topi (y := bI (¬ inR y 0 9999)) h_z ?_
      refine lv_iconst (v := 2) hx hb dX5_lastDay_26 rfl ?_
      refine w_callV (As := [.int (bI (¬ inR y 0 9999)), .int 2]) (rest := []) C (m_fails l D k o a1 a8 a9 a10 a15 bl tl ps er ea eo ud ns ne se ((a8, .inl (k 0, 1798, .inl d)) :: wr) A (va_D_of hD rfl) (¬ inR y 0 9999) 2 (by decide)) (cwV 2 hts (lw_V q1727 q1729 qs31 q76 q1730) rfl rfl rfl (by decide +kernel) ⟨Nat.le_of_ble_eq_true rfl, Nat.le_of_ble_eq_true rfl⟩) hK (va_recv hK hP (ci := 0) (q0 := 0) rfl rfl) hP hS (fun _ h => h) rfl hl.1 rfl (Nat.le_of_ble_eq_true rfl) dX5_lastDay_27 ⟨Nat.le_of_ble_eq_true rfl, Nat.le_of_ble_eq_true rfl⟩ (fun H locs hP hS _ _ => ?_)
      have hP : va_P D clA ((o, .inr (0, [.int (pick (¬ inR y 0 9999) 2), .ref a1, .int bl, .int tl, .int ps, .int er, .int ea, .int eo, .ref a8, .ref a9, .ref a10, .int ud, .int ns, .int ne, .int se, .ref a15])) :: (a8, .inl (k 0, 1798, .inl d)) :: wr) H := hP
      refine lv_if_eq (tgt := 37) hx hb dX5_lastDay_30 (by decide) (fun c_30 => ?_) (fun c_30 => ?_)
      · have b_30 := bI_0.mp c_30
        rw [pick_f b_30] at hP
        have hlk := hl
        have hPk := hP
        have hSk := hS
        obtain ⟨q, hq, rfl⟩ := hasC_n hd (Classical.not_not.mp b_10)
        have hl := hlk
        have hP := hPk
        have hS := hSk
        obtain ⟨⟨⟨_, n0⟩, ⟨_, n1⟩, -⟩, -⟩ := id hd
        have hlk := hl
        have hPk := hP
        have hSk := hS
        obtain ⟨r, hr, rfl⟩ := day_n (Classical.not_not.mp b_30)
        have hl := hlk
        have hP := hPk
        have hS := hSk
        refine lv_aload_n hx hb dX5_lastDay_37 rfl (lv_at hl 0 rfl) ?_
        refine lv_iload_n hx hb dX5_lastDay_38 rfl (lv_at hl 1 rfl) ?_
        refine lv_iload_n hx hb dX5_lastDay_39 rfl (lv_at hl 2 rfl) ?_
        refine r_callV (As := [.int (nI q), .int (nI r)]) (rest := []) C (m_lastDayOf l D k o a8 ([.int 0, .ref a1, .int bl, .int tl, .int ps, .int er, .int ea, .int eo, .ref a8, .ref a9, .ref a10, .int ud, .int ns, .int ne, .int se, .ref a15] : List Value) d rfl hd q r (by omega) (by omega)) (cwV 2 hts (lw_V q1949 q1951 qs61 q76 q1952) rfl rfl rfl (by decide +kernel) ⟨Nat.le_of_ble_eq_true rfl, Nat.le_of_ble_eq_true rfl⟩) hK (va_recv hK hP (ci := 0) (q0 := 0) rfl rfl) (hP.sub [0, 1] rfl) rfl hl.1 rfl (Nat.le_of_ble_eq_true rfl) dX5_lastDay_40 ⟨Nat.le_of_ble_eq_true rfl, Nat.le_of_ble_eq_true rfl⟩ ?_
        exact w_iret C (by rw [pick_t ⟨Classical.not_not.mp b_10, Classical.not_not.mp b_30⟩, ci_n (by omega), ci_n (by omega)]) (by rw [thr2_c b_10 b_30]; exact hP) hS dX5_lastDay_43
      · have b_30 := bI_nz c_30
        rw [pick_t b_30] at hP
        refine lv_iconst (v := 0) hx hb dX5_lastDay_33 rfl ?_
        refine lv_goto (tgt := 43) hx hb dX5_lastDay_34 (by decide) ?_
        exact w_iret C (pick_f (fun h => b_30 h.2)).symm (by rw [thr2_b b_10 b_30]; exact hP) hS dX5_lastDay_43
    refine lv_if_ne (tgt := 25) hx hb dX5_lastDay_18 (by decide) (fun c_18 => ?_) (fun c_18 => ?_)
    · have b_18 := bI_nz c_18
      refine lv_iconst (v := 0) hx hb dX5_lastDay_25 rfl ?_
      exact J_26 0 (by first | exact bI_t b_18 | exact bI_f (fun h => h b_18)) ls hl
    · have b_18 := bI_0.mp c_18
      refine lv_iconst (v := 1) hx hb dX5_lastDay_21 rfl ?_
      refine lv_goto (tgt := 26) hx hb dX5_lastDay_22 (by decide) ?_
      exact J_26 1 (by first | exact bI_t b_18 | exact bI_f (fun h => h b_18)) ls hl
