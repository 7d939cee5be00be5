/-! the reference: load (printed by gen/m16.py) -/
set_option maxRecDepth 100000
set_option maxHeartbeats 4000000 in
theorem m_load_no (l : Launch) (D : va_G) (k : Nat → ClassId) (o a1 a8 a9 a10 a15 : Nat) (t tl ps er ea eo ne se : Int32) (hh : Nat → Nat) (d dr fb : Nat → Int32) (st : Nat → Int64) (hs : Nat → Nat → Int32) (b u n0 : Nat) (hb0 : b ≤ 900) (hu : u ≤ 8) (hn0 : n0 ≤ 2000) (A : Nat → Prop) (hD : va_D A ((o, .inr (0, [.int t, .ref a1, .int (nI b), .int tl, .int ps, .int er, .int ea, .int eo, .ref a8, .ref a9, .ref a10, .int (nI u), .int (nI n0), .int ne, .int se, .ref a15])) :: (a8, .inl (k 0, 1798, .inl d)) :: (a9, .inl (k 0, 1798, .inl dr)) :: (a1, .inl (k 0, 900, .inl fb)) :: hR k a15 a10 hh st hs)) (sA sV : Nat → Nat) (x : Int32) (hno : ¬ inR x 0 (nI b)) : xM l D k yX5_load cX5_load 3 (some .int) 11 400 [.ref o, .int x] ((o, .inr (0, [.int t, .ref a1, .int (nI b), .int tl, .int ps, .int er, .int ea, .int eo, .ref a8, .ref a9, .ref a10, .int (nI u), .int (nI n0), .int ne, .int se, .ref a15])) :: (a8, .inl (k 0, 1798, .inl d)) :: (a9, .inl (k 0, 1798, .inl dr)) :: (a1, .inl (k 0, 900, .inl fb)) :: hR k a15 a10 hh st hs) (MS A sA sV) (some (.int 0)) ((o, .inr (0, [.int 1, .ref a1, .int (nI b), .int tl, .int ps, .int er, .int ea, .int eo, .ref a8, .ref a9, .ref a10, .int (nI u), .int (nI n0), .int ne, .int se, .ref a15])) :: (a8, .inl (k 0, 1798, .inl d)) :: (a9, .inl (k 0, 1798, .inl dr)) :: (a1, .inl (k 0, 900, .inl fb)) :: hR k a15 a10 hh st hs) A := by
  refine xM_of (by decide) (Nat.le_of_ble_eq_true rfl) ?_
  intro p e s m below meth c ls C hK hX hP hS hl
  obtain ⟨hE, hT⟩ := id hX
  obtain ⟨hx, hb, hr, hml, hown, hts, hlk⟩ := id C
  have hl : lv_has ls 3 [(0, .ref o), (1, .int x)] := hl
  refine lv_aload_n hx hb dX5_load_0 rfl (lv_at hl 0 rfl) ?_
  refine lv_iconst (v := 0) hx hb dX5_load_1 rfl ?_
  refine va_put hx hb hts in_X5 tyX5 tyX5_ok nmX5 hown hK hP (va_D_of hD rfl) hS 0 rfl rfl 0 (by decide) (hts _ q1662) (fun _ h => h) rfl rfl rfl rfl (Nat.le_of_ble_eq_true rfl) dX5_load_2 (fun H locs hP _ hS => ?_)
  have hP : va_P D clA ((o, .inr (0, [.int 0, .ref a1, .int (nI b), .int tl, .int ps, .int er, .int ea, .int eo, .ref a8, .ref a9, .ref a10, .int (nI u), .int (nI n0), .int ne, .int se, .ref a15])) :: (a8, .inl (k 0, 1798, .inl d)) :: (a9, .inl (k 0, 1798, .inl dr)) :: (a1, .inl (k 0, 900, .inl fb)) :: hR k a15 a10 hh st hs) H := hP
  refine lv_aload_n hx hb dX5_load_5 rfl (lv_at hl 0 rfl) ?_
  refine lv_iload_n hx hb dX5_load_6 rfl (lv_at hl 1 rfl) ?_
  refine lv_iconst (v := 0) hx hb dX5_load_7 rfl ?_
  refine lv_aload_n hx hb dX5_load_8 rfl (lv_at hl 0 rfl) ?_
  refine va_get hx hb hts in_X5 hown hK hP 0 rfl rfl 2 (by decide) (hts _ q1664) (fun _ h => h) rfl dX5_load_9 ?_
  refine r_callS (As := [.int x, .int 0, .int (nI b)]) (rest := [.ref o]) C (m_in l D k x 0 (nI b)) (va_cwS 3 hts (lw_S q1724 q1725 q76 q1726) rfl rfl rfl (by decide +kernel) ⟨Nat.le_of_ble_eq_true rfl, Nat.le_of_ble_eq_true rfl⟩) hK trivial rfl hl.1 rfl (Nat.le_of_ble_eq_true rfl) dX5_load_12 ⟨Nat.le_of_ble_eq_true rfl, Nat.le_of_ble_eq_true rfl⟩ ?_
  have J_23 : ∀ (z : Int32), (z = bI (¬ inR x 0 (nI b))) → ∀ (ls : Array Slot), lv_has ls 3 [(0, .ref o), (1, .int x)] → W p l e (Rm 11 400 0 0) s m ([.ref o, .int x] : List Value).toArray below meth c H locs 0 0 (MQ below (wQ D (some (.int 0)) ((o, .inr (0, [.int 1, .ref a1, .int (nI b), .int tl, .int ps, .int er, .int ea, .int eo, .ref a8, .ref a9, .ref a10, .int (nI u), .int (nI n0), .int ne, .int se, .ref a15])) :: (a8, .inl (k 0, 1798, .inl d)) :: (a9, .inl (k 0, 1798, .inl dr)) :: (a1, .inl (k 0, 900, .inl fb)) :: hR k a15 a10 hh st hs) A) ([.ref o, .int x] : List Value).toArray s 0 0 A) (F0 m 23 ls [.int z, .ref o]) := by
    intro z h_z ls hl
    refine w_topi (y := bI (¬ inR x 0 (nI b))) h_z ?_
    refine lv_iconst (v := 1) hx hb dX5_load_23 rfl ?_
    refine w_callV (As := [.int (bI (¬ inR x 0 (nI b))), .int 1]) (rest := []) C (m_fails l D k o a1 a8 a9 a10 a15 (nI b) tl ps er ea eo (nI u) (nI n0) ne se ((a8, .inl (k 0, 1798, .inl d)) :: (a9, .inl (k 0, 1798, .inl dr)) :: (a1, .inl (k 0, 900, .inl fb)) :: hR k a15 a10 hh st hs) A (va_D_of hD rfl) (¬ inR x 0 (nI b)) 1 (by decide)) (cwV 2 hts (lw_V q1727 q1729 qs31 q76 q1730) rfl rfl rfl (by decide +kernel) ⟨Nat.le_of_ble_eq_true rfl, Nat.le_of_ble_eq_true rfl⟩) hK (va_recv hK hP (ci := 0) (q0 := 0) rfl rfl) hP hS (fun _ h => h) rfl hl.1 rfl (Nat.le_of_ble_eq_true rfl) dX5_load_24 ⟨Nat.le_of_ble_eq_true rfl, Nat.le_of_ble_eq_true rfl⟩ (fun H locs hP hS _ _ => ?_)
    have hP : va_P D clA ((o, .inr (0, [.int (pick (¬ inR x 0 (nI b)) 1), .ref a1, .int (nI b), .int tl, .int ps, .int er, .int ea, .int eo, .ref a8, .ref a9, .ref a10, .int (nI u), .int (nI n0), .int ne, .int se, .ref a15])) :: (a8, .inl (k 0, 1798, .inl d)) :: (a9, .inl (k 0, 1798, .inl dr)) :: (a1, .inl (k 0, 900, .inl fb)) :: hR k a15 a10 hh st hs) H := hP
    refine lv_if_eq (tgt := 32) hx hb dX5_load_27 (by decide) (fun c_27 => ?_) (fun c_27 => ?_)
    · exact absurd hno (bI_0.mp c_27)
    · have b_27 := bI_nz c_27
      refine lv_iconst (v := 0) hx hb dX5_load_30 rfl ?_
      exact w_iret C rfl (by rw [pick_t b_27] at hP; exact hP) hS dX5_load_31
  refine lv_if_ne (tgt := 22) hx hb dX5_load_15 (by decide) (fun c_15 => ?_) (fun c_15 => ?_)
  · have b_15 := bI_nz c_15
    refine lv_iconst (v := 0) hx hb dX5_load_22 rfl ?_
    exact J_23 0 (by first | exact bI_t b_15 | exact bI_f (fun h => h b_15)) ls hl
  · have b_15 := bI_0.mp c_15
    refine lv_iconst (v := 1) hx hb dX5_load_18 rfl ?_
    refine lv_goto (tgt := 23) hx hb dX5_load_19 (by decide) ?_
    exact J_23 1 (by first | exact bI_t b_15 | exact bI_f (fun h => h b_15)) ls hl
set_option maxHeartbeats 64000000 in
theorem m_load_err (l : Launch) (D : va_G) (k : Nat → ClassId) (o a1 a8 a9 a10 a15 : Nat) (t tl ps er ea eo ne se : Int32) (hh : Nat → Nat) (d dr fb : Nat → Int32) (st : Nat → Int64) (hs : Nat → Nat → Int32) (b u n0 : Nat) (hb0 : b ≤ 900) (hu : u ≤ 8) (hn0 : n0 ≤ 2000) (A : Nat → Prop) (hD : va_D A ((o, .inr (0, [.int t, .ref a1, .int (nI b), .int tl, .int ps, .int er, .int ea, .int eo, .ref a8, .ref a9, .ref a10, .int (nI u), .int (nI n0), .int ne, .int se, .ref a15])) :: (a8, .inl (k 0, 1798, .inl d)) :: (a9, .inl (k 0, 1798, .inl dr)) :: (a1, .inl (k 0, 900, .inl fb)) :: hR k a15 a10 hh st hs)) (sA sV : Nat → Nat) (L : Nat) (hLb : L ≤ b) (hfb : ∀ j, j < L → ¬ fb j = -1) (hres : ¬ (ldF fb L (L + 2) (0, 0, -1, n0) (fun _ => 0) 0).1.2.1 = 0) : xM l D k yX5_load cX5_load 3 (some .int) 30 1200 [.ref o, .int (nI L)] ((o, .inr (0, [.int t, .ref a1, .int (nI b), .int tl, .int ps, .int er, .int ea, .int eo, .ref a8, .ref a9, .ref a10, .int (nI u), .int (nI n0), .int ne, .int se, .ref a15])) :: (a8, .inl (k 0, 1798, .inl d)) :: (a9, .inl (k 0, 1798, .inl dr)) :: (a1, .inl (k 0, 900, .inl fb)) :: hR k a15 a10 hh st hs) (MS A sA sV) (some (.int ((ldF fb L (L + 2) (0, 0, -1, n0) (fun _ => 0) 0).1.2.1))) ((o, .inr (0, [.int 0, .ref a1, .int 0, .int (nI L), .int (nI (ldF fb L (L + 2) (0, 0, -1, n0) (fun _ => 0) 0).1.1), .int ((ldF fb L (L + 2) (0, 0, -1, n0) (fun _ => 0) 0).1.2.1), .int ((ldF fb L (L + 2) (0, 0, -1, n0) (fun _ => 0) 0).1.2.2.1), .int ((ldF fb L (L + 2) (0, 0, -1, n0) (fun _ => 0) 0).1.2.2.1), .ref a8, .ref a9, .ref a10, .int (nI u), .int (nI (ldF fb L (L + 2) (0, 0, -1, n0) (fun _ => 0) 0).1.2.2.2), .int 0, .int ((ldF fb L (L + 2) (0, 0, -1, n0) (fun _ => 0) 0).2.2), .ref a15])) :: (a8, .inl (k 0, 1798, .inl d)) :: (a9, .inl (k 0, 1798, .inl ((ldF fb L (L + 2) (0, 0, -1, n0) (fun _ => 0) 0).2.1))) :: (a1, .inl (k 0, 900, .inl fb)) :: hR k a15 a10 hh st hs) A := by
  refine xM_of (by decide) (Nat.le_of_ble_eq_true rfl) ?_
  intro p e s m below meth c ls C hK hX hP hS hl
  obtain ⟨hE, hT⟩ := id hX
  obtain ⟨hx, hb, hr, hml, hown, hts, hlk⟩ := id C
  have hl : lv_has ls 3 [(0, .ref o), (1, .int (nI L))] := hl
  have hL : L ≤ 900 := by omega
  have hin : inR (nI L) 0 (nI b) := ⟨nI_pos' (by omega), nI_le hLb (by omega)⟩
  refine lv_aload_n hx hb dX5_load_0 rfl (lv_at hl 0 rfl) ?_
  refine lv_iconst (v := 0) hx hb dX5_load_1 rfl ?_
  refine va_put hx hb hts in_X5 tyX5 tyX5_ok nmX5 hown hK hP (va_D_of hD rfl) hS 0 rfl rfl 0 (by decide) (hts _ q1662) (fun _ h => h) rfl rfl rfl rfl (Nat.le_of_ble_eq_true rfl) dX5_load_2 (fun H locs hP _ hS => ?_)
  have hP : va_P D clA ((o, .inr (0, [.int 0, .ref a1, .int (nI b), .int tl, .int ps, .int er, .int ea, .int eo, .ref a8, .ref a9, .ref a10, .int (nI u), .int (nI n0), .int ne, .int se, .ref a15])) :: (a8, .inl (k 0, 1798, .inl d)) :: (a9, .inl (k 0, 1798, .inl dr)) :: (a1, .inl (k 0, 900, .inl fb)) :: hR k a15 a10 hh st hs) H := hP
  refine lv_aload_n hx hb dX5_load_5 rfl (lv_at hl 0 rfl) ?_
  refine lv_iload_n hx hb dX5_load_6 rfl (lv_at hl 1 rfl) ?_
  refine lv_iconst (v := 0) hx hb dX5_load_7 rfl ?_
  refine lv_aload_n hx hb dX5_load_8 rfl (lv_at hl 0 rfl) ?_
  refine va_get hx hb hts in_X5 hown hK hP 0 rfl rfl 2 (by decide) (hts _ q1664) (fun _ h => h) rfl dX5_load_9 ?_
  refine r_callS (As := [.int (nI L), .int 0, .int (nI b)]) (rest := [.ref o]) C (m_in l D k (nI L) 0 (nI b)) (va_cwS 3 hts (lw_S q1724 q1725 q76 q1726) rfl rfl rfl (by decide +kernel) ⟨Nat.le_of_ble_eq_true rfl, Nat.le_of_ble_eq_true rfl⟩) hK trivial rfl hl.1 rfl (Nat.le_of_ble_eq_true rfl) dX5_load_12 ⟨Nat.le_of_ble_eq_true rfl, Nat.le_of_ble_eq_true rfl⟩ ?_
  have J_23 : ∀ (z : Int32), (z = bI (¬ inR (nI L) 0 (nI b))) → ∀ (ls : Array Slot), lv_has ls 3 [(0, .ref o), (1, .int (nI L))] → W p l e (Rm 30 1200 0 0) s m ([.ref o, .int (nI L)] : List Value).toArray below meth c H locs 0 0 (MQ below (wQ D (some (.int ((ldF fb L (L + 2) (0, 0, -1, n0) (fun _ => 0) 0).1.2.1))) ((o, .inr (0, [.int 0, .ref a1, .int 0, .int (nI L), .int (nI (ldF fb L (L + 2) (0, 0, -1, n0) (fun _ => 0) 0).1.1), .int ((ldF fb L (L + 2) (0, 0, -1, n0) (fun _ => 0) 0).1.2.1), .int ((ldF fb L (L + 2) (0, 0, -1, n0) (fun _ => 0) 0).1.2.2.1), .int ((ldF fb L (L + 2) (0, 0, -1, n0) (fun _ => 0) 0).1.2.2.1), .ref a8, .ref a9, .ref a10, .int (nI u), .int (nI (ldF fb L (L + 2) (0, 0, -1, n0) (fun _ => 0) 0).1.2.2.2), .int 0, .int ((ldF fb L (L + 2) (0, 0, -1, n0) (fun _ => 0) 0).2.2), .ref a15])) :: (a8, .inl (k 0, 1798, .inl d)) :: (a9, .inl (k 0, 1798, .inl ((ldF fb L (L + 2) (0, 0, -1, n0) (fun _ => 0) 0).2.1))) :: (a1, .inl (k 0, 900, .inl fb)) :: hR k a15 a10 hh st hs) A) ([.ref o, .int (nI L)] : List Value).toArray s 0 0 A) (F0 m 23 ls [.int z, .ref o]) := by
    intro z h_z ls hl
    refine w_topi (y := bI (¬ inR (nI L) 0 (nI b))) h_z ?_
    refine lv_iconst (v := 1) hx hb dX5_load_23 rfl ?_
    refine w_callV (As := [.int (bI (¬ inR (nI L) 0 (nI b))), .int 1]) (rest := []) C (m_fails l D k o a1 a8 a9 a10 a15 (nI b) tl ps er ea eo (nI u) (nI n0) ne se ((a8, .inl (k 0, 1798, .inl d)) :: (a9, .inl (k 0, 1798, .inl dr)) :: (a1, .inl (k 0, 900, .inl fb)) :: hR k a15 a10 hh st hs) A (va_D_of hD rfl) (¬ inR (nI L) 0 (nI b)) 1 (by decide)) (cwV 2 hts (lw_V q1727 q1729 qs31 q76 q1730) rfl rfl rfl (by decide +kernel) ⟨Nat.le_of_ble_eq_true rfl, Nat.le_of_ble_eq_true rfl⟩) hK (va_recv hK hP (ci := 0) (q0 := 0) rfl rfl) hP hS (fun _ h => h) rfl hl.1 rfl (Nat.le_of_ble_eq_true rfl) dX5_load_24 ⟨Nat.le_of_ble_eq_true rfl, Nat.le_of_ble_eq_true rfl⟩ (fun H locs hP hS _ _ => ?_)
    have hP : va_P D clA ((o, .inr (0, [.int (pick (¬ inR (nI L) 0 (nI b)) 1), .ref a1, .int (nI b), .int tl, .int ps, .int er, .int ea, .int eo, .ref a8, .ref a9, .ref a10, .int (nI u), .int (nI n0), .int ne, .int se, .ref a15])) :: (a8, .inl (k 0, 1798, .inl d)) :: (a9, .inl (k 0, 1798, .inl dr)) :: (a1, .inl (k 0, 900, .inl fb)) :: hR k a15 a10 hh st hs) H := hP
    refine lv_if_eq (tgt := 32) hx hb dX5_load_27 (by decide) (fun c_27 => ?_) (fun c_27 => ?_)
    · have b_27 := bI_0.mp c_27
      rw [pick_f b_27] at hP
      refine lv_aload_n hx hb dX5_load_32 rfl (lv_at hl 0 rfl) ?_
      refine lv_iconst (v := 0) hx hb dX5_load_33 rfl ?_
      refine va_put hx hb hts in_X5 tyX5 tyX5_ok nmX5 hown hK hP (va_D_of hD rfl) hS 0 rfl rfl 2 (by decide) (hts _ q1664) (fun _ h => h) rfl rfl rfl rfl (Nat.le_of_ble_eq_true rfl) dX5_load_34 (fun H locs hP _ hS => ?_)
      have hP : va_P D clA ((o, .inr (0, [.int 0, .ref a1, .int 0, .int tl, .int ps, .int er, .int ea, .int eo, .ref a8, .ref a9, .ref a10, .int (nI u), .int (nI n0), .int ne, .int se, .ref a15])) :: (a8, .inl (k 0, 1798, .inl d)) :: (a9, .inl (k 0, 1798, .inl dr)) :: (a1, .inl (k 0, 900, .inl fb)) :: hR k a15 a10 hh st hs) H := hP
      refine lv_aload_n hx hb dX5_load_37 rfl (lv_at hl 0 rfl) ?_
      refine lv_iload_n hx hb dX5_load_38 rfl (lv_at hl 1 rfl) ?_
      refine va_put hx hb hts in_X5 tyX5 tyX5_ok nmX5 hown hK hP (va_D_of hD rfl) hS 0 rfl rfl 3 (by decide) (hts _ q1665) (fun _ h => h) rfl rfl rfl rfl (Nat.le_of_ble_eq_true rfl) dX5_load_39 (fun H locs hP _ hS => ?_)
      have hP : va_P D clA ((o, .inr (0, [.int 0, .ref a1, .int 0, .int (nI L), .int ps, .int er, .int ea, .int eo, .ref a8, .ref a9, .ref a10, .int (nI u), .int (nI n0), .int ne, .int se, .ref a15])) :: (a8, .inl (k 0, 1798, .inl d)) :: (a9, .inl (k 0, 1798, .inl dr)) :: (a1, .inl (k 0, 900, .inl fb)) :: hR k a15 a10 hh st hs) H := hP
      refine lv_aload_n hx hb dX5_load_42 rfl (lv_at hl 0 rfl) ?_
      refine lv_iconst (v := 0) hx hb dX5_load_43 rfl ?_
      refine va_put hx hb hts in_X5 tyX5 tyX5_ok nmX5 hown hK hP (va_D_of hD rfl) hS 0 rfl rfl 4 (by decide) (hts _ q1666) (fun _ h => h) rfl rfl rfl rfl (Nat.le_of_ble_eq_true rfl) dX5_load_44 (fun H locs hP _ hS => ?_)
      have hP : va_P D clA ((o, .inr (0, [.int 0, .ref a1, .int 0, .int (nI L), .int 0, .int er, .int ea, .int eo, .ref a8, .ref a9, .ref a10, .int (nI u), .int (nI n0), .int ne, .int se, .ref a15])) :: (a8, .inl (k 0, 1798, .inl d)) :: (a9, .inl (k 0, 1798, .inl dr)) :: (a1, .inl (k 0, 900, .inl fb)) :: hR k a15 a10 hh st hs) H := hP
      refine lv_aload_n hx hb dX5_load_47 rfl (lv_at hl 0 rfl) ?_
      refine lv_iconst (v := 0) hx hb dX5_load_48 rfl ?_
      refine va_put hx hb hts in_X5 tyX5 tyX5_ok nmX5 hown hK hP (va_D_of hD rfl) hS 0 rfl rfl 5 (by decide) (hts _ q1667) (fun _ h => h) rfl rfl rfl rfl (Nat.le_of_ble_eq_true rfl) dX5_load_49 (fun H locs hP _ hS => ?_)
      have hP : va_P D clA ((o, .inr (0, [.int 0, .ref a1, .int 0, .int (nI L), .int 0, .int 0, .int ea, .int eo, .ref a8, .ref a9, .ref a10, .int (nI u), .int (nI n0), .int ne, .int se, .ref a15])) :: (a8, .inl (k 0, 1798, .inl d)) :: (a9, .inl (k 0, 1798, .inl dr)) :: (a1, .inl (k 0, 900, .inl fb)) :: hR k a15 a10 hh st hs) H := hP
      refine lv_aload_n hx hb dX5_load_52 rfl (lv_at hl 0 rfl) ?_
      refine lv_iconst (v := (-1)) hx hb dX5_load_53 rfl ?_
      refine va_put hx hb hts in_X5 tyX5 tyX5_ok nmX5 hown hK hP (va_D_of hD rfl) hS 0 rfl rfl 6 (by decide) (hts _ q1668) (fun _ h => h) rfl rfl rfl rfl (Nat.le_of_ble_eq_true rfl) dX5_load_54 (fun H locs hP _ hS => ?_)
      have hP : va_P D clA ((o, .inr (0, [.int 0, .ref a1, .int 0, .int (nI L), .int 0, .int 0, .int (-1), .int eo, .ref a8, .ref a9, .ref a10, .int (nI u), .int (nI n0), .int ne, .int se, .ref a15])) :: (a8, .inl (k 0, 1798, .inl d)) :: (a9, .inl (k 0, 1798, .inl dr)) :: (a1, .inl (k 0, 900, .inl fb)) :: hR k a15 a10 hh st hs) H := hP
      refine lv_aload_n hx hb dX5_load_57 rfl (lv_at hl 0 rfl) ?_
      refine lv_iconst (v := 0) hx hb dX5_load_58 rfl ?_
      refine va_put hx hb hts in_X5 tyX5 tyX5_ok nmX5 hown hK hP (va_D_of hD rfl) hS 0 rfl rfl 13 (by decide) (hts _ q1675) (fun _ h => h) rfl rfl rfl rfl (Nat.le_of_ble_eq_true rfl) dX5_load_59 (fun H locs hP _ hS => ?_)
      have hP : va_P D clA ((o, .inr (0, [.int 0, .ref a1, .int 0, .int (nI L), .int 0, .int 0, .int (-1), .int eo, .ref a8, .ref a9, .ref a10, .int (nI u), .int (nI n0), .int 0, .int se, .ref a15])) :: (a8, .inl (k 0, 1798, .inl d)) :: (a9, .inl (k 0, 1798, .inl dr)) :: (a1, .inl (k 0, 900, .inl fb)) :: hR k a15 a10 hh st hs) H := hP
      refine lv_aload_n hx hb dX5_load_62 rfl (lv_at hl 0 rfl) ?_
      refine lv_iconst (v := 0) hx hb dX5_load_63 rfl ?_
      refine va_put hx hb hts in_X5 tyX5 tyX5_ok nmX5 hown hK hP (va_D_of hD rfl) hS 0 rfl rfl 14 (by decide) (hts _ q1676) (fun _ h => h) rfl rfl rfl rfl (Nat.le_of_ble_eq_true rfl) dX5_load_64 (fun H locs hP _ hS => ?_)
      have hP : va_P D clA ((o, .inr (0, [.int 0, .ref a1, .int 0, .int (nI L), .int 0, .int 0, .int (-1), .int eo, .ref a8, .ref a9, .ref a10, .int (nI u), .int (nI n0), .int 0, .int 0, .ref a15])) :: (a8, .inl (k 0, 1798, .inl d)) :: (a9, .inl (k 0, 1798, .inl dr)) :: (a1, .inl (k 0, 900, .inl fb)) :: hR k a15 a10 hh st hs) H := hP
      refine lv_iconst (v := 0) hx hb dX5_load_67 rfl ?_
      refine lv_istore_n (lv' := [(2, .int 0), (0, .ref o), (1, .int (nI L))]) hx hb dX5_load_68 rfl hl (by decide) rfl (fun ls hl => ?_)
      have loop_69 : ∀ (n : Nat) (j : Nat) (g2 : Nat → Int32), (j ≤ 1798) → (∀ a, a < j → g2 a = 0) → (1799 ≤ j + n) → ∀ (H : Heap) (locs : List Loc), va_P D clA ((o, .inr (0, [.int 0, .ref a1, .int 0, .int (nI L), .int 0, .int 0, .int (-1), .int eo, .ref a8, .ref a9, .ref a10, .int (nI u), .int (nI n0), .int 0, .int 0, .ref a15])) :: (a8, .inl (k 0, 1798, .inl d)) :: (a9, .inl (k 0, 1798, .inl g2)) :: (a1, .inl (k 0, 900, .inl fb)) :: hR k a15 a10 hh st hs) H → va_S A s.heap H locs → ∀ (ls : Array Slot), lv_has ls 3 [(0, .ref o), (1, .int (nI L)), (2, .int (nI j))] → W p l e (Rm 30 1200 0 0) s m ([.ref o, .int (nI L)] : List Value).toArray below meth c H locs 0 0 (MQ below (wQ D (some (.int ((ldF fb L (L + 2) (0, 0, -1, n0) (fun _ => 0) 0).1.2.1))) ((o, .inr (0, [.int 0, .ref a1, .int 0, .int (nI L), .int (nI (ldF fb L (L + 2) (0, 0, -1, n0) (fun _ => 0) 0).1.1), .int ((ldF fb L (L + 2) (0, 0, -1, n0) (fun _ => 0) 0).1.2.1), .int ((ldF fb L (L + 2) (0, 0, -1, n0) (fun _ => 0) 0).1.2.2.1), .int ((ldF fb L (L + 2) (0, 0, -1, n0) (fun _ => 0) 0).1.2.2.1), .ref a8, .ref a9, .ref a10, .int (nI u), .int (nI (ldF fb L (L + 2) (0, 0, -1, n0) (fun _ => 0) 0).1.2.2.2), .int 0, .int ((ldF fb L (L + 2) (0, 0, -1, n0) (fun _ => 0) 0).2.2), .ref a15])) :: (a8, .inl (k 0, 1798, .inl d)) :: (a9, .inl (k 0, 1798, .inl ((ldF fb L (L + 2) (0, 0, -1, n0) (fun _ => 0) 0).2.1))) :: (a1, .inl (k 0, 900, .inl fb)) :: hR k a15 a10 hh st hs) A) ([.ref o, .int (nI L)] : List Value).toArray s 0 0 A) (F0 m 69 ls []) := by
        intro n
        induction n with
        | zero =>
          intro j g2 hj hg2 hn
          exact absurd hn (by omega)
        | succ n ih_69 =>
          intro j g2 hj hg2 hn H locs hP hS ls hl
          refine lv_iload_n hx hb dX5_load_69 rfl (lv_at hl 2 rfl) ?_
          refine lv_sipush (v := 1798) hx hb dX5_load_70 rfl ?_
          refine lv_icmp_ge (tgt := 89) hx hb dX5_load_73 (by decide) (fun c_73 => ?_) (fun c_73 => ?_)
          · have g_73 := nI_le' (a := 1798) c_73 (by decide) (by omega)
            have hP : va_P D clA ((o, .inr (0, [.int 0, .ref a1, .int 0, .int (nI L), .int (nI ((0, 0, -1, n0) : PS).1), .int (((0, 0, -1, n0) : PS).2.1), .int (((0, 0, -1, n0) : PS).2.2.1), .int eo, .ref a8, .ref a9, .ref a10, .int (nI u), .int (nI ((0, 0, -1, n0) : PS).2.2.2), .int 0, .int 0, .ref a15])) :: (a8, .inl (k 0, 1798, .inl d)) :: (a9, .inl (k 0, 1798, .inl (fun _ => 0))) :: (a1, .inl (k 0, 900, .inl fb)) :: hR k a15 a10 hh st hs) H := va_cons (hP 0 _ rfl) (va_cons (hP 1 _ rfl) (va_cons (va_cgi (hP 2 _ rfl) (fun a ha => hg2 a (by omega))) (fun k_ q_ h_ => hP (k_ + 3) q_ (by simpa using h_))))
            have loop_89 : ∀ (m2 : Nat) (τ : PS) (d1 : Nat → Int32) (s1 : Int32), (okS L τ) → (τ.2.1 = 0 → Dr d1 s1) → (ldF fb L m2 τ d1 s1 = ldF fb L (L + 2) (0, 0, -1, n0) (fun _ => 0) 0) → (τ.2.1 = 0 → L - τ.1 + 1 ≤ m2) → (1 ≤ m2) → ∀ (H : Heap) (locs : List Loc), va_P D clA ((o, .inr (0, [.int 0, .ref a1, .int 0, .int (nI L), .int (nI τ.1), .int τ.2.1, .int τ.2.2.1, .int eo, .ref a8, .ref a9, .ref a10, .int (nI u), .int (nI τ.2.2.2), .int 0, .int s1, .ref a15])) :: (a8, .inl (k 0, 1798, .inl d)) :: (a9, .inl (k 0, 1798, .inl d1)) :: (a1, .inl (k 0, 900, .inl fb)) :: hR k a15 a10 hh st hs) H → va_S A s.heap H locs → ∀ (ls : Array Slot), lv_has ls 3 [(0, .ref o), (1, .int (nI L))] → W p l e (Rm 30 1200 0 0) s m ([.ref o, .int (nI L)] : List Value).toArray below meth c H locs 0 0 (MQ below (wQ D (some (.int ((ldF fb L (L + 2) (0, 0, -1, n0) (fun _ => 0) 0).1.2.1))) ((o, .inr (0, [.int 0, .ref a1, .int 0, .int (nI L), .int (nI (ldF fb L (L + 2) (0, 0, -1, n0) (fun _ => 0) 0).1.1), .int ((ldF fb L (L + 2) (0, 0, -1, n0) (fun _ => 0) 0).1.2.1), .int ((ldF fb L (L + 2) (0, 0, -1, n0) (fun _ => 0) 0).1.2.2.1), .int ((ldF fb L (L + 2) (0, 0, -1, n0) (fun _ => 0) 0).1.2.2.1), .ref a8, .ref a9, .ref a10, .int (nI u), .int (nI (ldF fb L (L + 2) (0, 0, -1, n0) (fun _ => 0) 0).1.2.2.2), .int 0, .int ((ldF fb L (L + 2) (0, 0, -1, n0) (fun _ => 0) 0).2.2), .ref a15])) :: (a8, .inl (k 0, 1798, .inl d)) :: (a9, .inl (k 0, 1798, .inl ((ldF fb L (L + 2) (0, 0, -1, n0) (fun _ => 0) 0).2.1))) :: (a1, .inl (k 0, 900, .inl fb)) :: hR k a15 a10 hh st hs) A) ([.ref o, .int (nI L)] : List Value).toArray s 0 0 A) (F0 m 89 ls []) := by
              intro m2
              induction m2 with
              | zero =>
                intro τ d1 s1 ok1 hd1 he hm hm1
                exact absurd hm1 (by omega)
              | succ m2 ih_89 =>
                intro τ d1 s1 ok1 hd1 he hm hm1 H locs hP hS ls hl
                refine lv_aload_n hx hb dX5_load_89 rfl (lv_at hl 0 rfl) ?_
                refine r_callV (As := []) (rest := []) C (m_isGood l D k o τ.2.1 ([.int 0, .ref a1, .int 0, .int (nI L), .int (nI τ.1), .int τ.2.1, .int τ.2.2.1, .int eo, .ref a8, .ref a9, .ref a10, .int (nI u), .int (nI τ.2.2.2), .int 0, .int s1, .ref a15] : List Value) rfl) (cwV 0 hts (lw_V q1731 q1733 qs32 q76 q1734) rfl rfl rfl (by decide +kernel) ⟨Nat.le_of_ble_eq_true rfl, Nat.le_of_ble_eq_true rfl⟩) hK (va_recv hK hP (ci := 0) (q0 := 0) rfl rfl) (hP.sub [0] rfl) rfl hl.1 rfl (Nat.le_of_ble_eq_true rfl) dX5_load_90 ⟨Nat.le_of_ble_eq_true rfl, Nat.le_of_ble_eq_true rfl⟩ ?_
                refine lv_if_eq (tgt := 111) hx hb dX5_load_93 (by decide) (fun c_93 => ?_) (fun c_93 => ?_)
                · have b_93 := bI_0.mp c_93
                  have er : (τ, d1, s1) = ldF fb L (L + 2) (0, 0, -1, n0) (fun _ => 0) 0 := by rw [← he]; simp only [ldF, ifp_f b_93]
                  refine lv_aload_n hx hb dX5_load_111 rfl (lv_at hl 0 rfl) ?_
                  refine lv_aload_n hx hb dX5_load_112 rfl (lv_at hl 0 rfl) ?_
                  refine va_get hx hb hts in_X5 hown hK hP 0 rfl rfl 6 (by decide) (hts _ q1668) (fun _ h => h) rfl dX5_load_113 ?_
                  refine va_put hx hb hts in_X5 tyX5 tyX5_ok nmX5 hown hK hP (va_D_of hD rfl) hS 0 rfl rfl 7 (by decide) (hts _ q1669) (fun _ h => h) rfl rfl rfl rfl (Nat.le_of_ble_eq_true rfl) dX5_load_116 (fun H locs hP _ hS => ?_)
                  have hP : va_P D clA ((o, .inr (0, [.int 0, .ref a1, .int 0, .int (nI L), .int (nI τ.1), .int τ.2.1, .int τ.2.2.1, .int τ.2.2.1, .ref a8, .ref a9, .ref a10, .int (nI u), .int (nI τ.2.2.2), .int 0, .int s1, .ref a15])) :: (a8, .inl (k 0, 1798, .inl d)) :: (a9, .inl (k 0, 1798, .inl d1)) :: (a1, .inl (k 0, 900, .inl fb)) :: hR k a15 a10 hh st hs) H := hP
                  refine lv_aload_n hx hb dX5_load_119 rfl (lv_at hl 0 rfl) ?_
                  refine r_callV (As := []) (rest := []) C (m_isGood l D k o τ.2.1 ([.int 0, .ref a1, .int 0, .int (nI L), .int (nI τ.1), .int τ.2.1, .int τ.2.2.1, .int τ.2.2.1, .ref a8, .ref a9, .ref a10, .int (nI u), .int (nI τ.2.2.2), .int 0, .int s1, .ref a15] : List Value) rfl) (cwV 0 hts (lw_V q1731 q1733 qs32 q76 q1734) rfl rfl rfl (by decide +kernel) ⟨Nat.le_of_ble_eq_true rfl, Nat.le_of_ble_eq_true rfl⟩) hK (va_recv hK hP (ci := 0) (q0 := 0) rfl rfl) (hP.sub [0] rfl) rfl hl.1 rfl (Nat.le_of_ble_eq_true rfl) dX5_load_120 ⟨Nat.le_of_ble_eq_true rfl, Nat.le_of_ble_eq_true rfl⟩ ?_
                  refine lv_if_ne (tgt := 131) hx hb dX5_load_123 (by decide) (fun c_123 => ?_) (fun c_123 => ?_)
                  · exact absurd (bI_nz c_123) (by rw [← er] at hres; exact hres)
                  · have b_123 := bI_0.mp c_123
                    refine lv_aload_n hx hb dX5_load_126 rfl (lv_at hl 0 rfl) ?_
                    refine va_get hx hb hts in_X5 hown hK hP 0 rfl rfl 5 (by decide) (hts _ q1667) (fun _ h => h) rfl dX5_load_127 ?_
                    exact w_iret C (by rw [← er]) (by rw [← er]; exact hP) hS dX5_load_130
                · have b_93 := bI_nz c_93
                  have hp := ok1.1 b_93
                  have hsk := sk_in (fb := fb) hp
                  have hoks := okS_sk (fb := fb) hL ok1 b_93
                  have hdr := hd1 b_93
                  have hm := hm b_93
                  refine lv_aload_n hx hb dX5_load_96 rfl (lv_at hl 0 rfl) ?_
                  refine w_callV (As := []) (rest := []) C (m_next l D k o a1 a8 a9 a10 a15 0 0 τ.2.1 τ.2.2.1 eo (nI u) (nI τ.2.2.2) 0 s1 (hR k a15 a10 hh st hs) d d1 fb L hL τ.1 A (va_D_of hD rfl) hp) (cwV 0 hts (lw_V q1735 q1737 qs33 q76 q1738) rfl rfl rfl (by decide +kernel) ⟨Nat.le_of_ble_eq_true rfl, Nat.le_of_ble_eq_true rfl⟩) hK (va_recv hK hP (ci := 0) (q0 := 0) rfl rfl) hP hS (fun _ h => h) rfl hl.1 rfl (Nat.le_of_ble_eq_true rfl) dX5_load_97 ⟨Nat.le_of_ble_eq_true rfl, Nat.le_of_ble_eq_true rfl⟩ (fun H locs hP hS _ _ => ?_)
                  have hP : va_P D clA ((o, .inr (0, [.int 0, .ref a1, .int 0, .int (nI L), .int (nI (sk fb L τ.1)), .int τ.2.1, .int τ.2.2.1, .int eo, .ref a8, .ref a9, .ref a10, .int (nI u), .int (nI τ.2.2.2), .int 0, .int s1, .ref a15])) :: (a8, .inl (k 0, 1798, .inl d)) :: (a9, .inl (k 0, 1798, .inl d1)) :: (a1, .inl (k 0, 900, .inl fb)) :: hR k a15 a10 hh st hs) H := hP
                  refine lv_iconst (v := (-1)) hx hb dX5_load_100 rfl ?_
                  refine lv_icmp_eq (tgt := 111) hx hb dX5_load_101 (by decide) (fun c_101 => ?_) (fun c_101 => ?_)
                  · have er : ((sk fb L τ.1, τ.2), d1, s1) = ldF fb L (L + 2) (0, 0, -1, n0) (fun _ => 0) 0 := by rw [← he]; simp only [ldF, ifp_t b_93, ifp_t c_101]
                    refine lv_aload_n hx hb dX5_load_111 rfl (lv_at hl 0 rfl) ?_
                    refine lv_aload_n hx hb dX5_load_112 rfl (lv_at hl 0 rfl) ?_
                    refine va_get hx hb hts in_X5 hown hK hP 0 rfl rfl 6 (by decide) (hts _ q1668) (fun _ h => h) rfl dX5_load_113 ?_
                    refine va_put hx hb hts in_X5 tyX5 tyX5_ok nmX5 hown hK hP (va_D_of hD rfl) hS 0 rfl rfl 7 (by decide) (hts _ q1669) (fun _ h => h) rfl rfl rfl rfl (Nat.le_of_ble_eq_true rfl) dX5_load_116 (fun H locs hP _ hS => ?_)
                    have hP : va_P D clA ((o, .inr (0, [.int 0, .ref a1, .int 0, .int (nI L), .int (nI (sk fb L τ.1)), .int τ.2.1, .int τ.2.2.1, .int τ.2.2.1, .ref a8, .ref a9, .ref a10, .int (nI u), .int (nI τ.2.2.2), .int 0, .int s1, .ref a15])) :: (a8, .inl (k 0, 1798, .inl d)) :: (a9, .inl (k 0, 1798, .inl d1)) :: (a1, .inl (k 0, 900, .inl fb)) :: hR k a15 a10 hh st hs) H := hP
                    refine lv_aload_n hx hb dX5_load_119 rfl (lv_at hl 0 rfl) ?_
                    refine r_callV (As := []) (rest := []) C (m_isGood l D k o τ.2.1 ([.int 0, .ref a1, .int 0, .int (nI L), .int (nI (sk fb L τ.1)), .int τ.2.1, .int τ.2.2.1, .int τ.2.2.1, .ref a8, .ref a9, .ref a10, .int (nI u), .int (nI τ.2.2.2), .int 0, .int s1, .ref a15] : List Value) rfl) (cwV 0 hts (lw_V q1731 q1733 qs32 q76 q1734) rfl rfl rfl (by decide +kernel) ⟨Nat.le_of_ble_eq_true rfl, Nat.le_of_ble_eq_true rfl⟩) hK (va_recv hK hP (ci := 0) (q0 := 0) rfl rfl) (hP.sub [0] rfl) rfl hl.1 rfl (Nat.le_of_ble_eq_true rfl) dX5_load_120 ⟨Nat.le_of_ble_eq_true rfl, Nat.le_of_ble_eq_true rfl⟩ ?_
                    refine lv_if_ne (tgt := 131) hx hb dX5_load_123 (by decide) (fun c_123 => ?_) (fun c_123 => ?_)
                    · exact absurd (bI_nz c_123) (by rw [← er] at hres; exact hres)
                    · have b_123 := bI_0.mp c_123
                      refine lv_aload_n hx hb dX5_load_126 rfl (lv_at hl 0 rfl) ?_
                      refine va_get hx hb hts in_X5 hown hK hP 0 rfl rfl 5 (by decide) (hts _ q1667) (fun _ h => h) rfl dX5_load_127 ?_
                      exact w_iret C (by rw [← er]) (by rw [← er]; exact hP) hS dX5_load_130
                  · have hlt : sk fb L τ.1 < L := by rcases Nat.lt_or_ge (sk fb L τ.1) L with q | q; exact q; exact absurd (by unfold byt; rw [if_neg (by omega)]) c_101
                    have hst := fwd_st (fb := fb) (dr := d1) (se := s1) hL hoks b_93
                    refine lv_aload_n hx hb dX5_load_104 rfl (lv_at hl 0 rfl) ?_
                    refine x_callV (As := []) (rest := []) C (m_statement l D k o a1 a8 a9 a10 a15 0 0 eo (nI u) s1 (hR k a15 a10 hh st hs) d d1 fb L hL (sk fb L τ.1, τ.2) A (va_D_of hD rfl) hoks sA sV b_93 hdr.1.1.1 hdr.1.1.2.2.1 (fun q => ⟨hdr.1.1.2.2.2.2.1, hdr.2.2.2 q⟩)) (cwV 0 hts (lw_V q1743 q1745 qs35 q76 q1746) rfl rfl rfl (by decide +kernel) ⟨Nat.le_of_ble_eq_true rfl, Nat.le_of_ble_eq_true rfl⟩) hK (va_recv hK hP (ci := 0) (q0 := 0) rfl rfl) mv2_MS hP (fun U hU hW => MS_to hX hS (fun _ h => h) U hU hW) hS (fun _ h => h) rfl hl.1 rfl (Nat.le_of_ble_eq_true rfl) dX5_load_105 ⟨Nat.le_of_ble_eq_true rfl, Nat.le_of_ble_eq_true rfl⟩ (fun H locs hP hS _ _ => ?_)
                    have hP : va_P D clA ((o, .inr (0, [.int 0, .ref a1, .int 0, .int (nI L), .int (nI (stS fb L d1 s1 (sk fb L τ.1, τ.2)).1.1), .int ((stS fb L d1 s1 (sk fb L τ.1, τ.2)).1.2.1), .int ((stS fb L d1 s1 (sk fb L τ.1, τ.2)).1.2.2.1), .int eo, .ref a8, .ref a9, .ref a10, .int (nI u), .int (nI (stS fb L d1 s1 (sk fb L τ.1, τ.2)).1.2.2.2), .int 0, .int ((stS fb L d1 s1 (sk fb L τ.1, τ.2)).2.2), .ref a15])) :: (a8, .inl (k 0, 1798, .inl d)) :: (a9, .inl (k 0, 1798, .inl ((stS fb L d1 s1 (sk fb L τ.1, τ.2)).2.1))) :: (a1, .inl (k 0, 900, .inl fb)) :: hR k a15 a10 hh st hs) H := hP
                    refine lv_goto (tgt := 89) hx hb dX5_load_108 (by decide) ?_
                    rw [ldF_go b_93 c_101] at he
                    exact ih_89 (stS fb L d1 s1 (sk fb L τ.1, τ.2)).1 (stS fb L d1 s1 (sk fb L τ.1, τ.2)).2.1 (stS fb L d1 s1 (sk fb L τ.1, τ.2)).2.2 hst.1 (fun z => Dr_st hL hoks b_93 hdr z) he (fun z => by have z2 : sk fb L τ.1 < _ := hst.2 z; omega) (by omega) _ _ hP hS ls (lv_sub hl [0, 1] rfl)
            exact loop_89 (L + 2) ((0, 0, -1, n0) : PS) (fun _ => 0) 0 ⟨fun _ => Nat.zero_le _, show 0 ≤ 2000 by omega, hn0⟩ (fun _ => Dr_0) rfl (fun _ => by show L - 0 + 1 ≤ L + 2; omega) (by omega) _ _ hP hS ls (lv_sub hl [0, 1] rfl)
          · have g_73 := nI_nle' (a := 1798) c_73 (by decide) (by omega)
            refine lv_aload_n hx hb dX5_load_76 rfl (lv_at hl 0 rfl) ?_
            refine va_get hx hb hts in_X5 hown hK hP 0 rfl rfl 9 (by decide) (hts _ q1671) (fun _ h => h) rfl dX5_load_77 ?_
            refine lv_iload_n hx hb dX5_load_80 rfl (lv_at hl 2 rfl) ?_
            refine lv_iconst (v := 0) hx hb dX5_load_81 rfl ?_
            refine w_iast hx hb hK hP (va_D_of hD rfl) hS 2 rfl j rfl (by omega) (Nat.le_of_ble_eq_true rfl) dX5_load_82 (fun H locs hP _ hS => ?_)
            have hP : va_P D clA ((o, .inr (0, [.int 0, .ref a1, .int 0, .int (nI L), .int 0, .int 0, .int (-1), .int eo, .ref a8, .ref a9, .ref a10, .int (nI u), .int (nI n0), .int 0, .int 0, .ref a15])) :: (a8, .inl (k 0, 1798, .inl d)) :: (a9, .inl (k 0, 1798, .inl (upd g2 j 0))) :: (a1, .inl (k 0, 900, .inl fb)) :: hR k a15 a10 hh st hs) H := hP
            refine lv_iinc (v := nI (j + 1)) (lv' := [(2, .int (nI (j + 1))), (0, .ref o), (1, .int (nI L))]) hx hb dX5_load_83 hl (k := 2) rfl (nI_1 j) (by decide) rfl (fun ls hl => ?_)
            refine lv_goto (tgt := 69) hx hb dX5_load_86 (by decide) ?_
            exact ih_69 (j + 1) (upd g2 j 0) (by omega) (lt_s (fun a ha => by rw [pk_un (by omega)]; exact hg2 a ha) pk_us) (by omega) _ _ hP hS ls (lv_sub hl [1, 2, 0] rfl)
      exact loop_69 1799 0 dr (Nat.zero_le _) lt_0 (by omega) _ _ hP hS ls (lv_sub hl [1, 2, 0] rfl)
    · exact absurd hin (bI_nz c_27)
  refine lv_if_ne (tgt := 22) hx hb dX5_load_15 (by decide) (fun c_15 => ?_) (fun c_15 => ?_)
  · have b_15 := bI_nz c_15
    refine lv_iconst (v := 0) hx hb dX5_load_22 rfl ?_
    exact J_23 0 (by first | exact bI_t b_15 | exact bI_f (fun h => h b_15)) ls hl
  · have b_15 := bI_0.mp c_15
    refine lv_iconst (v := 1) hx hb dX5_load_18 rfl ?_
    refine lv_goto (tgt := 23) hx hb dX5_load_19 (by decide) ?_
    exact J_23 1 (by first | exact bI_t b_15 | exact bI_f (fun h => h b_15)) ls hl
set_option maxHeartbeats 64000000 in
theorem m_load_ok (l : Launch) (D : va_G) (k : Nat → ClassId) (o a1 a8 a9 a10 a15 : Nat) (t tl ps er ea eo ne se : Int32) (hh : Nat → Nat) (d dr fb : Nat → Int32) (st : Nat → Int64) (hs : Nat → Nat → Int32) (b u n0 : Nat) (hb0 : b ≤ 900) (hu : u ≤ 8) (hn0 : n0 ≤ 2000) (A : Nat → Prop) (hD : va_D A ((o, .inr (0, [.int t, .ref a1, .int (nI b), .int tl, .int ps, .int er, .int ea, .int eo, .ref a8, .ref a9, .ref a10, .int (nI u), .int (nI n0), .int ne, .int se, .ref a15])) :: (a8, .inl (k 0, 1798, .inl d)) :: (a9, .inl (k 0, 1798, .inl dr)) :: (a1, .inl (k 0, 900, .inl fb)) :: hR k a15 a10 hh st hs)) (sA sV : Nat → Nat) (L : Nat) (hLb : L ≤ b) (hfb : ∀ j, j < L → ¬ fb j = -1) (hres : (ldF fb L (L + 2) (0, 0, -1, n0) (fun _ => 0) 0).1.2.1 = 0) : xM l D k yX5_load cX5_load 3 (some .int) 30 1200 [.ref o, .int (nI L)] ((o, .inr (0, [.int t, .ref a1, .int (nI b), .int tl, .int ps, .int er, .int ea, .int eo, .ref a8, .ref a9, .ref a10, .int (nI u), .int (nI n0), .int ne, .int se, .ref a15])) :: (a8, .inl (k 0, 1798, .inl d)) :: (a9, .inl (k 0, 1798, .inl dr)) :: (a1, .inl (k 0, 900, .inl fb)) :: hR k a15 a10 hh st hs) (MS A sA sV) (some (.int ((ldF fb L (L + 2) (0, 0, -1, n0) (fun _ => 0) 0).2.1 0))) ((o, .inr (0, [.int 0, .ref a1, .int 0, .int (nI L), .int (nI (ldF fb L (L + 2) (0, 0, -1, n0) (fun _ => 0) 0).1.1), .int ((ldF fb L (L + 2) (0, 0, -1, n0) (fun _ => 0) 0).1.2.1), .int ((ldF fb L (L + 2) (0, 0, -1, n0) (fun _ => 0) 0).1.2.2.1), .int ((ldF fb L (L + 2) (0, 0, -1, n0) (fun _ => 0) 0).1.2.2.1), .ref a8, .ref a9, .ref a10, .int (nI (remU u)), .int (nI (ldF fb L (L + 2) (0, 0, -1, n0) (fun _ => 0) 0).1.2.2.2), .int 0, .int ((ldF fb L (L + 2) (0, 0, -1, n0) (fun _ => 0) 0).2.2), .ref a15])) :: (a8, .inl (k 0, 1798, .inl ((ldF fb L (L + 2) (0, 0, -1, n0) (fun _ => 0) 0).2.1))) :: (a9, .inl (k 0, 1798, .inl ((ldF fb L (L + 2) (0, 0, -1, n0) (fun _ => 0) 0).2.1))) :: (a1, .inl (k 0, 900, .inl fb)) :: hR k a15 a10 hh st (rem u d hs)) A := by
  refine xM_of (by decide) (Nat.le_of_ble_eq_true rfl) ?_
  intro p e s m below meth c ls C hK hX hP hS hl
  obtain ⟨hE, hT⟩ := id hX
  obtain ⟨hx, hb, hr, hml, hown, hts, hlk⟩ := id C
  have hl : lv_has ls 3 [(0, .ref o), (1, .int (nI L))] := hl
  have hL : L ≤ 900 := by omega
  have hin : inR (nI L) 0 (nI b) := ⟨nI_pos' (by omega), nI_le hLb (by omega)⟩
  refine lv_aload_n hx hb dX5_load_0 rfl (lv_at hl 0 rfl) ?_
  refine lv_iconst (v := 0) hx hb dX5_load_1 rfl ?_
  refine va_put hx hb hts in_X5 tyX5 tyX5_ok nmX5 hown hK hP (va_D_of hD rfl) hS 0 rfl rfl 0 (by decide) (hts _ q1662) (fun _ h => h) rfl rfl rfl rfl (Nat.le_of_ble_eq_true rfl) dX5_load_2 (fun H locs hP _ hS => ?_)
  have hP : va_P D clA ((o, .inr (0, [.int 0, .ref a1, .int (nI b), .int tl, .int ps, .int er, .int ea, .int eo, .ref a8, .ref a9, .ref a10, .int (nI u), .int (nI n0), .int ne, .int se, .ref a15])) :: (a8, .inl (k 0, 1798, .inl d)) :: (a9, .inl (k 0, 1798, .inl dr)) :: (a1, .inl (k 0, 900, .inl fb)) :: hR k a15 a10 hh st hs) H := hP
  refine lv_aload_n hx hb dX5_load_5 rfl (lv_at hl 0 rfl) ?_
  refine lv_iload_n hx hb dX5_load_6 rfl (lv_at hl 1 rfl) ?_
  refine lv_iconst (v := 0) hx hb dX5_load_7 rfl ?_
  refine lv_aload_n hx hb dX5_load_8 rfl (lv_at hl 0 rfl) ?_
  refine va_get hx hb hts in_X5 hown hK hP 0 rfl rfl 2 (by decide) (hts _ q1664) (fun _ h => h) rfl dX5_load_9 ?_
  refine r_callS (As := [.int (nI L), .int 0, .int (nI b)]) (rest := [.ref o]) C (m_in l D k (nI L) 0 (nI b)) (va_cwS 3 hts (lw_S q1724 q1725 q76 q1726) rfl rfl rfl (by decide +kernel) ⟨Nat.le_of_ble_eq_true rfl, Nat.le_of_ble_eq_true rfl⟩) hK trivial rfl hl.1 rfl (Nat.le_of_ble_eq_true rfl) dX5_load_12 ⟨Nat.le_of_ble_eq_true rfl, Nat.le_of_ble_eq_true rfl⟩ ?_
  have J_23 : ∀ (z : Int32), (z = bI (¬ inR (nI L) 0 (nI b))) → ∀ (ls : Array Slot), lv_has ls 3 [(0, .ref o), (1, .int (nI L))] → W p l e (Rm 30 1200 0 0) s m ([.ref o, .int (nI L)] : List Value).toArray below meth c H locs 0 0 (MQ below (wQ D (some (.int ((ldF fb L (L + 2) (0, 0, -1, n0) (fun _ => 0) 0).2.1 0))) ((o, .inr (0, [.int 0, .ref a1, .int 0, .int (nI L), .int (nI (ldF fb L (L + 2) (0, 0, -1, n0) (fun _ => 0) 0).1.1), .int ((ldF fb L (L + 2) (0, 0, -1, n0) (fun _ => 0) 0).1.2.1), .int ((ldF fb L (L + 2) (0, 0, -1, n0) (fun _ => 0) 0).1.2.2.1), .int ((ldF fb L (L + 2) (0, 0, -1, n0) (fun _ => 0) 0).1.2.2.1), .ref a8, .ref a9, .ref a10, .int (nI (remU u)), .int (nI (ldF fb L (L + 2) (0, 0, -1, n0) (fun _ => 0) 0).1.2.2.2), .int 0, .int ((ldF fb L (L + 2) (0, 0, -1, n0) (fun _ => 0) 0).2.2), .ref a15])) :: (a8, .inl (k 0, 1798, .inl ((ldF fb L (L + 2) (0, 0, -1, n0) (fun _ => 0) 0).2.1))) :: (a9, .inl (k 0, 1798, .inl ((ldF fb L (L + 2) (0, 0, -1, n0) (fun _ => 0) 0).2.1))) :: (a1, .inl (k 0, 900, .inl fb)) :: hR k a15 a10 hh st (rem u d hs)) A) ([.ref o, .int (nI L)] : List Value).toArray s 0 0 A) (F0 m 23 ls [.int z, .ref o]) := by
    intro z h_z ls hl
    refine w_topi (y := bI (¬ inR (nI L) 0 (nI b))) h_z ?_
    refine lv_iconst (v := 1) hx hb dX5_load_23 rfl ?_
    refine w_callV (As := [.int (bI (¬ inR (nI L) 0 (nI b))), .int 1]) (rest := []) C (m_fails l D k o a1 a8 a9 a10 a15 (nI b) tl ps er ea eo (nI u) (nI n0) ne se ((a8, .inl (k 0, 1798, .inl d)) :: (a9, .inl (k 0, 1798, .inl dr)) :: (a1, .inl (k 0, 900, .inl fb)) :: hR k a15 a10 hh st hs) A (va_D_of hD rfl) (¬ inR (nI L) 0 (nI b)) 1 (by decide)) (cwV 2 hts (lw_V q1727 q1729 qs31 q76 q1730) rfl rfl rfl (by decide +kernel) ⟨Nat.le_of_ble_eq_true rfl, Nat.le_of_ble_eq_true rfl⟩) hK (va_recv hK hP (ci := 0) (q0 := 0) rfl rfl) hP hS (fun _ h => h) rfl hl.1 rfl (Nat.le_of_ble_eq_true rfl) dX5_load_24 ⟨Nat.le_of_ble_eq_true rfl, Nat.le_of_ble_eq_true rfl⟩ (fun H locs hP hS _ _ => ?_)
    have hP : va_P D clA ((o, .inr (0, [.int (pick (¬ inR (nI L) 0 (nI b)) 1), .ref a1, .int (nI b), .int tl, .int ps, .int er, .int ea, .int eo, .ref a8, .ref a9, .ref a10, .int (nI u), .int (nI n0), .int ne, .int se, .ref a15])) :: (a8, .inl (k 0, 1798, .inl d)) :: (a9, .inl (k 0, 1798, .inl dr)) :: (a1, .inl (k 0, 900, .inl fb)) :: hR k a15 a10 hh st hs) H := hP
    refine lv_if_eq (tgt := 32) hx hb dX5_load_27 (by decide) (fun c_27 => ?_) (fun c_27 => ?_)
    · have b_27 := bI_0.mp c_27
      rw [pick_f b_27] at hP
      refine lv_aload_n hx hb dX5_load_32 rfl (lv_at hl 0 rfl) ?_
      refine lv_iconst (v := 0) hx hb dX5_load_33 rfl ?_
      refine va_put hx hb hts in_X5 tyX5 tyX5_ok nmX5 hown hK hP (va_D_of hD rfl) hS 0 rfl rfl 2 (by decide) (hts _ q1664) (fun _ h => h) rfl rfl rfl rfl (Nat.le_of_ble_eq_true rfl) dX5_load_34 (fun H locs hP _ hS => ?_)
      have hP : va_P D clA ((o, .inr (0, [.int 0, .ref a1, .int 0, .int tl, .int ps, .int er, .int ea, .int eo, .ref a8, .ref a9, .ref a10, .int (nI u), .int (nI n0), .int ne, .int se, .ref a15])) :: (a8, .inl (k 0, 1798, .inl d)) :: (a9, .inl (k 0, 1798, .inl dr)) :: (a1, .inl (k 0, 900, .inl fb)) :: hR k a15 a10 hh st hs) H := hP
      refine lv_aload_n hx hb dX5_load_37 rfl (lv_at hl 0 rfl) ?_
      refine lv_iload_n hx hb dX5_load_38 rfl (lv_at hl 1 rfl) ?_
      refine va_put hx hb hts in_X5 tyX5 tyX5_ok nmX5 hown hK hP (va_D_of hD rfl) hS 0 rfl rfl 3 (by decide) (hts _ q1665) (fun _ h => h) rfl rfl rfl rfl (Nat.le_of_ble_eq_true rfl) dX5_load_39 (fun H locs hP _ hS => ?_)
      have hP : va_P D clA ((o, .inr (0, [.int 0, .ref a1, .int 0, .int (nI L), .int ps, .int er, .int ea, .int eo, .ref a8, .ref a9, .ref a10, .int (nI u), .int (nI n0), .int ne, .int se, .ref a15])) :: (a8, .inl (k 0, 1798, .inl d)) :: (a9, .inl (k 0, 1798, .inl dr)) :: (a1, .inl (k 0, 900, .inl fb)) :: hR k a15 a10 hh st hs) H := hP
      refine lv_aload_n hx hb dX5_load_42 rfl (lv_at hl 0 rfl) ?_
      refine lv_iconst (v := 0) hx hb dX5_load_43 rfl ?_
      refine va_put hx hb hts in_X5 tyX5 tyX5_ok nmX5 hown hK hP (va_D_of hD rfl) hS 0 rfl rfl 4 (by decide) (hts _ q1666) (fun _ h => h) rfl rfl rfl rfl (Nat.le_of_ble_eq_true rfl) dX5_load_44 (fun H locs hP _ hS => ?_)
      have hP : va_P D clA ((o, .inr (0, [.int 0, .ref a1, .int 0, .int (nI L), .int 0, .int er, .int ea, .int eo, .ref a8, .ref a9, .ref a10, .int (nI u), .int (nI n0), .int ne, .int se, .ref a15])) :: (a8, .inl (k 0, 1798, .inl d)) :: (a9, .inl (k 0, 1798, .inl dr)) :: (a1, .inl (k 0, 900, .inl fb)) :: hR k a15 a10 hh st hs) H := hP
      refine lv_aload_n hx hb dX5_load_47 rfl (lv_at hl 0 rfl) ?_
      refine lv_iconst (v := 0) hx hb dX5_load_48 rfl ?_
      refine va_put hx hb hts in_X5 tyX5 tyX5_ok nmX5 hown hK hP (va_D_of hD rfl) hS 0 rfl rfl 5 (by decide) (hts _ q1667) (fun _ h => h) rfl rfl rfl rfl (Nat.le_of_ble_eq_true rfl) dX5_load_49 (fun H locs hP _ hS => ?_)
      have hP : va_P D clA ((o, .inr (0, [.int 0, .ref a1, .int 0, .int (nI L), .int 0, .int 0, .int ea, .int eo, .ref a8, .ref a9, .ref a10, .int (nI u), .int (nI n0), .int ne, .int se, .ref a15])) :: (a8, .inl (k 0, 1798, .inl d)) :: (a9, .inl (k 0, 1798, .inl dr)) :: (a1, .inl (k 0, 900, .inl fb)) :: hR k a15 a10 hh st hs) H := hP
      refine lv_aload_n hx hb dX5_load_52 rfl (lv_at hl 0 rfl) ?_
      refine lv_iconst (v := (-1)) hx hb dX5_load_53 rfl ?_
      refine va_put hx hb hts in_X5 tyX5 tyX5_ok nmX5 hown hK hP (va_D_of hD rfl) hS 0 rfl rfl 6 (by decide) (hts _ q1668) (fun _ h => h) rfl rfl rfl rfl (Nat.le_of_ble_eq_true rfl) dX5_load_54 (fun H locs hP _ hS => ?_)
      have hP : va_P D clA ((o, .inr (0, [.int 0, .ref a1, .int 0, .int (nI L), .int 0, .int 0, .int (-1), .int eo, .ref a8, .ref a9, .ref a10, .int (nI u), .int (nI n0), .int ne, .int se, .ref a15])) :: (a8, .inl (k 0, 1798, .inl d)) :: (a9, .inl (k 0, 1798, .inl dr)) :: (a1, .inl (k 0, 900, .inl fb)) :: hR k a15 a10 hh st hs) H := hP
      refine lv_aload_n hx hb dX5_load_57 rfl (lv_at hl 0 rfl) ?_
      refine lv_iconst (v := 0) hx hb dX5_load_58 rfl ?_
      refine va_put hx hb hts in_X5 tyX5 tyX5_ok nmX5 hown hK hP (va_D_of hD rfl) hS 0 rfl rfl 13 (by decide) (hts _ q1675) (fun _ h => h) rfl rfl rfl rfl (Nat.le_of_ble_eq_true rfl) dX5_load_59 (fun H locs hP _ hS => ?_)
      have hP : va_P D clA ((o, .inr (0, [.int 0, .ref a1, .int 0, .int (nI L), .int 0, .int 0, .int (-1), .int eo, .ref a8, .ref a9, .ref a10, .int (nI u), .int (nI n0), .int 0, .int se, .ref a15])) :: (a8, .inl (k 0, 1798, .inl d)) :: (a9, .inl (k 0, 1798, .inl dr)) :: (a1, .inl (k 0, 900, .inl fb)) :: hR k a15 a10 hh st hs) H := hP
      refine lv_aload_n hx hb dX5_load_62 rfl (lv_at hl 0 rfl) ?_
      refine lv_iconst (v := 0) hx hb dX5_load_63 rfl ?_
      refine va_put hx hb hts in_X5 tyX5 tyX5_ok nmX5 hown hK hP (va_D_of hD rfl) hS 0 rfl rfl 14 (by decide) (hts _ q1676) (fun _ h => h) rfl rfl rfl rfl (Nat.le_of_ble_eq_true rfl) dX5_load_64 (fun H locs hP _ hS => ?_)
      have hP : va_P D clA ((o, .inr (0, [.int 0, .ref a1, .int 0, .int (nI L), .int 0, .int 0, .int (-1), .int eo, .ref a8, .ref a9, .ref a10, .int (nI u), .int (nI n0), .int 0, .int 0, .ref a15])) :: (a8, .inl (k 0, 1798, .inl d)) :: (a9, .inl (k 0, 1798, .inl dr)) :: (a1, .inl (k 0, 900, .inl fb)) :: hR k a15 a10 hh st hs) H := hP
      refine lv_iconst (v := 0) hx hb dX5_load_67 rfl ?_
      refine lv_istore_n (lv' := [(2, .int 0), (0, .ref o), (1, .int (nI L))]) hx hb dX5_load_68 rfl hl (by decide) rfl (fun ls hl => ?_)
      have loop_69 : ∀ (n : Nat) (j : Nat) (g2 : Nat → Int32), (j ≤ 1798) → (∀ a, a < j → g2 a = 0) → (1799 ≤ j + n) → ∀ (H : Heap) (locs : List Loc), va_P D clA ((o, .inr (0, [.int 0, .ref a1, .int 0, .int (nI L), .int 0, .int 0, .int (-1), .int eo, .ref a8, .ref a9, .ref a10, .int (nI u), .int (nI n0), .int 0, .int 0, .ref a15])) :: (a8, .inl (k 0, 1798, .inl d)) :: (a9, .inl (k 0, 1798, .inl g2)) :: (a1, .inl (k 0, 900, .inl fb)) :: hR k a15 a10 hh st hs) H → va_S A s.heap H locs → ∀ (ls : Array Slot), lv_has ls 3 [(0, .ref o), (1, .int (nI L)), (2, .int (nI j))] → W p l e (Rm 30 1200 0 0) s m ([.ref o, .int (nI L)] : List Value).toArray below meth c H locs 0 0 (MQ below (wQ D (some (.int ((ldF fb L (L + 2) (0, 0, -1, n0) (fun _ => 0) 0).2.1 0))) ((o, .inr (0, [.int 0, .ref a1, .int 0, .int (nI L), .int (nI (ldF fb L (L + 2) (0, 0, -1, n0) (fun _ => 0) 0).1.1), .int ((ldF fb L (L + 2) (0, 0, -1, n0) (fun _ => 0) 0).1.2.1), .int ((ldF fb L (L + 2) (0, 0, -1, n0) (fun _ => 0) 0).1.2.2.1), .int ((ldF fb L (L + 2) (0, 0, -1, n0) (fun _ => 0) 0).1.2.2.1), .ref a8, .ref a9, .ref a10, .int (nI (remU u)), .int (nI (ldF fb L (L + 2) (0, 0, -1, n0) (fun _ => 0) 0).1.2.2.2), .int 0, .int ((ldF fb L (L + 2) (0, 0, -1, n0) (fun _ => 0) 0).2.2), .ref a15])) :: (a8, .inl (k 0, 1798, .inl ((ldF fb L (L + 2) (0, 0, -1, n0) (fun _ => 0) 0).2.1))) :: (a9, .inl (k 0, 1798, .inl ((ldF fb L (L + 2) (0, 0, -1, n0) (fun _ => 0) 0).2.1))) :: (a1, .inl (k 0, 900, .inl fb)) :: hR k a15 a10 hh st (rem u d hs)) A) ([.ref o, .int (nI L)] : List Value).toArray s 0 0 A) (F0 m 69 ls []) := by
        intro n
        induction n with
        | zero =>
          intro j g2 hj hg2 hn
          exact absurd hn (by omega)
        | succ n ih_69 =>
          intro j g2 hj hg2 hn H locs hP hS ls hl
          refine lv_iload_n hx hb dX5_load_69 rfl (lv_at hl 2 rfl) ?_
          refine lv_sipush (v := 1798) hx hb dX5_load_70 rfl ?_
          refine lv_icmp_ge (tgt := 89) hx hb dX5_load_73 (by decide) (fun c_73 => ?_) (fun c_73 => ?_)
          · have g_73 := nI_le' (a := 1798) c_73 (by decide) (by omega)
            have hP : va_P D clA ((o, .inr (0, [.int 0, .ref a1, .int 0, .int (nI L), .int (nI ((0, 0, -1, n0) : PS).1), .int (((0, 0, -1, n0) : PS).2.1), .int (((0, 0, -1, n0) : PS).2.2.1), .int eo, .ref a8, .ref a9, .ref a10, .int (nI u), .int (nI ((0, 0, -1, n0) : PS).2.2.2), .int 0, .int 0, .ref a15])) :: (a8, .inl (k 0, 1798, .inl d)) :: (a9, .inl (k 0, 1798, .inl (fun _ => 0))) :: (a1, .inl (k 0, 900, .inl fb)) :: hR k a15 a10 hh st hs) H := va_cons (hP 0 _ rfl) (va_cons (hP 1 _ rfl) (va_cons (va_cgi (hP 2 _ rfl) (fun a ha => hg2 a (by omega))) (fun k_ q_ h_ => hP (k_ + 3) q_ (by simpa using h_))))
            have loop_89 : ∀ (m2 : Nat) (τ : PS) (d1 : Nat → Int32) (s1 : Int32), (okS L τ) → (τ.2.1 = 0 → Dr d1 s1) → (ldF fb L m2 τ d1 s1 = ldF fb L (L + 2) (0, 0, -1, n0) (fun _ => 0) 0) → (τ.2.1 = 0 → L - τ.1 + 1 ≤ m2) → (1 ≤ m2) → ∀ (H : Heap) (locs : List Loc), va_P D clA ((o, .inr (0, [.int 0, .ref a1, .int 0, .int (nI L), .int (nI τ.1), .int τ.2.1, .int τ.2.2.1, .int eo, .ref a8, .ref a9, .ref a10, .int (nI u), .int (nI τ.2.2.2), .int 0, .int s1, .ref a15])) :: (a8, .inl (k 0, 1798, .inl d)) :: (a9, .inl (k 0, 1798, .inl d1)) :: (a1, .inl (k 0, 900, .inl fb)) :: hR k a15 a10 hh st hs) H → va_S A s.heap H locs → ∀ (ls : Array Slot), lv_has ls 3 [(0, .ref o), (1, .int (nI L))] → W p l e (Rm 30 1200 0 0) s m ([.ref o, .int (nI L)] : List Value).toArray below meth c H locs 0 0 (MQ below (wQ D (some (.int ((ldF fb L (L + 2) (0, 0, -1, n0) (fun _ => 0) 0).2.1 0))) ((o, .inr (0, [.int 0, .ref a1, .int 0, .int (nI L), .int (nI (ldF fb L (L + 2) (0, 0, -1, n0) (fun _ => 0) 0).1.1), .int ((ldF fb L (L + 2) (0, 0, -1, n0) (fun _ => 0) 0).1.2.1), .int ((ldF fb L (L + 2) (0, 0, -1, n0) (fun _ => 0) 0).1.2.2.1), .int ((ldF fb L (L + 2) (0, 0, -1, n0) (fun _ => 0) 0).1.2.2.1), .ref a8, .ref a9, .ref a10, .int (nI (remU u)), .int (nI (ldF fb L (L + 2) (0, 0, -1, n0) (fun _ => 0) 0).1.2.2.2), .int 0, .int ((ldF fb L (L + 2) (0, 0, -1, n0) (fun _ => 0) 0).2.2), .ref a15])) :: (a8, .inl (k 0, 1798, .inl ((ldF fb L (L + 2) (0, 0, -1, n0) (fun _ => 0) 0).2.1))) :: (a9, .inl (k 0, 1798, .inl ((ldF fb L (L + 2) (0, 0, -1, n0) (fun _ => 0) 0).2.1))) :: (a1, .inl (k 0, 900, .inl fb)) :: hR k a15 a10 hh st (rem u d hs)) A) ([.ref o, .int (nI L)] : List Value).toArray s 0 0 A) (F0 m 89 ls []) := by
              intro m2
              induction m2 with
              | zero =>
                intro τ d1 s1 ok1 hd1 he hm hm1
                exact absurd hm1 (by omega)
              | succ m2 ih_89 =>
                intro τ d1 s1 ok1 hd1 he hm hm1 H locs hP hS ls hl
                refine lv_aload_n hx hb dX5_load_89 rfl (lv_at hl 0 rfl) ?_
                refine r_callV (As := []) (rest := []) C (m_isGood l D k o τ.2.1 ([.int 0, .ref a1, .int 0, .int (nI L), .int (nI τ.1), .int τ.2.1, .int τ.2.2.1, .int eo, .ref a8, .ref a9, .ref a10, .int (nI u), .int (nI τ.2.2.2), .int 0, .int s1, .ref a15] : List Value) rfl) (cwV 0 hts (lw_V q1731 q1733 qs32 q76 q1734) rfl rfl rfl (by decide +kernel) ⟨Nat.le_of_ble_eq_true rfl, Nat.le_of_ble_eq_true rfl⟩) hK (va_recv hK hP (ci := 0) (q0 := 0) rfl rfl) (hP.sub [0] rfl) rfl hl.1 rfl (Nat.le_of_ble_eq_true rfl) dX5_load_90 ⟨Nat.le_of_ble_eq_true rfl, Nat.le_of_ble_eq_true rfl⟩ ?_
                refine lv_if_eq (tgt := 111) hx hb dX5_load_93 (by decide) (fun c_93 => ?_) (fun c_93 => ?_)
                · have b_93 := bI_0.mp c_93
                  have er : (τ, d1, s1) = ldF fb L (L + 2) (0, 0, -1, n0) (fun _ => 0) 0 := by rw [← he]; simp only [ldF, ifp_f b_93]
                  refine lv_aload_n hx hb dX5_load_111 rfl (lv_at hl 0 rfl) ?_
                  refine lv_aload_n hx hb dX5_load_112 rfl (lv_at hl 0 rfl) ?_
                  refine va_get hx hb hts in_X5 hown hK hP 0 rfl rfl 6 (by decide) (hts _ q1668) (fun _ h => h) rfl dX5_load_113 ?_
                  refine va_put hx hb hts in_X5 tyX5 tyX5_ok nmX5 hown hK hP (va_D_of hD rfl) hS 0 rfl rfl 7 (by decide) (hts _ q1669) (fun _ h => h) rfl rfl rfl rfl (Nat.le_of_ble_eq_true rfl) dX5_load_116 (fun H locs hP _ hS => ?_)
                  have hP : va_P D clA ((o, .inr (0, [.int 0, .ref a1, .int 0, .int (nI L), .int (nI τ.1), .int τ.2.1, .int τ.2.2.1, .int τ.2.2.1, .ref a8, .ref a9, .ref a10, .int (nI u), .int (nI τ.2.2.2), .int 0, .int s1, .ref a15])) :: (a8, .inl (k 0, 1798, .inl d)) :: (a9, .inl (k 0, 1798, .inl d1)) :: (a1, .inl (k 0, 900, .inl fb)) :: hR k a15 a10 hh st hs) H := hP
                  refine lv_aload_n hx hb dX5_load_119 rfl (lv_at hl 0 rfl) ?_
                  refine r_callV (As := []) (rest := []) C (m_isGood l D k o τ.2.1 ([.int 0, .ref a1, .int 0, .int (nI L), .int (nI τ.1), .int τ.2.1, .int τ.2.2.1, .int τ.2.2.1, .ref a8, .ref a9, .ref a10, .int (nI u), .int (nI τ.2.2.2), .int 0, .int s1, .ref a15] : List Value) rfl) (cwV 0 hts (lw_V q1731 q1733 qs32 q76 q1734) rfl rfl rfl (by decide +kernel) ⟨Nat.le_of_ble_eq_true rfl, Nat.le_of_ble_eq_true rfl⟩) hK (va_recv hK hP (ci := 0) (q0 := 0) rfl rfl) (hP.sub [0] rfl) rfl hl.1 rfl (Nat.le_of_ble_eq_true rfl) dX5_load_120 ⟨Nat.le_of_ble_eq_true rfl, Nat.le_of_ble_eq_true rfl⟩ ?_
                  refine lv_if_ne (tgt := 131) hx hb dX5_load_123 (by decide) (fun c_123 => ?_) (fun c_123 => ?_)
                  · have b_123 := bI_nz c_123
                    refine lv_aload_n hx hb dX5_load_131 rfl (lv_at hl 0 rfl) ?_
                    refine w_callV (As := []) (rest := []) C (m_remember l D k o a1 a8 a9 a10 a15 0 0 (nI L) (nI τ.1) τ.2.1 τ.2.2.1 τ.2.2.1 (nI τ.2.2.2) 0 s1 hh d d1 fb st hs A u hu (va_D_of hD rfl)) (cwV 0 hts (lw_V q1827 q1829 qs48 q76 q1830) rfl rfl rfl (by decide +kernel) ⟨Nat.le_of_ble_eq_true rfl, Nat.le_of_ble_eq_true rfl⟩) hK (va_recv hK hP (ci := 0) (q0 := 0) rfl rfl) hP hS (fun _ h => h) rfl hl.1 rfl (Nat.le_of_ble_eq_true rfl) dX5_load_132 ⟨Nat.le_of_ble_eq_true rfl, Nat.le_of_ble_eq_true rfl⟩ (fun H locs hP hS _ _ => ?_)
                    have hP : va_P D clA ((o, .inr (0, [.int 0, .ref a1, .int 0, .int (nI L), .int (nI τ.1), .int τ.2.1, .int τ.2.2.1, .int τ.2.2.1, .ref a8, .ref a9, .ref a10, .int (nI (remU u)), .int (nI τ.2.2.2), .int 0, .int s1, .ref a15])) :: (a8, .inl (k 0, 1798, .inl d)) :: (a9, .inl (k 0, 1798, .inl d1)) :: (a1, .inl (k 0, 900, .inl fb)) :: hR k a15 a10 hh st (rem u d hs)) H := hP
                    refine lv_aload_n hx hb dX5_load_135 rfl (lv_at hl 0 rfl) ?_
                    refine va_get hx hb hts in_X5 hown hK hP 0 rfl rfl 9 (by decide) (hts _ q1671) (fun _ h => h) rfl dX5_load_136 ?_
                    refine lv_aload_n hx hb dX5_load_139 rfl (lv_at hl 0 rfl) ?_
                    refine va_get hx hb hts in_X5 hown hK hP 0 rfl rfl 8 (by decide) (hts _ q1670) (fun _ h => h) rfl dX5_load_140 ?_
                    refine w_callS (As := [.ref a9, .ref a8]) (rest := []) C (m_copy l D k a9 a8 d1 d (va_D.weaken (((va_D_of hD rfl : va_D A [(o, .inr (0, [.int 0, .ref a1, .int 0, .int (nI L), .int (nI τ.1), .int τ.2.1, .int τ.2.2.1, .int τ.2.2.1, .ref a8, .ref a9, .ref a10, .int (nI (remU u)), .int (nI τ.2.2.2), .int 0, .int s1, .ref a15])), (a8, .inl (k 0, 1798, .inl d)), (a9, .inl (k 0, 1798, .inl d1)), (a1, .inl (k 0, 900, .inl fb)), (a15, .inl (k 2, 1500, .inr (.inl st))), (a10, .inl (k 4, 8, .inr (.inr (.inr (.inr (fun j => some (hh j))))))), (hh 0, .inl (k 0, 1798, .inl (rem u d hs 0))), (hh 1, .inl (k 0, 1798, .inl (rem u d hs 1))), (hh 2, .inl (k 0, 1798, .inl (rem u d hs 2))), (hh 3, .inl (k 0, 1798, .inl (rem u d hs 3))), (hh 4, .inl (k 0, 1798, .inl (rem u d hs 4))), (hh 5, .inl (k 0, 1798, .inl (rem u d hs 5))), (hh 6, .inl (k 0, 1798, .inl (rem u d hs 6))), (hh 7, .inl (k 0, 1798, .inl (rem u d hs 7)))])).sub (ws' := [(a9, .inl (k 0, 1798, .inl d1)), (a8, .inl (k 0, 1798, .inl d))]) [2, 1] (by decide) rfl) (fun n q h _ => by rcases n with _ | _ | n; cases h; exact Or.inl rfl; cases h; exact Or.inr rfl; simp at h))) (va_cwS 2 hts (lw_S q1831 q1832 q76 q1833) rfl rfl rfl (by decide +kernel) ⟨Nat.le_of_ble_eq_true rfl, Nat.le_of_ble_eq_true rfl⟩) hK (hP.sub [2, 1] rfl) hS (fun q h => by rcases h with h | h; rw [h]; exact hD.2 2 _ rfl; rw [h]; exact hD.2 1 _ rfl) rfl hl.1 rfl (Nat.le_of_ble_eq_true rfl) dX5_load_143 ⟨Nat.le_of_ble_eq_true rfl, Nat.le_of_ble_eq_true rfl⟩ (fun H locs hP1 hS _ hk1 => ?_)
                    have hP : va_P D clA [(o, .inr (0, [.int 0, .ref a1, .int 0, .int (nI L), .int (nI τ.1), .int τ.2.1, .int τ.2.2.1, .int τ.2.2.1, .ref a8, .ref a9, .ref a10, .int (nI (remU u)), .int (nI τ.2.2.2), .int 0, .int s1, .ref a15])), (a8, .inl (k 0, 1798, .inl d1)), (a9, .inl (k 0, 1798, .inl d1)), (a1, .inl (k 0, 900, .inl fb)), (a15, .inl (k 2, 1500, .inr (.inl st))), (a10, .inl (k 4, 8, .inr (.inr (.inr (.inr (fun j => some (hh j))))))), (hh 0, .inl (k 0, 1798, .inl (rem u d hs 0))), (hh 1, .inl (k 0, 1798, .inl (rem u d hs 1))), (hh 2, .inl (k 0, 1798, .inl (rem u d hs 2))), (hh 3, .inl (k 0, 1798, .inl (rem u d hs 3))), (hh 4, .inl (k 0, 1798, .inl (rem u d hs 4))), (hh 5, .inl (k 0, 1798, .inl (rem u d hs 5))), (hh 6, .inl (k 0, 1798, .inl (rem u d hs 6))), (hh 7, .inl (k 0, 1798, .inl (rem u d hs 7)))] H := (va_cons (va_keep2 hP (va_D_of hD rfl) hk1 2 1 0 rfl rfl rfl (by decide) (by decide)) (va_cons (hP1 1 _ rfl) (va_cons (hP1 0 _ rfl) (va_cons (va_keep2 hP (va_D_of hD rfl) hk1 2 1 3 rfl rfl rfl (by decide) (by decide)) (va_cons (va_keep2 hP (va_D_of hD rfl) hk1 2 1 4 rfl rfl rfl (by decide) (by decide)) (va_cons (va_keep2 hP (va_D_of hD rfl) hk1 2 1 5 rfl rfl rfl (by decide) (by decide)) (va_cons (va_keep2 hP (va_D_of hD rfl) hk1 2 1 6 rfl rfl rfl (by decide) (by decide)) (va_cons (va_keep2 hP (va_D_of hD rfl) hk1 2 1 7 rfl rfl rfl (by decide) (by decide)) (va_cons (va_keep2 hP (va_D_of hD rfl) hk1 2 1 8 rfl rfl rfl (by decide) (by decide)) (va_cons (va_keep2 hP (va_D_of hD rfl) hk1 2 1 9 rfl rfl rfl (by decide) (by decide)) (va_cons (va_keep2 hP (va_D_of hD rfl) hk1 2 1 10 rfl rfl rfl (by decide) (by decide)) (va_cons (va_keep2 hP (va_D_of hD rfl) hk1 2 1 11 rfl rfl rfl (by decide) (by decide)) (va_cons (va_keep2 hP (va_D_of hD rfl) hk1 2 1 12 rfl rfl rfl (by decide) (by decide)) (va_cons (va_keep2 hP (va_D_of hD rfl) hk1 2 1 13 rfl rfl rfl (by decide) (by decide)) va_nil))))))))))))))
                    refine lv_aload_n hx hb dX5_load_146 rfl (lv_at hl 0 rfl) ?_
                    refine va_get hx hb hts in_X5 hown hK hP 0 rfl rfl 8 (by decide) (hts _ q1670) (fun _ h => h) rfl dX5_load_147 ?_
                    refine lv_iconst (v := 0) hx hb dX5_load_150 rfl ?_
                    refine w_iald hx hb hK hP 1 rfl 0 rfl (Nat.le_of_ble_eq_true rfl) (Nat.le_of_ble_eq_true rfl) dX5_load_151 ?_
                    exact w_iret C (by rw [← er]) (by rw [← er]; exact hP) hS dX5_load_152
                  · exact absurd (show _ = (0 : Int32) by rw [← er] at hres; exact hres) (bI_0.mp c_123)
                · have b_93 := bI_nz c_93
                  have hp := ok1.1 b_93
                  have hsk := sk_in (fb := fb) hp
                  have hoks := okS_sk (fb := fb) hL ok1 b_93
                  have hdr := hd1 b_93
                  have hm := hm b_93
                  refine lv_aload_n hx hb dX5_load_96 rfl (lv_at hl 0 rfl) ?_
                  refine w_callV (As := []) (rest := []) C (m_next l D k o a1 a8 a9 a10 a15 0 0 τ.2.1 τ.2.2.1 eo (nI u) (nI τ.2.2.2) 0 s1 (hR k a15 a10 hh st hs) d d1 fb L hL τ.1 A (va_D_of hD rfl) hp) (cwV 0 hts (lw_V q1735 q1737 qs33 q76 q1738) rfl rfl rfl (by decide +kernel) ⟨Nat.le_of_ble_eq_true rfl, Nat.le_of_ble_eq_true rfl⟩) hK (va_recv hK hP (ci := 0) (q0 := 0) rfl rfl) hP hS (fun _ h => h) rfl hl.1 rfl (Nat.le_of_ble_eq_true rfl) dX5_load_97 ⟨Nat.le_of_ble_eq_true rfl, Nat.le_of_ble_eq_true rfl⟩ (fun H locs hP hS _ _ => ?_)
                  have hP : va_P D clA ((o, .inr (0, [.int 0, .ref a1, .int 0, .int (nI L), .int (nI (sk fb L τ.1)), .int τ.2.1, .int τ.2.2.1, .int eo, .ref a8, .ref a9, .ref a10, .int (nI u), .int (nI τ.2.2.2), .int 0, .int s1, .ref a15])) :: (a8, .inl (k 0, 1798, .inl d)) :: (a9, .inl (k 0, 1798, .inl d1)) :: (a1, .inl (k 0, 900, .inl fb)) :: hR k a15 a10 hh st hs) H := hP
                  refine lv_iconst (v := (-1)) hx hb dX5_load_100 rfl ?_
                  refine lv_icmp_eq (tgt := 111) hx hb dX5_load_101 (by decide) (fun c_101 => ?_) (fun c_101 => ?_)
                  · have er : ((sk fb L τ.1, τ.2), d1, s1) = ldF fb L (L + 2) (0, 0, -1, n0) (fun _ => 0) 0 := by rw [← he]; simp only [ldF, ifp_t b_93, ifp_t c_101]
                    refine lv_aload_n hx hb dX5_load_111 rfl (lv_at hl 0 rfl) ?_
                    refine lv_aload_n hx hb dX5_load_112 rfl (lv_at hl 0 rfl) ?_
                    refine va_get hx hb hts in_X5 hown hK hP 0 rfl rfl 6 (by decide) (hts _ q1668) (fun _ h => h) rfl dX5_load_113 ?_
                    refine va_put hx hb hts in_X5 tyX5 tyX5_ok nmX5 hown hK hP (va_D_of hD rfl) hS 0 rfl rfl 7 (by decide) (hts _ q1669) (fun _ h => h) rfl rfl rfl rfl (Nat.le_of_ble_eq_true rfl) dX5_load_116 (fun H locs hP _ hS => ?_)
                    have hP : va_P D clA ((o, .inr (0, [.int 0, .ref a1, .int 0, .int (nI L), .int (nI (sk fb L τ.1)), .int τ.2.1, .int τ.2.2.1, .int τ.2.2.1, .ref a8, .ref a9, .ref a10, .int (nI u), .int (nI τ.2.2.2), .int 0, .int s1, .ref a15])) :: (a8, .inl (k 0, 1798, .inl d)) :: (a9, .inl (k 0, 1798, .inl d1)) :: (a1, .inl (k 0, 900, .inl fb)) :: hR k a15 a10 hh st hs) H := hP
                    refine lv_aload_n hx hb dX5_load_119 rfl (lv_at hl 0 rfl) ?_
                    refine r_callV (As := []) (rest := []) C (m_isGood l D k o τ.2.1 ([.int 0, .ref a1, .int 0, .int (nI L), .int (nI (sk fb L τ.1)), .int τ.2.1, .int τ.2.2.1, .int τ.2.2.1, .ref a8, .ref a9, .ref a10, .int (nI u), .int (nI τ.2.2.2), .int 0, .int s1, .ref a15] : List Value) rfl) (cwV 0 hts (lw_V q1731 q1733 qs32 q76 q1734) rfl rfl rfl (by decide +kernel) ⟨Nat.le_of_ble_eq_true rfl, Nat.le_of_ble_eq_true rfl⟩) hK (va_recv hK hP (ci := 0) (q0 := 0) rfl rfl) (hP.sub [0] rfl) rfl hl.1 rfl (Nat.le_of_ble_eq_true rfl) dX5_load_120 ⟨Nat.le_of_ble_eq_true rfl, Nat.le_of_ble_eq_true rfl⟩ ?_
                    refine lv_if_ne (tgt := 131) hx hb dX5_load_123 (by decide) (fun c_123 => ?_) (fun c_123 => ?_)
                    · have b_123 := bI_nz c_123
                      refine lv_aload_n hx hb dX5_load_131 rfl (lv_at hl 0 rfl) ?_
                      refine w_callV (As := []) (rest := []) C (m_remember l D k o a1 a8 a9 a10 a15 0 0 (nI L) (nI (sk fb L τ.1)) τ.2.1 τ.2.2.1 τ.2.2.1 (nI τ.2.2.2) 0 s1 hh d d1 fb st hs A u hu (va_D_of hD rfl)) (cwV 0 hts (lw_V q1827 q1829 qs48 q76 q1830) rfl rfl rfl (by decide +kernel) ⟨Nat.le_of_ble_eq_true rfl, Nat.le_of_ble_eq_true rfl⟩) hK (va_recv hK hP (ci := 0) (q0 := 0) rfl rfl) hP hS (fun _ h => h) rfl hl.1 rfl (Nat.le_of_ble_eq_true rfl) dX5_load_132 ⟨Nat.le_of_ble_eq_true rfl, Nat.le_of_ble_eq_true rfl⟩ (fun H locs hP hS _ _ => ?_)
                      have hP : va_P D clA ((o, .inr (0, [.int 0, .ref a1, .int 0, .int (nI L), .int (nI (sk fb L τ.1)), .int τ.2.1, .int τ.2.2.1, .int τ.2.2.1, .ref a8, .ref a9, .ref a10, .int (nI (remU u)), .int (nI τ.2.2.2), .int 0, .int s1, .ref a15])) :: (a8, .inl (k 0, 1798, .inl d)) :: (a9, .inl (k 0, 1798, .inl d1)) :: (a1, .inl (k 0, 900, .inl fb)) :: hR k a15 a10 hh st (rem u d hs)) H := hP
                      refine lv_aload_n hx hb dX5_load_135 rfl (lv_at hl 0 rfl) ?_
                      refine va_get hx hb hts in_X5 hown hK hP 0 rfl rfl 9 (by decide) (hts _ q1671) (fun _ h => h) rfl dX5_load_136 ?_
                      refine lv_aload_n hx hb dX5_load_139 rfl (lv_at hl 0 rfl) ?_
                      refine va_get hx hb hts in_X5 hown hK hP 0 rfl rfl 8 (by decide) (hts _ q1670) (fun _ h => h) rfl dX5_load_140 ?_
                      refine w_callS (As := [.ref a9, .ref a8]) (rest := []) C (m_copy l D k a9 a8 d1 d (va_D.weaken (((va_D_of hD rfl : va_D A [(o, .inr (0, [.int 0, .ref a1, .int 0, .int (nI L), .int (nI (sk fb L τ.1)), .int τ.2.1, .int τ.2.2.1, .int τ.2.2.1, .ref a8, .ref a9, .ref a10, .int (nI (remU u)), .int (nI τ.2.2.2), .int 0, .int s1, .ref a15])), (a8, .inl (k 0, 1798, .inl d)), (a9, .inl (k 0, 1798, .inl d1)), (a1, .inl (k 0, 900, .inl fb)), (a15, .inl (k 2, 1500, .inr (.inl st))), (a10, .inl (k 4, 8, .inr (.inr (.inr (.inr (fun j => some (hh j))))))), (hh 0, .inl (k 0, 1798, .inl (rem u d hs 0))), (hh 1, .inl (k 0, 1798, .inl (rem u d hs 1))), (hh 2, .inl (k 0, 1798, .inl (rem u d hs 2))), (hh 3, .inl (k 0, 1798, .inl (rem u d hs 3))), (hh 4, .inl (k 0, 1798, .inl (rem u d hs 4))), (hh 5, .inl (k 0, 1798, .inl (rem u d hs 5))), (hh 6, .inl (k 0, 1798, .inl (rem u d hs 6))), (hh 7, .inl (k 0, 1798, .inl (rem u d hs 7)))])).sub (ws' := [(a9, .inl (k 0, 1798, .inl d1)), (a8, .inl (k 0, 1798, .inl d))]) [2, 1] (by decide) rfl) (fun n q h _ => by rcases n with _ | _ | n; cases h; exact Or.inl rfl; cases h; exact Or.inr rfl; simp at h))) (va_cwS 2 hts (lw_S q1831 q1832 q76 q1833) rfl rfl rfl (by decide +kernel) ⟨Nat.le_of_ble_eq_true rfl, Nat.le_of_ble_eq_true rfl⟩) hK (hP.sub [2, 1] rfl) hS (fun q h => by rcases h with h | h; rw [h]; exact hD.2 2 _ rfl; rw [h]; exact hD.2 1 _ rfl) rfl hl.1 rfl (Nat.le_of_ble_eq_true rfl) dX5_load_143 ⟨Nat.le_of_ble_eq_true rfl, Nat.le_of_ble_eq_true rfl⟩ (fun H locs hP1 hS _ hk1 => ?_)
                      have hP : va_P D clA [(o, .inr (0, [.int 0, .ref a1, .int 0, .int (nI L), .int (nI (sk fb L τ.1)), .int τ.2.1, .int τ.2.2.1, .int τ.2.2.1, .ref a8, .ref a9, .ref a10, .int (nI (remU u)), .int (nI τ.2.2.2), .int 0, .int s1, .ref a15])), (a8, .inl (k 0, 1798, .inl d1)), (a9, .inl (k 0, 1798, .inl d1)), (a1, .inl (k 0, 900, .inl fb)), (a15, .inl (k 2, 1500, .inr (.inl st))), (a10, .inl (k 4, 8, .inr (.inr (.inr (.inr (fun j => some (hh j))))))), (hh 0, .inl (k 0, 1798, .inl (rem u d hs 0))), (hh 1, .inl (k 0, 1798, .inl (rem u d hs 1))), (hh 2, .inl (k 0, 1798, .inl (rem u d hs 2))), (hh 3, .inl (k 0, 1798, .inl (rem u d hs 3))), (hh 4, .inl (k 0, 1798, .inl (rem u d hs 4))), (hh 5, .inl (k 0, 1798, .inl (rem u d hs 5))), (hh 6, .inl (k 0, 1798, .inl (rem u d hs 6))), (hh 7, .inl (k 0, 1798, .inl (rem u d hs 7)))] H := (va_cons (va_keep2 hP (va_D_of hD rfl) hk1 2 1 0 rfl rfl rfl (by decide) (by decide)) (va_cons (hP1 1 _ rfl) (va_cons (hP1 0 _ rfl) (va_cons (va_keep2 hP (va_D_of hD rfl) hk1 2 1 3 rfl rfl rfl (by decide) (by decide)) (va_cons (va_keep2 hP (va_D_of hD rfl) hk1 2 1 4 rfl rfl rfl (by decide) (by decide)) (va_cons (va_keep2 hP (va_D_of hD rfl) hk1 2 1 5 rfl rfl rfl (by decide) (by decide)) (va_cons (va_keep2 hP (va_D_of hD rfl) hk1 2 1 6 rfl rfl rfl (by decide) (by decide)) (va_cons (va_keep2 hP (va_D_of hD rfl) hk1 2 1 7 rfl rfl rfl (by decide) (by decide)) (va_cons (va_keep2 hP (va_D_of hD rfl) hk1 2 1 8 rfl rfl rfl (by decide) (by decide)) (va_cons (va_keep2 hP (va_D_of hD rfl) hk1 2 1 9 rfl rfl rfl (by decide) (by decide)) (va_cons (va_keep2 hP (va_D_of hD rfl) hk1 2 1 10 rfl rfl rfl (by decide) (by decide)) (va_cons (va_keep2 hP (va_D_of hD rfl) hk1 2 1 11 rfl rfl rfl (by decide) (by decide)) (va_cons (va_keep2 hP (va_D_of hD rfl) hk1 2 1 12 rfl rfl rfl (by decide) (by decide)) (va_cons (va_keep2 hP (va_D_of hD rfl) hk1 2 1 13 rfl rfl rfl (by decide) (by decide)) va_nil))))))))))))))
                      refine lv_aload_n hx hb dX5_load_146 rfl (lv_at hl 0 rfl) ?_
                      refine va_get hx hb hts in_X5 hown hK hP 0 rfl rfl 8 (by decide) (hts _ q1670) (fun _ h => h) rfl dX5_load_147 ?_
                      refine lv_iconst (v := 0) hx hb dX5_load_150 rfl ?_
                      refine w_iald hx hb hK hP 1 rfl 0 rfl (Nat.le_of_ble_eq_true rfl) (Nat.le_of_ble_eq_true rfl) dX5_load_151 ?_
                      exact w_iret C (by rw [← er]) (by rw [← er]; exact hP) hS dX5_load_152
                    · exact absurd (show _ = (0 : Int32) by rw [← er] at hres; exact hres) (bI_0.mp c_123)
                  · have hlt : sk fb L τ.1 < L := by rcases Nat.lt_or_ge (sk fb L τ.1) L with q | q; exact q; exact absurd (by unfold byt; rw [if_neg (by omega)]) c_101
                    have hst := fwd_st (fb := fb) (dr := d1) (se := s1) hL hoks b_93
                    refine lv_aload_n hx hb dX5_load_104 rfl (lv_at hl 0 rfl) ?_
                    refine x_callV (As := []) (rest := []) C (m_statement l D k o a1 a8 a9 a10 a15 0 0 eo (nI u) s1 (hR k a15 a10 hh st hs) d d1 fb L hL (sk fb L τ.1, τ.2) A (va_D_of hD rfl) hoks sA sV b_93 hdr.1.1.1 hdr.1.1.2.2.1 (fun q => ⟨hdr.1.1.2.2.2.2.1, hdr.2.2.2 q⟩)) (cwV 0 hts (lw_V q1743 q1745 qs35 q76 q1746) rfl rfl rfl (by decide +kernel) ⟨Nat.le_of_ble_eq_true rfl, Nat.le_of_ble_eq_true rfl⟩) hK (va_recv hK hP (ci := 0) (q0 := 0) rfl rfl) mv2_MS hP (fun U hU hW => MS_to hX hS (fun _ h => h) U hU hW) hS (fun _ h => h) rfl hl.1 rfl (Nat.le_of_ble_eq_true rfl) dX5_load_105 ⟨Nat.le_of_ble_eq_true rfl, Nat.le_of_ble_eq_true rfl⟩ (fun H locs hP hS _ _ => ?_)
                    have hP : va_P D clA ((o, .inr (0, [.int 0, .ref a1, .int 0, .int (nI L), .int (nI (stS fb L d1 s1 (sk fb L τ.1, τ.2)).1.1), .int ((stS fb L d1 s1 (sk fb L τ.1, τ.2)).1.2.1), .int ((stS fb L d1 s1 (sk fb L τ.1, τ.2)).1.2.2.1), .int eo, .ref a8, .ref a9, .ref a10, .int (nI u), .int (nI (stS fb L d1 s1 (sk fb L τ.1, τ.2)).1.2.2.2), .int 0, .int ((stS fb L d1 s1 (sk fb L τ.1, τ.2)).2.2), .ref a15])) :: (a8, .inl (k 0, 1798, .inl d)) :: (a9, .inl (k 0, 1798, .inl ((stS fb L d1 s1 (sk fb L τ.1, τ.2)).2.1))) :: (a1, .inl (k 0, 900, .inl fb)) :: hR k a15 a10 hh st hs) H := hP
                    refine lv_goto (tgt := 89) hx hb dX5_load_108 (by decide) ?_
                    rw [ldF_go b_93 c_101] at he
                    exact ih_89 (stS fb L d1 s1 (sk fb L τ.1, τ.2)).1 (stS fb L d1 s1 (sk fb L τ.1, τ.2)).2.1 (stS fb L d1 s1 (sk fb L τ.1, τ.2)).2.2 hst.1 (fun z => Dr_st hL hoks b_93 hdr z) he (fun z => by have z2 : sk fb L τ.1 < _ := hst.2 z; omega) (by omega) _ _ hP hS ls (lv_sub hl [0, 1] rfl)
            exact loop_89 (L + 2) ((0, 0, -1, n0) : PS) (fun _ => 0) 0 ⟨fun _ => Nat.zero_le _, show 0 ≤ 2000 by omega, hn0⟩ (fun _ => Dr_0) rfl (fun _ => by show L - 0 + 1 ≤ L + 2; omega) (by omega) _ _ hP hS ls (lv_sub hl [0, 1] rfl)
          · have g_73 := nI_nle' (a := 1798) c_73 (by decide) (by omega)
            refine lv_aload_n hx hb dX5_load_76 rfl (lv_at hl 0 rfl) ?_
            refine va_get hx hb hts in_X5 hown hK hP 0 rfl rfl 9 (by decide) (hts _ q1671) (fun _ h => h) rfl dX5_load_77 ?_
            refine lv_iload_n hx hb dX5_load_80 rfl (lv_at hl 2 rfl) ?_
            refine lv_iconst (v := 0) hx hb dX5_load_81 rfl ?_
            refine w_iast hx hb hK hP (va_D_of hD rfl) hS 2 rfl j rfl (by omega) (Nat.le_of_ble_eq_true rfl) dX5_load_82 (fun H locs hP _ hS => ?_)
            have hP : va_P D clA ((o, .inr (0, [.int 0, .ref a1, .int 0, .int (nI L), .int 0, .int 0, .int (-1), .int eo, .ref a8, .ref a9, .ref a10, .int (nI u), .int (nI n0), .int 0, .int 0, .ref a15])) :: (a8, .inl (k 0, 1798, .inl d)) :: (a9, .inl (k 0, 1798, .inl (upd g2 j 0))) :: (a1, .inl (k 0, 900, .inl fb)) :: hR k a15 a10 hh st hs) H := hP
            refine lv_iinc (v := nI (j + 1)) (lv' := [(2, .int (nI (j + 1))), (0, .ref o), (1, .int (nI L))]) hx hb dX5_load_83 hl (k := 2) rfl (nI_1 j) (by decide) rfl (fun ls hl => ?_)
            refine lv_goto (tgt := 69) hx hb dX5_load_86 (by decide) ?_
            exact ih_69 (j + 1) (upd g2 j 0) (by omega) (lt_s (fun a ha => by rw [pk_un (by omega)]; exact hg2 a ha) pk_us) (by omega) _ _ hP hS ls (lv_sub hl [1, 2, 0] rfl)
      exact loop_69 1799 0 dr (Nat.zero_le _) lt_0 (by omega) _ _ hP hS ls (lv_sub hl [1, 2, 0] rfl)
    · exact absurd hin (bI_nz c_27)
  refine lv_if_ne (tgt := 22) hx hb dX5_load_15 (by decide) (fun c_15 => ?_) (fun c_15 => ?_)
  · have b_15 := bI_nz c_15
    refine lv_iconst (v := 0) hx hb dX5_load_22 rfl ?_
    exact J_23 0 (by first | exact bI_t b_15 | exact bI_f (fun h => h b_15)) ls hl
  · have b_15 := bI_0.mp c_15
    refine lv_iconst (v := 1) hx hb dX5_load_18 rfl ?_
    refine lv_goto (tgt := 23) hx hb dX5_load_19 (by decide) ?_
    exact J_23 1 (by first | exact bI_t b_15 | exact bI_f (fun h => h b_15)) ls hl
