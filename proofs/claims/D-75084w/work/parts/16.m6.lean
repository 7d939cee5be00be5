/-! the reference, part 6: changes (printed by gen/m6.py) -/
set_option maxRecDepth 100000
set_option maxHeartbeats 4000000 in
theorem m_honour (l : Launch) (D : va_G) (k : Nat → ClassId) (o a1 a8 a9 a10 a15 : Nat) (t bl tl ps er ea eo ud ns ne se : Int32) (wr : va_W) (d : Nat → Int32) (A : Nat → Prop) (hD : va_D A ((o, .inr (0, [.int t, .ref a1, .int bl, .int tl, .int ps, .int er, .int ea, .int eo, .ref a8, .ref a9, .ref a10, .int ud, .int ns, .int ne, .int se, .ref a15])) :: (a8, .inl (k 0, 1798, .inl d)) :: wr)) (hd : okD d) (q : Nat) (hq : q < 24) : wM l D k yX5_honour cX5_honour 2 none 1 20 [.ref o, .int (nI q)] ((o, .inr (0, [.int t, .ref a1, .int bl, .int tl, .int ps, .int er, .int ea, .int eo, .ref a8, .ref a9, .ref a10, .int ud, .int ns, .int ne, .int se, .ref a15])) :: (a8, .inl (k 0, 1798, .inl d)) :: wr) (none) ((o, .inr (0, [.int t, .ref a1, .int bl, .int tl, .int ps, .int er, .int ea, .int eo, .ref a8, .ref a9, .ref a10, .int ud, .int ns, .int ne, .int se, .ref a15])) :: (a8, .inl (k 0, 1798, .inl (honD d q))) :: wr) A := by
  refine wM_of (by decide) (Nat.le_of_ble_eq_true rfl) ?_
  intro p e s m below meth c ls C hK hP hS hl
  obtain ⟨hx, hb, hr, hml, hown, hts, hlk⟩ := id C
  have hl : lv_has ls 2 [(0, .ref o), (1, .int (nI q))] := hl
  refine lv_aload_n hx hb dX5_honour_0 rfl (lv_at hl 0 rfl) ?_
  refine va_get hx hb hts in_X5 hown hK hP 0 rfl rfl 8 (by decide) (hts _ q1670) (fun _ h => h) rfl dX5_honour_1 ?_
  refine lv_iload_n hx hb dX5_honour_4 rfl (lv_at hl 1 rfl) ?_
  refine r_callS (As := [.int (nI q)]) (rest := [.ref a8]) C (m_presentationN l D k q) (va_cwS 1 hts (lw_S q1917 q1918 q76 q1919) rfl rfl rfl (by decide +kernel) ⟨Nat.le_of_ble_eq_true rfl, Nat.le_of_ble_eq_true rfl⟩) hK trivial rfl hl.1 rfl (Nat.le_of_ble_eq_true rfl) dX5_honour_5 ⟨Nat.le_of_ble_eq_true rfl, Nat.le_of_ble_eq_true rfl⟩ ?_
  refine lv_iconst (v := 4) hx hb dX5_honour_8 rfl ?_
  refine lv_iadd hx hb dX5_honour_9 ?_
  refine w_topi (y := nI ((154 + 6 * q) + 4)) (nI_add (154 + 6 * q) 4) ?_
  refine lv_iconst (v := 2) hx hb dX5_honour_10 rfl ?_
  refine w_iast hx hb hK hP (va_D_of hD rfl) hS 1 rfl ((154 + 6 * q) + 4) rfl (by omega) (Nat.le_of_ble_eq_true rfl) dX5_honour_11 (fun H locs hP _ hS => ?_)
  have hP : va_P D clA ((o, .inr (0, [.int t, .ref a1, .int bl, .int tl, .int ps, .int er, .int ea, .int eo, .ref a8, .ref a9, .ref a10, .int ud, .int ns, .int ne, .int se, .ref a15])) :: (a8, .inl (k 0, 1798, .inl (upd d ((154 + 6 * q) + 4) 2))) :: wr) H := hP
  refine lv_aload_n hx hb dX5_honour_12 rfl (lv_at hl 0 rfl) ?_
  refine va_get hx hb hts in_X5 hown hK hP 0 rfl rfl 8 (by decide) (hts _ q1670) (fun _ h => h) rfl dX5_honour_13 ?_
  refine lv_iload_n hx hb dX5_honour_16 rfl (lv_at hl 1 rfl) ?_
  refine r_callS (As := [.int (nI q)]) (rest := [.ref a8]) C (m_presentationN l D k q) (va_cwS 1 hts (lw_S q1917 q1918 q76 q1919) rfl rfl rfl (by decide +kernel) ⟨Nat.le_of_ble_eq_true rfl, Nat.le_of_ble_eq_true rfl⟩) hK trivial rfl hl.1 rfl (Nat.le_of_ble_eq_true rfl) dX5_honour_17 ⟨Nat.le_of_ble_eq_true rfl, Nat.le_of_ble_eq_true rfl⟩ ?_
  refine lv_iconst (v := 5) hx hb dX5_honour_20 rfl ?_
  refine lv_iadd hx hb dX5_honour_21 ?_
  refine w_topi (y := nI ((154 + 6 * q) + 5)) (nI_add (154 + 6 * q) 5) ?_
  refine lv_aload_n hx hb dX5_honour_22 rfl (lv_at hl 0 rfl) ?_
  refine va_get hx hb hts in_X5 hown hK hP 0 rfl rfl 8 (by decide) (hts _ q1670) (fun _ h => h) rfl dX5_honour_23 ?_
  refine lv_iconst (v := 3) hx hb dX5_honour_26 rfl ?_
  refine w_iald hx hb hK hP 1 rfl 3 rfl (Nat.le_of_ble_eq_true rfl) (Nat.le_of_ble_eq_true rfl) dX5_honour_27 ?_
  refine w_topi (y := d 3) (pk_un (by omega)) ?_
  refine w_iast hx hb hK hP (va_D_of hD rfl) hS 1 rfl ((154 + 6 * q) + 5) rfl (by omega) (Nat.le_of_ble_eq_true rfl) dX5_honour_28 (fun H locs hP _ hS => ?_)
  have hP : va_P D clA ((o, .inr (0, [.int t, .ref a1, .int bl, .int tl, .int ps, .int er, .int ea, .int eo, .ref a8, .ref a9, .ref a10, .int ud, .int ns, .int ne, .int se, .ref a15])) :: (a8, .inl (k 0, 1798, .inl (upd (upd d ((154 + 6 * q) + 4) 2) ((154 + 6 * q) + 5) (d 3)))) :: wr) H := hP
  exact w_vret C hP hS dX5_honour_29
set_option maxHeartbeats 8000000 in
theorem m_pass (l : Launch) (D : va_G) (k : Nat → ClassId) (o a1 a8 a9 a10 a15 : Nat) (t bl tl ps er ea eo ns ne se : Int32) (hh : Nat → Nat) (d dr fb : Nat → Int32) (st : Nat → Int64) (hs : Nat → Nat → Int32) (A : Nat → Prop) (u : Nat) (hu : u ≤ 8) (hD : va_D A ((o, .inr (0, [.int t, .ref a1, .int bl, .int tl, .int ps, .int er, .int ea, .int eo, .ref a8, .ref a9, .ref a10, .int (nI u), .int ns, .int ne, .int se, .ref a15])) :: (a8, .inl (k 0, 1798, .inl d)) :: hW k a9 a1 a15 a10 hh dr fb st hs)) (hd : okD d) (x : Int32) : wM l D k yX5_pass cX5_pass 2 (some .int) 2 43 [.ref o, .int x] ((o, .inr (0, [.int t, .ref a1, .int bl, .int tl, .int ps, .int er, .int ea, .int eo, .ref a8, .ref a9, .ref a10, .int (nI u), .int ns, .int ne, .int se, .ref a15])) :: (a8, .inl (k 0, 1798, .inl d)) :: hW k a9 a1 a15 a10 hh dr fb st hs) (some (.int (pick (inR x 1 365 ∧ ¬ 9000 < d 3 + x) (d 3 + x)))) ((o, .inr (0, [.int (thr2 (¬ inR x 1 365) (9000 < d 3 + x)), .ref a1, .int bl, .int tl, .int ps, .int er, .int ea, .int eo, .ref a8, .ref a9, .ref a10, .int (nI (ifp (inR x 1 365 ∧ ¬ 9000 < d 3 + x) (remU u) u)), .int ns, .int ne, .int se, .ref a15])) :: (a8, .inl (k 0, 1798, .inl (ifp (inR x 1 365 ∧ ¬ 9000 < d 3 + x) (upd d 3 (d 3 + x)) d))) :: hW k a9 a1 a15 a10 hh dr fb st (ifp (inR x 1 365 ∧ ¬ 9000 < d 3 + x) (rem u d hs) hs)) A := by
  refine wM_of (by decide) (Nat.le_of_ble_eq_true rfl) ?_
  intro p e s m below meth c ls C hK hP hS hl
  obtain ⟨hx, hb, hr, hml, hown, hts, hlk⟩ := id C
  have hl : lv_has ls 2 [(0, .ref o), (1, .int x)] := hl
  refine lv_aload_n hx hb dX5_pass_0 rfl (lv_at hl 0 rfl) ?_
  refine lv_iconst (v := 0) hx hb dX5_pass_1 rfl ?_
  refine va_put hx hb hts in_X5 tyX5 tyX5_ok nmX5 hown hK hP (va_D_of hD rfl) hS 0 rfl rfl 0 (by decide) (hts _ q1662) (fun _ h => h) rfl rfl rfl rfl (Nat.le_of_ble_eq_true rfl) dX5_pass_2 (fun H locs hP _ hS => ?_)
  have hP : va_P D clA ((o, .inr (0, [.int 0, .ref a1, .int bl, .int tl, .int ps, .int er, .int ea, .int eo, .ref a8, .ref a9, .ref a10, .int (nI u), .int ns, .int ne, .int se, .ref a15])) :: (a8, .inl (k 0, 1798, .inl d)) :: hW k a9 a1 a15 a10 hh dr fb st hs) H := hP
  refine lv_aload_n hx hb dX5_pass_5 rfl (lv_at hl 0 rfl) ?_
  refine lv_iload_n hx hb dX5_pass_6 rfl (lv_at hl 1 rfl) ?_
  refine lv_iconst (v := 1) hx hb dX5_pass_7 rfl ?_
  refine lv_sipush (v := 365) hx hb dX5_pass_8 rfl ?_
  refine r_callS (As := [.int x, .int 1, .int 365]) (rest := [.ref o]) C (m_in l D k x 1 365) (va_cwS 3 hts (lw_S q1724 q1725 q76 q1726) rfl rfl rfl (by decide +kernel) ⟨Nat.le_of_ble_eq_true rfl, Nat.le_of_ble_eq_true rfl⟩) hK trivial rfl hl.1 rfl (Nat.le_of_ble_eq_true rfl) dX5_pass_11 ⟨Nat.le_of_ble_eq_true rfl, Nat.le_of_ble_eq_true rfl⟩ ?_
  have J_22 : ∀ (z : Int32), (z = bI (¬ inR x 1 365)) → ∀ (ls : Array Slot), lv_has ls 2 [(0, .ref o), (1, .int x)] → W p l e (Rm 2 43 0 0) s m ([.ref o, .int x] : List Value).toArray below meth c H locs 0 0 (MQ below (wQ D (some (.int (pick (inR x 1 365 ∧ ¬ 9000 < d 3 + x) (d 3 + x)))) ((o, .inr (0, [.int (thr2 (¬ inR x 1 365) (9000 < d 3 + x)), .ref a1, .int bl, .int tl, .int ps, .int er, .int ea, .int eo, .ref a8, .ref a9, .ref a10, .int (nI (ifp (inR x 1 365 ∧ ¬ 9000 < d 3 + x) (remU u) u)), .int ns, .int ne, .int se, .ref a15])) :: (a8, .inl (k 0, 1798, .inl (ifp (inR x 1 365 ∧ ¬ 9000 < d 3 + x) (upd d 3 (d 3 + x)) d))) :: hW k a9 a1 a15 a10 hh dr fb st (ifp (inR x 1 365 ∧ ¬ 9000 < d 3 + x) (rem u d hs) hs)) A) ([.ref o, .int x] : List Value).toArray s 0 0 A) (F0 m 22 ls [.int z, .ref o]) := by
    intro z h_z ls hl
    refine w_topi (y := bI (¬ inR x 1 365)) h_z ?_
    refine lv_iconst (v := 1) hx hb dX5_pass_22 rfl ?_
    refine w_callV (As := [.int (bI (¬ inR x 1 365)), .int 1]) (rest := []) C (m_fails l D k o a1 a8 a9 a10 a15 bl tl ps er ea eo (nI u) ns ne se ((a8, .inl (k 0, 1798, .inl d)) :: hW k a9 a1 a15 a10 hh dr fb st hs) A (va_D_of hD rfl) (¬ inR x 1 365) 1 (by decide)) (cwV 2 hts (lw_V q1727 q1729 qs31 q76 q1730) rfl rfl rfl (by decide +kernel) ⟨Nat.le_of_ble_eq_true rfl, Nat.le_of_ble_eq_true rfl⟩) hK (va_recv hK hP (ci := 0) (q0 := 0) rfl rfl) hP hS (fun _ h => h) rfl hl.1 rfl (Nat.le_of_ble_eq_true rfl) dX5_pass_23 ⟨Nat.le_of_ble_eq_true rfl, Nat.le_of_ble_eq_true rfl⟩ (fun H locs hP hS _ _ => ?_)
    have hP : va_P D clA ((o, .inr (0, [.int (pick (¬ inR x 1 365) 1), .ref a1, .int bl, .int tl, .int ps, .int er, .int ea, .int eo, .ref a8, .ref a9, .ref a10, .int (nI u), .int ns, .int ne, .int se, .ref a15])) :: (a8, .inl (k 0, 1798, .inl d)) :: hW k a9 a1 a15 a10 hh dr fb st hs) H := hP
    refine lv_if_ne (tgt := 56) hx hb dX5_pass_26 (by decide) (fun c_26 => ?_) (fun c_26 => ?_)
    · have b_26 := bI_nz c_26
      rw [pick_t b_26] at hP
      refine lv_iconst (v := 0) hx hb dX5_pass_56 rfl ?_
      exact w_iret C (pick_f (fun h => b_26 h.1)).symm (by simp only [thr2_a b_26, ifp_f (fun h : (inR x 1 365 ∧ ¬ 9000 < d 3 + x) => b_26 h.1)]; exact hP) hS dX5_pass_57
    · have b_26 := bI_0.mp c_26
      rw [pick_f b_26] at hP
      refine lv_aload_n hx hb dX5_pass_29 rfl (lv_at hl 0 rfl) ?_
      refine lv_aload_n hx hb dX5_pass_30 rfl (lv_at hl 0 rfl) ?_
      refine va_get hx hb hts in_X5 hown hK hP 0 rfl rfl 8 (by decide) (hts _ q1670) (fun _ h => h) rfl dX5_pass_31 ?_
      refine lv_iconst (v := 3) hx hb dX5_pass_34 rfl ?_
      refine w_iald hx hb hK hP 1 rfl 3 rfl (Nat.le_of_ble_eq_true rfl) (Nat.le_of_ble_eq_true rfl) dX5_pass_35 ?_
      refine lv_iload_n hx hb dX5_pass_36 rfl (lv_at hl 1 rfl) ?_
      refine lv_iadd hx hb dX5_pass_37 ?_
      refine lv_sipush (v := 9000) hx hb dX5_pass_38 rfl ?_
      have J_49 : ∀ (z2 : Int32), (z2 = bI (9000 < d 3 + x)) → ∀ (ls : Array Slot), lv_has ls 2 [(0, .ref o), (1, .int x)] → W p l e (Rm 2 43 0 0) s m ([.ref o, .int x] : List Value).toArray below meth c H locs 0 0 (MQ below (wQ D (some (.int (pick (inR x 1 365 ∧ ¬ 9000 < d 3 + x) (d 3 + x)))) ((o, .inr (0, [.int (thr2 (¬ inR x 1 365) (9000 < d 3 + x)), .ref a1, .int bl, .int tl, .int ps, .int er, .int ea, .int eo, .ref a8, .ref a9, .ref a10, .int (nI (ifp (inR x 1 365 ∧ ¬ 9000 < d 3 + x) (remU u) u)), .int ns, .int ne, .int se, .ref a15])) :: (a8, .inl (k 0, 1798, .inl (ifp (inR x 1 365 ∧ ¬ 9000 < d 3 + x) (upd d 3 (d 3 + x)) d))) :: hW k a9 a1 a15 a10 hh dr fb st (ifp (inR x 1 365 ∧ ¬ 9000 < d 3 + x) (rem u d hs) hs)) A) ([.ref o, .int x] : List Value).toArray s 0 0 A) (F0 m 49 ls [.int z2, .ref o]) := by
        intro z2 h_z2 ls hl
        refine w_topi (y := bI (9000 < d 3 + x)) h_z2 ?_
        refine lv_iconst (v := 2) hx hb dX5_pass_49 rfl ?_
        refine w_callV (As := [.int (bI (9000 < d 3 + x)), .int 2]) (rest := []) C (m_fails l D k o a1 a8 a9 a10 a15 bl tl ps er ea eo (nI u) ns ne se ((a8, .inl (k 0, 1798, .inl d)) :: hW k a9 a1 a15 a10 hh dr fb st hs) A (va_D_of hD rfl) (9000 < d 3 + x) 2 (by decide)) (cwV 2 hts (lw_V q1727 q1729 qs31 q76 q1730) rfl rfl rfl (by decide +kernel) ⟨Nat.le_of_ble_eq_true rfl, Nat.le_of_ble_eq_true rfl⟩) hK (va_recv hK hP (ci := 0) (q0 := 0) rfl rfl) hP hS (fun _ h => h) rfl hl.1 rfl (Nat.le_of_ble_eq_true rfl) dX5_pass_50 ⟨Nat.le_of_ble_eq_true rfl, Nat.le_of_ble_eq_true rfl⟩ (fun H locs hP hS _ _ => ?_)
        have hP : va_P D clA ((o, .inr (0, [.int (pick (9000 < d 3 + x) 2), .ref a1, .int bl, .int tl, .int ps, .int er, .int ea, .int eo, .ref a8, .ref a9, .ref a10, .int (nI u), .int ns, .int ne, .int se, .ref a15])) :: (a8, .inl (k 0, 1798, .inl d)) :: hW k a9 a1 a15 a10 hh dr fb st hs) H := hP
        refine lv_if_eq (tgt := 58) hx hb dX5_pass_53 (by decide) (fun c_53 => ?_) (fun c_53 => ?_)
        · have b_53 := bI_0.mp c_53
          rw [pick_f b_53] at hP
          refine lv_aload_n hx hb dX5_pass_58 rfl (lv_at hl 0 rfl) ?_
          refine w_callV (As := []) (rest := []) C (m_remember l D k o a1 a8 a9 a10 a15 0 bl tl ps er ea eo ns ne se hh d dr fb st hs A u hu (va_D_of hD rfl)) (cwV 0 hts (lw_V q1827 q1829 qs48 q76 q1830) rfl rfl rfl (by decide +kernel) ⟨Nat.le_of_ble_eq_true rfl, Nat.le_of_ble_eq_true rfl⟩) hK (va_recv hK hP (ci := 0) (q0 := 0) rfl rfl) hP hS (fun _ h => h) rfl hl.1 rfl (Nat.le_of_ble_eq_true rfl) dX5_pass_59 ⟨Nat.le_of_ble_eq_true rfl, Nat.le_of_ble_eq_true rfl⟩ (fun H locs hP hS _ _ => ?_)
          have hP : va_P D clA ((o, .inr (0, [.int 0, .ref a1, .int bl, .int tl, .int ps, .int er, .int ea, .int eo, .ref a8, .ref a9, .ref a10, .int (nI (remU u)), .int ns, .int ne, .int se, .ref a15])) :: (a8, .inl (k 0, 1798, .inl d)) :: hW k a9 a1 a15 a10 hh dr fb st (rem u d hs)) H := hP
          refine lv_aload_n hx hb dX5_pass_62 rfl (lv_at hl 0 rfl) ?_
          refine va_get hx hb hts in_X5 hown hK hP 0 rfl rfl 8 (by decide) (hts _ q1670) (fun _ h => h) rfl dX5_pass_63 ?_
          refine lv_iconst (v := 3) hx hb dX5_pass_66 rfl ?_
          refine lv_dup2_11 hx hb dX5_pass_67 rfl rfl ?_
          refine w_iald hx hb hK hP 1 rfl 3 rfl (Nat.le_of_ble_eq_true rfl) (Nat.le_of_ble_eq_true rfl) dX5_pass_68 ?_
          refine lv_iload_n hx hb dX5_pass_69 rfl (lv_at hl 1 rfl) ?_
          refine lv_iadd hx hb dX5_pass_70 ?_
          refine w_iast hx hb hK hP (va_D_of hD rfl) hS 1 rfl 3 rfl (Nat.le_of_ble_eq_true rfl) (Nat.le_of_ble_eq_true rfl) dX5_pass_71 (fun H locs hP _ hS => ?_)
          have hP : va_P D clA ((o, .inr (0, [.int 0, .ref a1, .int bl, .int tl, .int ps, .int er, .int ea, .int eo, .ref a8, .ref a9, .ref a10, .int (nI (remU u)), .int ns, .int ne, .int se, .ref a15])) :: (a8, .inl (k 0, 1798, .inl (upd d 3 ((d 3) + x)))) :: hW k a9 a1 a15 a10 hh dr fb st (rem u d hs)) H := hP
          refine lv_aload_n hx hb dX5_pass_72 rfl (lv_at hl 0 rfl) ?_
          refine va_get hx hb hts in_X5 hown hK hP 0 rfl rfl 8 (by decide) (hts _ q1670) (fun _ h => h) rfl dX5_pass_73 ?_
          refine lv_iconst (v := 3) hx hb dX5_pass_76 rfl ?_
          refine w_iald hx hb hK hP 1 rfl 3 rfl (Nat.le_of_ble_eq_true rfl) (Nat.le_of_ble_eq_true rfl) dX5_pass_77 ?_
          refine w_topi (y := d 3 + x) pk_us ?_
          exact w_iret C (pick_t ⟨Classical.not_not.mp b_26, b_53⟩).symm (by simp only [thr2_c b_26 b_53, ifp_t (show (inR x 1 365 ∧ ¬ 9000 < d 3 + x) from ⟨Classical.not_not.mp b_26, b_53⟩)]; exact hP) hS dX5_pass_78
        · have b_53 := bI_nz c_53
          rw [pick_t b_53] at hP
          refine lv_iconst (v := 0) hx hb dX5_pass_56 rfl ?_
          exact w_iret C (pick_f (fun h => h.2 b_53)).symm (by simp only [thr2_b b_26 b_53, ifp_f (fun h : (inR x 1 365 ∧ ¬ 9000 < d 3 + x) => h.2 b_53)]; exact hP) hS dX5_pass_57
      refine lv_icmp_le (tgt := 48) hx hb dX5_pass_41 (by decide) (fun c_41 => ?_) (fun c_41 => ?_)
      · refine lv_iconst (v := 0) hx hb dX5_pass_48 rfl ?_
        exact J_49 0 (by first | exact bI_t (Int32.not_le.mp c_41) | exact bI_f (Int32.not_lt.mpr c_41)) ls hl
      · refine lv_iconst (v := 1) hx hb dX5_pass_44 rfl ?_
        refine lv_goto (tgt := 49) hx hb dX5_pass_45 (by decide) ?_
        exact J_49 1 (by first | exact bI_t (Int32.not_le.mp c_41) | exact bI_f (Int32.not_lt.mpr c_41)) ls hl
  refine lv_if_ne (tgt := 21) hx hb dX5_pass_14 (by decide) (fun c_14 => ?_) (fun c_14 => ?_)
  · have b_14 := bI_nz c_14
    refine lv_iconst (v := 0) hx hb dX5_pass_21 rfl ?_
    exact J_22 0 (by first | exact bI_t b_14 | exact bI_f (fun h => h b_14)) ls hl
  · have b_14 := bI_0.mp c_14
    refine lv_iconst (v := 1) hx hb dX5_pass_17 rfl ?_
    refine lv_goto (tgt := 22) hx hb dX5_pass_18 (by decide) ?_
    exact J_22 1 (by first | exact bI_t b_14 | exact bI_f (fun h => h b_14)) ls hl
set_option maxHeartbeats 8000000 in
theorem m_refuse (l : Launch) (D : va_G) (k : Nat → ClassId) (o a1 a8 a9 a10 a15 : Nat) (t bl tl ps er ea eo ns ne se : Int32) (hh : Nat → Nat) (d dr fb : Nat → Int32) (st : Nat → Int64) (hs : Nat → Nat → Int32) (A : Nat → Prop) (u : Nat) (hu : u ≤ 8) (hD : va_D A ((o, .inr (0, [.int t, .ref a1, .int bl, .int tl, .int ps, .int er, .int ea, .int eo, .ref a8, .ref a9, .ref a10, .int (nI u), .int ns, .int ne, .int se, .ref a15])) :: (a8, .inl (k 0, 1798, .inl d)) :: hW k a9 a1 a15 a10 hh dr fb st hs)) (hd : okD d) (x : Int32) : wM l D k yX5_refuse cX5_refuse 3 (some .int) 4 86 [.ref o, .int x] ((o, .inr (0, [.int t, .ref a1, .int bl, .int tl, .int ps, .int er, .int ea, .int eo, .ref a8, .ref a9, .ref a10, .int (nI u), .int ns, .int ne, .int se, .ref a15])) :: (a8, .inl (k 0, 1798, .inl d)) :: hW k a9 a1 a15 a10 hh dr fb st hs) (some (.int (pick (hasP d x ∧ pf d (ci x) 4 = 1) (avail (refD d (ci x)) (dN d (154 + 6 * ci x)))))) ((o, .inr (0, [.int (thr2 (¬ hasP d x) (¬ pf d (ci x) 4 = 1)), .ref a1, .int bl, .int tl, .int ps, .int er, .int ea, .int eo, .ref a8, .ref a9, .ref a10, .int (nI (ifp (hasP d x ∧ pf d (ci x) 4 = 1) (remU u) u)), .int ns, .int ne, .int se, .ref a15])) :: (a8, .inl (k 0, 1798, .inl (ifp (hasP d x ∧ pf d (ci x) 4 = 1) (refD d (ci x)) d))) :: hW k a9 a1 a15 a10 hh dr fb st (ifp (hasP d x ∧ pf d (ci x) 4 = 1) (rem u d hs) hs)) A := by
  refine wM_of (by decide) (Nat.le_of_ble_eq_true rfl) ?_
  intro p e s m below meth c ls C hK hP hS hl
  obtain ⟨hx, hb, hr, hml, hown, hts, hlk⟩ := id C
  have hl : lv_has ls 3 [(0, .ref o), (1, .int x)] := hl
  refine lv_aload_n hx hb dX5_refuse_0 rfl (lv_at hl 0 rfl) ?_
  refine lv_iconst (v := 0) hx hb dX5_refuse_1 rfl ?_
  refine va_put hx hb hts in_X5 tyX5 tyX5_ok nmX5 hown hK hP (va_D_of hD rfl) hS 0 rfl rfl 0 (by decide) (hts _ q1662) (fun _ h => h) rfl rfl rfl rfl (Nat.le_of_ble_eq_true rfl) dX5_refuse_2 (fun H locs hP _ hS => ?_)
  have hP : va_P D clA ((o, .inr (0, [.int 0, .ref a1, .int bl, .int tl, .int ps, .int er, .int ea, .int eo, .ref a8, .ref a9, .ref a10, .int (nI u), .int ns, .int ne, .int se, .ref a15])) :: (a8, .inl (k 0, 1798, .inl d)) :: hW k a9 a1 a15 a10 hh dr fb st hs) H := hP
  refine lv_aload_n hx hb dX5_refuse_5 rfl (lv_at hl 0 rfl) ?_
  refine lv_iload_n hx hb dX5_refuse_6 rfl (lv_at hl 1 rfl) ?_
  refine w_callV (As := [.int x]) (rest := []) C (m_noPresentation l D k o a1 a8 a9 a10 a15 bl tl ps er ea eo (nI u) ns ne se (hW k a9 a1 a15 a10 hh dr fb st hs) d A (va_D_of hD rfl) hd x) (cwV 1 hts (lw_V q1961 q1963 qs62 q76 q1964) rfl rfl rfl (by decide +kernel) ⟨Nat.le_of_ble_eq_true rfl, Nat.le_of_ble_eq_true rfl⟩) hK (va_recv hK hP (ci := 0) (q0 := 0) rfl rfl) hP hS (fun _ h => h) rfl hl.1 rfl (Nat.le_of_ble_eq_true rfl) dX5_refuse_7 ⟨Nat.le_of_ble_eq_true rfl, Nat.le_of_ble_eq_true rfl⟩ (fun H locs hP hS _ _ => ?_)
  have hP : va_P D clA ((o, .inr (0, [.int (pick (¬ hasP d x) 1), .ref a1, .int bl, .int tl, .int ps, .int er, .int ea, .int eo, .ref a8, .ref a9, .ref a10, .int (nI u), .int ns, .int ne, .int se, .ref a15])) :: (a8, .inl (k 0, 1798, .inl d)) :: hW k a9 a1 a15 a10 hh dr fb st hs) H := hP
  refine lv_if_eq (tgt := 15) hx hb dX5_refuse_10 (by decide) (fun c_10 => ?_) (fun c_10 => ?_)
  · have b_10 := bI_0.mp c_10
    rw [pick_f b_10] at hP
    have hlk := hl
    have hPk := hP
    have hSk := hS
    obtain ⟨q, hq, rfl⟩ := hasP_n hd (Classical.not_not.mp b_10)
    have hl := hlk
    have hP := hPk
    have hS := hSk
    obtain ⟨⟨⟨_, n0⟩, ⟨_, n1⟩, -⟩, -⟩ := id hd
    obtain ⟨p1, p2, -⟩ := hd.2.2.2 q hq
    rw [ci_n (show q < 2 ^ 31 by omega)]
    refine lv_iload_n hx hb dX5_refuse_15 rfl (lv_at hl 1 rfl) ?_
    refine r_callS (As := [.int (nI q)]) (rest := []) C (m_presentationN l D k q) (va_cwS 1 hts (lw_S q1917 q1918 q76 q1919) rfl rfl rfl (by decide +kernel) ⟨Nat.le_of_ble_eq_true rfl, Nat.le_of_ble_eq_true rfl⟩) hK trivial rfl hl.1 rfl (Nat.le_of_ble_eq_true rfl) dX5_refuse_16 ⟨Nat.le_of_ble_eq_true rfl, Nat.le_of_ble_eq_true rfl⟩ ?_
    refine lv_istore_n (lv' := [(2, .int (nI (154 + 6 * q))), (0, .ref o), (1, .int (nI q))]) hx hb dX5_refuse_19 rfl hl (by decide) rfl (fun ls hl => ?_)
    refine lv_aload_n hx hb dX5_refuse_20 rfl (lv_at hl 1 rfl) ?_
    refine lv_aload_n hx hb dX5_refuse_21 rfl (lv_at hl 1 rfl) ?_
    refine va_get hx hb hts in_X5 hown hK hP 0 rfl rfl 8 (by decide) (hts _ q1670) (fun _ h => h) rfl dX5_refuse_22 ?_
    refine lv_iload_n hx hb dX5_refuse_25 rfl (lv_at hl 0 rfl) ?_
    refine lv_iconst (v := 4) hx hb dX5_refuse_26 rfl ?_
    refine lv_iadd hx hb dX5_refuse_27 ?_
    refine w_topi (y := nI ((154 + 6 * q) + 4)) (nI_add (154 + 6 * q) 4) ?_
    refine w_iald hx hb hK hP 1 rfl ((154 + 6 * q) + 4) rfl (by omega) (Nat.le_of_ble_eq_true rfl) dX5_refuse_28 ?_
    refine lv_iconst (v := 1) hx hb dX5_refuse_29 rfl ?_
    have J_38 : ∀ (z : Int32), (z = bI (¬ pf d q 4 = 1)) → ∀ (ls : Array Slot), lv_has ls 3 [(2, .int (nI (154 + 6 * q))), (0, .ref o), (1, .int (nI q))] → W p l e (Rm 4 86 0 0) s m ([.ref o, .int (nI q)] : List Value).toArray below meth c H locs 0 0 (MQ below (wQ D (some (.int (pick (hasP d (nI q) ∧ pf d (q) 4 = 1) (avail (refD d (q)) (dN d (154 + 6 * q)))))) ((o, .inr (0, [.int (thr2 (¬ hasP d (nI q)) (¬ pf d (q) 4 = 1)), .ref a1, .int bl, .int tl, .int ps, .int er, .int ea, .int eo, .ref a8, .ref a9, .ref a10, .int (nI (ifp (hasP d (nI q) ∧ pf d (q) 4 = 1) (remU u) u)), .int ns, .int ne, .int se, .ref a15])) :: (a8, .inl (k 0, 1798, .inl (ifp (hasP d (nI q) ∧ pf d (q) 4 = 1) (refD d (q)) d))) :: hW k a9 a1 a15 a10 hh dr fb st (ifp (hasP d (nI q) ∧ pf d (q) 4 = 1) (rem u d hs) hs)) A) ([.ref o, .int (nI q)] : List Value).toArray s 0 0 A) (F0 m 38 ls [.int z, .ref o]) := by
      intro z h_z ls hl
      refine w_topi (y := bI (¬ pf d q 4 = 1)) h_z ?_
      refine lv_iconst (v := 2) hx hb dX5_refuse_38 rfl ?_
      refine w_callV (As := [.int (bI (¬ pf d q 4 = 1)), .int 2]) (rest := []) C (m_fails l D k o a1 a8 a9 a10 a15 bl tl ps er ea eo (nI u) ns ne se ((a8, .inl (k 0, 1798, .inl d)) :: hW k a9 a1 a15 a10 hh dr fb st hs) A (va_D_of hD rfl) (¬ pf d q 4 = 1) 2 (by decide)) (cwV 2 hts (lw_V q1727 q1729 qs31 q76 q1730) rfl rfl rfl (by decide +kernel) ⟨Nat.le_of_ble_eq_true rfl, Nat.le_of_ble_eq_true rfl⟩) hK (va_recv hK hP (ci := 0) (q0 := 0) rfl rfl) hP hS (fun _ h => h) rfl hl.1 rfl (Nat.le_of_ble_eq_true rfl) dX5_refuse_39 ⟨Nat.le_of_ble_eq_true rfl, Nat.le_of_ble_eq_true rfl⟩ (fun H locs hP hS _ _ => ?_)
      have hP : va_P D clA ((o, .inr (0, [.int (pick (¬ pf d q 4 = 1) 2), .ref a1, .int bl, .int tl, .int ps, .int er, .int ea, .int eo, .ref a8, .ref a9, .ref a10, .int (nI u), .int ns, .int ne, .int se, .ref a15])) :: (a8, .inl (k 0, 1798, .inl d)) :: hW k a9 a1 a15 a10 hh dr fb st hs) H := hP
      refine lv_if_eq (tgt := 47) hx hb dX5_refuse_42 (by decide) (fun c_42 => ?_) (fun c_42 => ?_)
      · have b_42 := bI_0.mp c_42
        rw [pick_f b_42] at hP
        have hd2 := okD_st hd 3 hq
        refine lv_aload_n hx hb dX5_refuse_47 rfl (lv_at hl 1 rfl) ?_
        refine w_callV (As := []) (rest := []) C (m_remember l D k o a1 a8 a9 a10 a15 0 bl tl ps er ea eo ns ne se hh d dr fb st hs A u hu (va_D_of hD rfl)) (cwV 0 hts (lw_V q1827 q1829 qs48 q76 q1830) rfl rfl rfl (by decide +kernel) ⟨Nat.le_of_ble_eq_true rfl, Nat.le_of_ble_eq_true rfl⟩) hK (va_recv hK hP (ci := 0) (q0 := 0) rfl rfl) hP hS (fun _ h => h) rfl hl.1 rfl (Nat.le_of_ble_eq_true rfl) dX5_refuse_48 ⟨Nat.le_of_ble_eq_true rfl, Nat.le_of_ble_eq_true rfl⟩ (fun H locs hP hS _ _ => ?_)
        have hP : va_P D clA ((o, .inr (0, [.int 0, .ref a1, .int bl, .int tl, .int ps, .int er, .int ea, .int eo, .ref a8, .ref a9, .ref a10, .int (nI (remU u)), .int ns, .int ne, .int se, .ref a15])) :: (a8, .inl (k 0, 1798, .inl d)) :: hW k a9 a1 a15 a10 hh dr fb st (rem u d hs)) H := hP
        refine lv_aload_n hx hb dX5_refuse_51 rfl (lv_at hl 1 rfl) ?_
        refine va_get hx hb hts in_X5 hown hK hP 0 rfl rfl 8 (by decide) (hts _ q1670) (fun _ h => h) rfl dX5_refuse_52 ?_
        refine lv_iload_n hx hb dX5_refuse_55 rfl (lv_at hl 0 rfl) ?_
        refine lv_iconst (v := 4) hx hb dX5_refuse_56 rfl ?_
        refine lv_iadd hx hb dX5_refuse_57 ?_
        refine w_topi (y := nI ((154 + 6 * q) + 4)) (nI_add (154 + 6 * q) 4) ?_
        refine lv_iconst (v := 3) hx hb dX5_refuse_58 rfl ?_
        refine w_iast hx hb hK hP (va_D_of hD rfl) hS 1 rfl ((154 + 6 * q) + 4) rfl (by omega) (Nat.le_of_ble_eq_true rfl) dX5_refuse_59 (fun H locs hP _ hS => ?_)
        have hP : va_P D clA ((o, .inr (0, [.int 0, .ref a1, .int bl, .int tl, .int ps, .int er, .int ea, .int eo, .ref a8, .ref a9, .ref a10, .int (nI (remU u)), .int ns, .int ne, .int se, .ref a15])) :: (a8, .inl (k 0, 1798, .inl (upd d ((154 + 6 * q) + 4) 3))) :: hW k a9 a1 a15 a10 hh dr fb st (rem u d hs)) H := hP
        refine lv_aload_n hx hb dX5_refuse_60 rfl (lv_at hl 1 rfl) ?_
        refine lv_aload_n hx hb dX5_refuse_61 rfl (lv_at hl 1 rfl) ?_
        refine va_get hx hb hts in_X5 hown hK hP 0 rfl rfl 8 (by decide) (hts _ q1670) (fun _ h => h) rfl dX5_refuse_62 ?_
        refine lv_iload_n hx hb dX5_refuse_65 rfl (lv_at hl 0 rfl) ?_
        refine w_iald hx hb hK hP 1 rfl (154 + 6 * q) rfl (by omega) (Nat.le_of_ble_eq_true rfl) dX5_refuse_66 ?_
        refine w_topi (y := nI (dN d (154 + 6 * q))) (by rw [pk_un (by omega)]; exact p1) ?_
        refine r_callV (As := [.int (nI (dN d (154 + 6 * q)))]) (rest := []) C (m_availableOf l D k o a8 ([.int 0, .ref a1, .int bl, .int tl, .int ps, .int er, .int ea, .int eo, .ref a8, .ref a9, .ref a10, .int (nI (remU u)), .int ns, .int ne, .int se, .ref a15] : List Value) (upd d ((154 + 6 * q) + 4) 3) rfl hd2 (dN d (154 + 6 * q)) (by omega)) (cwV 1 hts (lw_V q1932 q1934 qs58 q76 q1935) rfl rfl rfl (by decide +kernel) ⟨Nat.le_of_ble_eq_true rfl, Nat.le_of_ble_eq_true rfl⟩) hK (va_recv hK hP (ci := 0) (q0 := 0) rfl rfl) (hP.sub [0, 1] rfl) rfl hl.1 rfl (Nat.le_of_ble_eq_true rfl) dX5_refuse_67 ⟨Nat.le_of_ble_eq_true rfl, Nat.le_of_ble_eq_true rfl⟩ ?_
        exact w_iret C (pick_t (show _ ∧ _ from ⟨Classical.not_not.mp b_10, Classical.not_not.mp b_42⟩)).symm (by simp only [thr2_c b_10 b_42, ifp_t (show _ ∧ _ from ⟨Classical.not_not.mp b_10, Classical.not_not.mp b_42⟩)]; exact hP) hS dX5_refuse_70
      · have b_42 := bI_nz c_42
        rw [pick_t b_42] at hP
        refine lv_iconst (v := 0) hx hb dX5_refuse_45 rfl ?_
        exact w_iret C (pick_f (fun h => b_42 h.2)).symm (by simp only [thr2_b b_10 b_42, ifp_f (fun h : _ ∧ _ => b_42 h.2)]; exact hP) hS dX5_refuse_46
    refine lv_icmp_eq (tgt := 37) hx hb dX5_refuse_30 (by decide) (fun c_30 => ?_) (fun c_30 => ?_)
    · refine lv_iconst (v := 0) hx hb dX5_refuse_37 rfl ?_
      exact J_38 0 (by first | exact bI_t c_30 | exact bI_f (fun h => h c_30)) ls hl
    · refine lv_iconst (v := 1) hx hb dX5_refuse_33 rfl ?_
      refine lv_goto (tgt := 38) hx hb dX5_refuse_34 (by decide) ?_
      exact J_38 1 (by first | exact bI_t c_30 | exact bI_f (fun h => h c_30)) ls hl
  · have b_10 := bI_nz c_10
    rw [pick_t b_10] at hP
    refine lv_iconst (v := 0) hx hb dX5_refuse_13 rfl ?_
    exact w_iret C (pick_f (fun h => b_10 h.1)).symm (by simp only [thr2_a b_10, ifp_f (fun h : (hasP d x ∧ pf d (ci x) 4 = 1) => b_10 h.1)]; exact hP) hS dX5_refuse_14
set_option maxHeartbeats 8000000 in
theorem m_waive (l : Launch) (D : va_G) (k : Nat → ClassId) (o a1 a8 a9 a10 a15 : Nat) (t bl tl ps er ea eo ns ne se : Int32) (hh : Nat → Nat) (d dr fb : Nat → Int32) (st : Nat → Int64) (hs : Nat → Nat → Int32) (A : Nat → Prop) (u : Nat) (hu : u ≤ 8) (hD : va_D A ((o, .inr (0, [.int t, .ref a1, .int bl, .int tl, .int ps, .int er, .int ea, .int eo, .ref a8, .ref a9, .ref a10, .int (nI u), .int ns, .int ne, .int se, .ref a15])) :: (a8, .inl (k 0, 1798, .inl d)) :: hW k a9 a1 a15 a10 hh dr fb st hs)) (hd : okD d) (x : Int32) : wM l D k yX5_waive cX5_waive 3 (some .int) 3 66 [.ref o, .int x] ((o, .inr (0, [.int t, .ref a1, .int bl, .int tl, .int ps, .int er, .int ea, .int eo, .ref a8, .ref a9, .ref a10, .int (nI u), .int ns, .int ne, .int se, .ref a15])) :: (a8, .inl (k 0, 1798, .inl d)) :: hW k a9 a1 a15 a10 hh dr fb st hs) (some (.int (pick (hasP d x ∧ pf d (ci x) 4 = 1 ∧ pf d (ci x) 3 &&& 4 = 0) (due (honD d (ci x)) (ci x))))) ((o, .inr (0, [.int (thr2 (¬ hasP d x) (¬ (pf d (ci x) 4 = 1 ∧ pf d (ci x) 3 &&& 4 = 0))), .ref a1, .int bl, .int tl, .int ps, .int er, .int ea, .int eo, .ref a8, .ref a9, .ref a10, .int (nI (ifp (hasP d x ∧ pf d (ci x) 4 = 1 ∧ pf d (ci x) 3 &&& 4 = 0) (remU u) u)), .int ns, .int ne, .int se, .ref a15])) :: (a8, .inl (k 0, 1798, .inl (ifp (hasP d x ∧ pf d (ci x) 4 = 1 ∧ pf d (ci x) 3 &&& 4 = 0) (honD d (ci x)) d))) :: hW k a9 a1 a15 a10 hh dr fb st (ifp (hasP d x ∧ pf d (ci x) 4 = 1 ∧ pf d (ci x) 3 &&& 4 = 0) (rem u d hs) hs)) A := by
  refine wM_of (by decide) (Nat.le_of_ble_eq_true rfl) ?_
  intro p e s m below meth c ls C hK hP hS hl
  obtain ⟨hx, hb, hr, hml, hown, hts, hlk⟩ := id C
  have hl : lv_has ls 3 [(0, .ref o), (1, .int x)] := hl
  refine lv_aload_n hx hb dX5_waive_0 rfl (lv_at hl 0 rfl) ?_
  refine lv_iconst (v := 0) hx hb dX5_waive_1 rfl ?_
  refine va_put hx hb hts in_X5 tyX5 tyX5_ok nmX5 hown hK hP (va_D_of hD rfl) hS 0 rfl rfl 0 (by decide) (hts _ q1662) (fun _ h => h) rfl rfl rfl rfl (Nat.le_of_ble_eq_true rfl) dX5_waive_2 (fun H locs hP _ hS => ?_)
  have hP : va_P D clA ((o, .inr (0, [.int 0, .ref a1, .int bl, .int tl, .int ps, .int er, .int ea, .int eo, .ref a8, .ref a9, .ref a10, .int (nI u), .int ns, .int ne, .int se, .ref a15])) :: (a8, .inl (k 0, 1798, .inl d)) :: hW k a9 a1 a15 a10 hh dr fb st hs) H := hP
  refine lv_aload_n hx hb dX5_waive_5 rfl (lv_at hl 0 rfl) ?_
  refine lv_iload_n hx hb dX5_waive_6 rfl (lv_at hl 1 rfl) ?_
  refine w_callV (As := [.int x]) (rest := []) C (m_noPresentation l D k o a1 a8 a9 a10 a15 bl tl ps er ea eo (nI u) ns ne se (hW k a9 a1 a15 a10 hh dr fb st hs) d A (va_D_of hD rfl) hd x) (cwV 1 hts (lw_V q1961 q1963 qs62 q76 q1964) rfl rfl rfl (by decide +kernel) ⟨Nat.le_of_ble_eq_true rfl, Nat.le_of_ble_eq_true rfl⟩) hK (va_recv hK hP (ci := 0) (q0 := 0) rfl rfl) hP hS (fun _ h => h) rfl hl.1 rfl (Nat.le_of_ble_eq_true rfl) dX5_waive_7 ⟨Nat.le_of_ble_eq_true rfl, Nat.le_of_ble_eq_true rfl⟩ (fun H locs hP hS _ _ => ?_)
  have hP : va_P D clA ((o, .inr (0, [.int (pick (¬ hasP d x) 1), .ref a1, .int bl, .int tl, .int ps, .int er, .int ea, .int eo, .ref a8, .ref a9, .ref a10, .int (nI u), .int ns, .int ne, .int se, .ref a15])) :: (a8, .inl (k 0, 1798, .inl d)) :: hW k a9 a1 a15 a10 hh dr fb st hs) H := hP
  refine lv_if_eq (tgt := 15) hx hb dX5_waive_10 (by decide) (fun c_10 => ?_) (fun c_10 => ?_)
  · have b_10 := bI_0.mp c_10
    rw [pick_f b_10] at hP
    have hlk := hl
    have hPk := hP
    have hSk := hS
    obtain ⟨q, hq, rfl⟩ := hasP_n hd (Classical.not_not.mp b_10)
    have hl := hlk
    have hP := hPk
    have hS := hSk
    obtain ⟨⟨⟨_, n0⟩, ⟨_, n1⟩, -⟩, -⟩ := id hd
    obtain ⟨p1, p2, -⟩ := hd.2.2.2 q hq
    rw [ci_n (show q < 2 ^ 31 by omega)]
    refine lv_iload_n hx hb dX5_waive_15 rfl (lv_at hl 1 rfl) ?_
    refine r_callS (As := [.int (nI q)]) (rest := []) C (m_presentationN l D k q) (va_cwS 1 hts (lw_S q1917 q1918 q76 q1919) rfl rfl rfl (by decide +kernel) ⟨Nat.le_of_ble_eq_true rfl, Nat.le_of_ble_eq_true rfl⟩) hK trivial rfl hl.1 rfl (Nat.le_of_ble_eq_true rfl) dX5_waive_16 ⟨Nat.le_of_ble_eq_true rfl, Nat.le_of_ble_eq_true rfl⟩ ?_
    refine lv_istore_n (lv' := [(2, .int (nI (154 + 6 * q))), (0, .ref o), (1, .int (nI q))]) hx hb dX5_waive_19 rfl hl (by decide) rfl (fun ls hl => ?_)
    refine lv_aload_n hx hb dX5_waive_20 rfl (lv_at hl 1 rfl) ?_
    refine lv_aload_n hx hb dX5_waive_21 rfl (lv_at hl 1 rfl) ?_
    refine va_get hx hb hts in_X5 hown hK hP 0 rfl rfl 8 (by decide) (hts _ q1670) (fun _ h => h) rfl dX5_waive_22 ?_
    refine lv_iload_n hx hb dX5_waive_25 rfl (lv_at hl 0 rfl) ?_
    refine lv_iconst (v := 4) hx hb dX5_waive_26 rfl ?_
    refine lv_iadd hx hb dX5_waive_27 ?_
    refine w_topi (y := nI ((154 + 6 * q) + 4)) (nI_add (154 + 6 * q) 4) ?_
    refine w_iald hx hb hK hP 1 rfl ((154 + 6 * q) + 4) rfl (by omega) (Nat.le_of_ble_eq_true rfl) dX5_waive_28 ?_
    refine lv_iconst (v := 1) hx hb dX5_waive_29 rfl ?_
    have J_51 : ∀ (z : Int32), (z = bI (¬ (pf d q 4 = 1 ∧ pf d q 3 &&& 4 = 0))) → ∀ (ls : Array Slot), lv_has ls 3 [(2, .int (nI (154 + 6 * q))), (0, .ref o), (1, .int (nI q))] → W p l e (Rm 3 66 0 0) s m ([.ref o, .int (nI q)] : List Value).toArray below meth c H locs 0 0 (MQ below (wQ D (some (.int (pick (hasP d (nI q) ∧ pf d (q) 4 = 1 ∧ pf d (q) 3 &&& 4 = 0) (due (honD d (q)) (q))))) ((o, .inr (0, [.int (thr2 (¬ hasP d (nI q)) (¬ (pf d (q) 4 = 1 ∧ pf d (q) 3 &&& 4 = 0))), .ref a1, .int bl, .int tl, .int ps, .int er, .int ea, .int eo, .ref a8, .ref a9, .ref a10, .int (nI (ifp (hasP d (nI q) ∧ pf d (q) 4 = 1 ∧ pf d (q) 3 &&& 4 = 0) (remU u) u)), .int ns, .int ne, .int se, .ref a15])) :: (a8, .inl (k 0, 1798, .inl (ifp (hasP d (nI q) ∧ pf d (q) 4 = 1 ∧ pf d (q) 3 &&& 4 = 0) (honD d (q)) d))) :: hW k a9 a1 a15 a10 hh dr fb st (ifp (hasP d (nI q) ∧ pf d (q) 4 = 1 ∧ pf d (q) 3 &&& 4 = 0) (rem u d hs) hs)) A) ([.ref o, .int (nI q)] : List Value).toArray s 0 0 A) (F0 m 51 ls [.int z, .ref o]) := by
      intro z h_z ls hl
      refine w_topi (y := bI (¬ (pf d q 4 = 1 ∧ pf d q 3 &&& 4 = 0))) h_z ?_
      refine lv_iconst (v := 2) hx hb dX5_waive_51 rfl ?_
      refine w_callV (As := [.int (bI (¬ (pf d q 4 = 1 ∧ pf d q 3 &&& 4 = 0))), .int 2]) (rest := []) C (m_fails l D k o a1 a8 a9 a10 a15 bl tl ps er ea eo (nI u) ns ne se ((a8, .inl (k 0, 1798, .inl d)) :: hW k a9 a1 a15 a10 hh dr fb st hs) A (va_D_of hD rfl) (¬ (pf d q 4 = 1 ∧ pf d q 3 &&& 4 = 0)) 2 (by decide)) (cwV 2 hts (lw_V q1727 q1729 qs31 q76 q1730) rfl rfl rfl (by decide +kernel) ⟨Nat.le_of_ble_eq_true rfl, Nat.le_of_ble_eq_true rfl⟩) hK (va_recv hK hP (ci := 0) (q0 := 0) rfl rfl) hP hS (fun _ h => h) rfl hl.1 rfl (Nat.le_of_ble_eq_true rfl) dX5_waive_52 ⟨Nat.le_of_ble_eq_true rfl, Nat.le_of_ble_eq_true rfl⟩ (fun H locs hP hS _ _ => ?_)
      have hP : va_P D clA ((o, .inr (0, [.int (pick (¬ (pf d q 4 = 1 ∧ pf d q 3 &&& 4 = 0)) 2), .ref a1, .int bl, .int tl, .int ps, .int er, .int ea, .int eo, .ref a8, .ref a9, .ref a10, .int (nI u), .int ns, .int ne, .int se, .ref a15])) :: (a8, .inl (k 0, 1798, .inl d)) :: hW k a9 a1 a15 a10 hh dr fb st hs) H := hP
      refine lv_if_eq (tgt := 60) hx hb dX5_waive_55 (by decide) (fun c_55 => ?_) (fun c_55 => ?_)
      · have b_55 := bI_0.mp c_55
        rw [pick_f b_55] at hP
        have hd2 := okD_hon hd hq
        have hq2 : q < dN (honD d q) 1 := by unfold honD; rw [dN_un (by omega), dN_un (by omega)]; exact hq
        refine lv_aload_n hx hb dX5_waive_60 rfl (lv_at hl 1 rfl) ?_
        refine w_callV (As := []) (rest := []) C (m_remember l D k o a1 a8 a9 a10 a15 0 bl tl ps er ea eo ns ne se hh d dr fb st hs A u hu (va_D_of hD rfl)) (cwV 0 hts (lw_V q1827 q1829 qs48 q76 q1830) rfl rfl rfl (by decide +kernel) ⟨Nat.le_of_ble_eq_true rfl, Nat.le_of_ble_eq_true rfl⟩) hK (va_recv hK hP (ci := 0) (q0 := 0) rfl rfl) hP hS (fun _ h => h) rfl hl.1 rfl (Nat.le_of_ble_eq_true rfl) dX5_waive_61 ⟨Nat.le_of_ble_eq_true rfl, Nat.le_of_ble_eq_true rfl⟩ (fun H locs hP hS _ _ => ?_)
        have hP : va_P D clA ((o, .inr (0, [.int 0, .ref a1, .int bl, .int tl, .int ps, .int er, .int ea, .int eo, .ref a8, .ref a9, .ref a10, .int (nI (remU u)), .int ns, .int ne, .int se, .ref a15])) :: (a8, .inl (k 0, 1798, .inl d)) :: hW k a9 a1 a15 a10 hh dr fb st (rem u d hs)) H := hP
        refine lv_aload_n hx hb dX5_waive_64 rfl (lv_at hl 1 rfl) ?_
        refine lv_iload_n hx hb dX5_waive_65 rfl (lv_at hl 2 rfl) ?_
        refine w_callV (As := [.int (nI q)]) (rest := []) C (m_honour l D k o a1 a8 a9 a10 a15 0 bl tl ps er ea eo (nI (remU u)) ns ne se (hW k a9 a1 a15 a10 hh dr fb st (rem u d hs)) d A (va_D_of hD rfl) hd q (by omega)) (cwV 1 hts (lw_V q2022 q2024 qs66 q76 q2025) rfl rfl rfl (by decide +kernel) ⟨Nat.le_of_ble_eq_true rfl, Nat.le_of_ble_eq_true rfl⟩) hK (va_recv hK hP (ci := 0) (q0 := 0) rfl rfl) hP hS (fun _ h => h) rfl hl.1 rfl (Nat.le_of_ble_eq_true rfl) dX5_waive_66 ⟨Nat.le_of_ble_eq_true rfl, Nat.le_of_ble_eq_true rfl⟩ (fun H locs hP hS _ _ => ?_)
        have hP : va_P D clA ((o, .inr (0, [.int 0, .ref a1, .int bl, .int tl, .int ps, .int er, .int ea, .int eo, .ref a8, .ref a9, .ref a10, .int (nI (remU u)), .int ns, .int ne, .int se, .ref a15])) :: (a8, .inl (k 0, 1798, .inl (honD d q))) :: hW k a9 a1 a15 a10 hh dr fb st (rem u d hs)) H := hP
        refine lv_aload_n hx hb dX5_waive_69 rfl (lv_at hl 1 rfl) ?_
        refine lv_iload_n hx hb dX5_waive_70 rfl (lv_at hl 2 rfl) ?_
        refine r_callV (As := [.int (nI q)]) (rest := []) C (m_dueOf l D k o a8 ([.int 0, .ref a1, .int bl, .int tl, .int ps, .int er, .int ea, .int eo, .ref a8, .ref a9, .ref a10, .int (nI (remU u)), .int ns, .int ne, .int se, .ref a15] : List Value) (honD d q) rfl hd2 q (by omega)) (cwV 1 hts (lw_V q1985 q1987 qs64 q76 q1988) rfl rfl rfl (by decide +kernel) ⟨Nat.le_of_ble_eq_true rfl, Nat.le_of_ble_eq_true rfl⟩) hK (va_recv hK hP (ci := 0) (q0 := 0) rfl rfl) (hP.sub [0, 1] rfl) rfl hl.1 rfl (Nat.le_of_ble_eq_true rfl) dX5_waive_71 ⟨Nat.le_of_ble_eq_true rfl, Nat.le_of_ble_eq_true rfl⟩ ?_
        exact w_iret C (pick_t (show _ ∧ _ from ⟨Classical.not_not.mp b_10, Classical.not_not.mp b_55⟩)).symm (by simp only [thr2_c b_10 b_55, ifp_t (show _ ∧ _ from ⟨Classical.not_not.mp b_10, Classical.not_not.mp b_55⟩)]; exact hP) hS dX5_waive_74
      · have b_55 := bI_nz c_55
        rw [pick_t b_55] at hP
        refine lv_iconst (v := 0) hx hb dX5_waive_58 rfl ?_
        exact w_iret C (pick_f (fun h => b_55 h.2)).symm (by simp only [thr2_b b_10 b_55, ifp_f (fun h : (hasP d (nI q) ∧ pf d q 4 = 1 ∧ pf d q 3 &&& 4 = 0) => b_55 h.2)]; exact hP) hS dX5_waive_59
    refine lv_icmp_ne (tgt := 46) hx hb dX5_waive_30 (by decide) (fun c_30 => ?_) (fun c_30 => ?_)
    · refine lv_iconst (v := 1) hx hb dX5_waive_46 rfl ?_
      refine lv_goto (tgt := 51) hx hb dX5_waive_47 (by decide) ?_
      exact J_51 1 (by first | exact bI_t (fun h => c_30 h.1) | exact bI_t (fun h => c_43 h.2) | exact bI_f (fun h => h ⟨c_30, c_43⟩)) ls hl
    · refine lv_aload_n hx hb dX5_waive_33 rfl (lv_at hl 1 rfl) ?_
      refine va_get hx hb hts in_X5 hown hK hP 0 rfl rfl 8 (by decide) (hts _ q1670) (fun _ h => h) rfl dX5_waive_34 ?_
      refine lv_iload_n hx hb dX5_waive_37 rfl (lv_at hl 0 rfl) ?_
      refine lv_iconst (v := 3) hx hb dX5_waive_38 rfl ?_
      refine lv_iadd hx hb dX5_waive_39 ?_
      refine w_topi (y := nI ((154 + 6 * q) + 3)) (nI_add (154 + 6 * q) 3) ?_
      refine w_iald hx hb hK hP 1 rfl ((154 + 6 * q) + 3) rfl (by omega) (Nat.le_of_ble_eq_true rfl) dX5_waive_40 ?_
      refine lv_iconst (v := 4) hx hb dX5_waive_41 rfl ?_
      refine lv_iand hx hb dX5_waive_42 ?_
      refine lv_if_eq (tgt := 50) hx hb dX5_waive_43 (by decide) (fun c_43 => ?_) (fun c_43 => ?_)
      · refine lv_iconst (v := 0) hx hb dX5_waive_50 rfl ?_
        exact J_51 0 (by first | exact bI_t (fun h => c_30 h.1) | exact bI_t (fun h => c_43 h.2) | exact bI_f (fun h => h ⟨c_30, c_43⟩)) ls hl
      · refine lv_iconst (v := 1) hx hb dX5_waive_46 rfl ?_
        refine lv_goto (tgt := 51) hx hb dX5_waive_47 (by decide) ?_
        exact J_51 1 (by first | exact bI_t (fun h => c_30 h.1) | exact bI_t (fun h => c_43 h.2) | exact bI_f (fun h => h ⟨c_30, c_43⟩)) ls hl
  · have b_10 := bI_nz c_10
    rw [pick_t b_10] at hP
    refine lv_iconst (v := 0) hx hb dX5_waive_13 rfl ?_
    exact w_iret C (pick_f (fun h => b_10 h.1)).symm (by simp only [thr2_a b_10, ifp_f (fun h : (hasP d x ∧ pf d (ci x) 4 = 1 ∧ pf d (ci x) 3 &&& 4 = 0) => b_10 h.1)]; exact hP) hS dX5_waive_14
set_option maxHeartbeats 8000000 in
theorem m_examine (l : Launch) (D : va_G) (k : Nat → ClassId) (o a1 a8 a9 a10 a15 : Nat) (t bl tl ps er ea eo ns ne se : Int32) (hh : Nat → Nat) (d dr fb : Nat → Int32) (st : Nat → Int64) (hs : Nat → Nat → Int32) (A : Nat → Prop) (u : Nat) (hu : u ≤ 8) (hD : va_D A ((o, .inr (0, [.int t, .ref a1, .int bl, .int tl, .int ps, .int er, .int ea, .int eo, .ref a8, .ref a9, .ref a10, .int (nI u), .int ns, .int ne, .int se, .ref a15])) :: (a8, .inl (k 0, 1798, .inl d)) :: hW k a9 a1 a15 a10 hh dr fb st hs)) (hd : okD d) (x : Int32) : wM l D k yX5_examine cX5_examine 4 (some .int) 4 89 [.ref o, .int x] ((o, .inr (0, [.int t, .ref a1, .int bl, .int tl, .int ps, .int er, .int ea, .int eo, .ref a8, .ref a9, .ref a10, .int (nI u), .int ns, .int ne, .int se, .ref a15])) :: (a8, .inl (k 0, 1798, .inl d)) :: hW k a9 a1 a15 a10 hh dr fb st hs) (some (.int (pick (hasP d x ∧ pf d (ci x) 4 = 0) (ifp (honP d (ci x)) 2 1)))) ((o, .inr (0, [.int (thr2 (¬ hasP d x) (¬ pf d (ci x) 4 = 0)), .ref a1, .int bl, .int tl, .int ps, .int er, .int ea, .int eo, .ref a8, .ref a9, .ref a10, .int (nI (ifp (hasP d x ∧ pf d (ci x) 4 = 0) (remU u) u)), .int ns, .int ne, .int se, .ref a15])) :: (a8, .inl (k 0, 1798, .inl (ifp (hasP d x ∧ pf d (ci x) 4 = 0) (exaD d (ci x)) d))) :: hW k a9 a1 a15 a10 hh dr fb st (ifp (hasP d x ∧ pf d (ci x) 4 = 0) (rem u d hs) hs)) A := by
  refine wM_of (by decide) (Nat.le_of_ble_eq_true rfl) ?_
  intro p e s m below meth c ls C hK hP hS hl
  obtain ⟨hx, hb, hr, hml, hown, hts, hlk⟩ := id C
  have hl : lv_has ls 4 [(0, .ref o), (1, .int x)] := hl
  refine lv_aload_n hx hb dX5_examine_0 rfl (lv_at hl 0 rfl) ?_
  refine lv_iconst (v := 0) hx hb dX5_examine_1 rfl ?_
  refine va_put hx hb hts in_X5 tyX5 tyX5_ok nmX5 hown hK hP (va_D_of hD rfl) hS 0 rfl rfl 0 (by decide) (hts _ q1662) (fun _ h => h) rfl rfl rfl rfl (Nat.le_of_ble_eq_true rfl) dX5_examine_2 (fun H locs hP _ hS => ?_)
  have hP : va_P D clA ((o, .inr (0, [.int 0, .ref a1, .int bl, .int tl, .int ps, .int er, .int ea, .int eo, .ref a8, .ref a9, .ref a10, .int (nI u), .int ns, .int ne, .int se, .ref a15])) :: (a8, .inl (k 0, 1798, .inl d)) :: hW k a9 a1 a15 a10 hh dr fb st hs) H := hP
  refine lv_aload_n hx hb dX5_examine_5 rfl (lv_at hl 0 rfl) ?_
  refine lv_iload_n hx hb dX5_examine_6 rfl (lv_at hl 1 rfl) ?_
  refine w_callV (As := [.int x]) (rest := []) C (m_noPresentation l D k o a1 a8 a9 a10 a15 bl tl ps er ea eo (nI u) ns ne se (hW k a9 a1 a15 a10 hh dr fb st hs) d A (va_D_of hD rfl) hd x) (cwV 1 hts (lw_V q1961 q1963 qs62 q76 q1964) rfl rfl rfl (by decide +kernel) ⟨Nat.le_of_ble_eq_true rfl, Nat.le_of_ble_eq_true rfl⟩) hK (va_recv hK hP (ci := 0) (q0 := 0) rfl rfl) hP hS (fun _ h => h) rfl hl.1 rfl (Nat.le_of_ble_eq_true rfl) dX5_examine_7 ⟨Nat.le_of_ble_eq_true rfl, Nat.le_of_ble_eq_true rfl⟩ (fun H locs hP hS _ _ => ?_)
  have hP : va_P D clA ((o, .inr (0, [.int (pick (¬ hasP d x) 1), .ref a1, .int bl, .int tl, .int ps, .int er, .int ea, .int eo, .ref a8, .ref a9, .ref a10, .int (nI u), .int ns, .int ne, .int se, .ref a15])) :: (a8, .inl (k 0, 1798, .inl d)) :: hW k a9 a1 a15 a10 hh dr fb st hs) H := hP
  refine lv_if_eq (tgt := 15) hx hb dX5_examine_10 (by decide) (fun c_10 => ?_) (fun c_10 => ?_)
  · have b_10 := bI_0.mp c_10
    rw [pick_f b_10] at hP
    have hlk := hl
    have hPk := hP
    have hSk := hS
    obtain ⟨q, hq, rfl⟩ := hasP_n hd (Classical.not_not.mp b_10)
    have hl := hlk
    have hP := hPk
    have hS := hSk
    obtain ⟨⟨⟨_, n0⟩, ⟨_, n1⟩, -⟩, -⟩ := id hd
    obtain ⟨p1, p2, -⟩ := hd.2.2.2 q hq
    rw [ci_n (show q < 2 ^ 31 by omega)]
    refine lv_iload_n hx hb dX5_examine_15 rfl (lv_at hl 1 rfl) ?_
    refine r_callS (As := [.int (nI q)]) (rest := []) C (m_presentationN l D k q) (va_cwS 1 hts (lw_S q1917 q1918 q76 q1919) rfl rfl rfl (by decide +kernel) ⟨Nat.le_of_ble_eq_true rfl, Nat.le_of_ble_eq_true rfl⟩) hK trivial rfl hl.1 rfl (Nat.le_of_ble_eq_true rfl) dX5_examine_16 ⟨Nat.le_of_ble_eq_true rfl, Nat.le_of_ble_eq_true rfl⟩ ?_
    refine lv_istore_n (lv' := [(2, .int (nI (154 + 6 * q))), (0, .ref o), (1, .int (nI q))]) hx hb dX5_examine_19 rfl hl (by decide) rfl (fun ls hl => ?_)
    refine lv_aload_n hx hb dX5_examine_20 rfl (lv_at hl 1 rfl) ?_
    refine va_get hx hb hts in_X5 hown hK hP 0 rfl rfl 8 (by decide) (hts _ q1670) (fun _ h => h) rfl dX5_examine_21 ?_
    refine lv_iload_n hx hb dX5_examine_24 rfl (lv_at hl 0 rfl) ?_
    refine lv_iconst (v := 3) hx hb dX5_examine_25 rfl ?_
    refine lv_iadd hx hb dX5_examine_26 ?_
    refine w_topi (y := nI ((154 + 6 * q) + 3)) (nI_add (154 + 6 * q) 3) ?_
    refine w_iald hx hb hK hP 1 rfl ((154 + 6 * q) + 3) rfl (by omega) (Nat.le_of_ble_eq_true rfl) dX5_examine_27 ?_
    refine lv_istore_n (lv' := [(3, .int (d ((154 + 6 * q) + 3))), (2, .int (nI (154 + 6 * q))), (0, .ref o), (1, .int (nI q))]) hx hb dX5_examine_28 rfl hl (by decide) rfl (fun ls hl => ?_)
    refine lv_aload_n hx hb dX5_examine_29 rfl (lv_at hl 2 rfl) ?_
    refine lv_aload_n hx hb dX5_examine_30 rfl (lv_at hl 2 rfl) ?_
    refine va_get hx hb hts in_X5 hown hK hP 0 rfl rfl 8 (by decide) (hts _ q1670) (fun _ h => h) rfl dX5_examine_31 ?_
    refine lv_iload_n hx hb dX5_examine_34 rfl (lv_at hl 1 rfl) ?_
    refine lv_iconst (v := 4) hx hb dX5_examine_35 rfl ?_
    refine lv_iadd hx hb dX5_examine_36 ?_
    refine w_topi (y := nI ((154 + 6 * q) + 4)) (nI_add (154 + 6 * q) 4) ?_
    refine w_iald hx hb hK hP 1 rfl ((154 + 6 * q) + 4) rfl (by omega) (Nat.le_of_ble_eq_true rfl) dX5_examine_37 ?_
    have J_46 : ∀ (z : Int32), (z = bI (¬ pf d q 4 = 0)) → ∀ (ls : Array Slot), lv_has ls 4 [(3, .int (d ((154 + 6 * q) + 3))), (2, .int (nI (154 + 6 * q))), (0, .ref o), (1, .int (nI q))] → W p l e (Rm 4 89 0 0) s m ([.ref o, .int (nI q)] : List Value).toArray below meth c H locs 0 0 (MQ below (wQ D (some (.int (pick (hasP d (nI q) ∧ pf d (q) 4 = 0) (ifp (honP d (q)) 2 1)))) ((o, .inr (0, [.int (thr2 (¬ hasP d (nI q)) (¬ pf d (q) 4 = 0)), .ref a1, .int bl, .int tl, .int ps, .int er, .int ea, .int eo, .ref a8, .ref a9, .ref a10, .int (nI (ifp (hasP d (nI q) ∧ pf d (q) 4 = 0) (remU u) u)), .int ns, .int ne, .int se, .ref a15])) :: (a8, .inl (k 0, 1798, .inl (ifp (hasP d (nI q) ∧ pf d (q) 4 = 0) (exaD d (q)) d))) :: hW k a9 a1 a15 a10 hh dr fb st (ifp (hasP d (nI q) ∧ pf d (q) 4 = 0) (rem u d hs) hs)) A) ([.ref o, .int (nI q)] : List Value).toArray s 0 0 A) (F0 m 46 ls [.int z, .ref o]) := by
      intro z h_z ls hl
      refine w_topi (y := bI (¬ pf d q 4 = 0)) h_z ?_
      refine lv_iconst (v := 2) hx hb dX5_examine_46 rfl ?_
      refine w_callV (As := [.int (bI (¬ pf d q 4 = 0)), .int 2]) (rest := []) C (m_fails l D k o a1 a8 a9 a10 a15 bl tl ps er ea eo (nI u) ns ne se ((a8, .inl (k 0, 1798, .inl d)) :: hW k a9 a1 a15 a10 hh dr fb st hs) A (va_D_of hD rfl) (¬ pf d q 4 = 0) 2 (by decide)) (cwV 2 hts (lw_V q1727 q1729 qs31 q76 q1730) rfl rfl rfl (by decide +kernel) ⟨Nat.le_of_ble_eq_true rfl, Nat.le_of_ble_eq_true rfl⟩) hK (va_recv hK hP (ci := 0) (q0 := 0) rfl rfl) hP hS (fun _ h => h) rfl hl.1 rfl (Nat.le_of_ble_eq_true rfl) dX5_examine_47 ⟨Nat.le_of_ble_eq_true rfl, Nat.le_of_ble_eq_true rfl⟩ (fun H locs hP hS _ _ => ?_)
      have hP : va_P D clA ((o, .inr (0, [.int (pick (¬ pf d q 4 = 0) 2), .ref a1, .int bl, .int tl, .int ps, .int er, .int ea, .int eo, .ref a8, .ref a9, .ref a10, .int (nI u), .int ns, .int ne, .int se, .ref a15])) :: (a8, .inl (k 0, 1798, .inl d)) :: hW k a9 a1 a15 a10 hh dr fb st hs) H := hP
      refine lv_if_eq (tgt := 55) hx hb dX5_examine_50 (by decide) (fun c_50 => ?_) (fun c_50 => ?_)
      · have b_50 := bI_0.mp c_50
        rw [pick_f b_50] at hP
        refine lv_aload_n hx hb dX5_examine_55 rfl (lv_at hl 2 rfl) ?_
        refine w_callV (As := []) (rest := []) C (m_remember l D k o a1 a8 a9 a10 a15 0 bl tl ps er ea eo ns ne se hh d dr fb st hs A u hu (va_D_of hD rfl)) (cwV 0 hts (lw_V q1827 q1829 qs48 q76 q1830) rfl rfl rfl (by decide +kernel) ⟨Nat.le_of_ble_eq_true rfl, Nat.le_of_ble_eq_true rfl⟩) hK (va_recv hK hP (ci := 0) (q0 := 0) rfl rfl) hP hS (fun _ h => h) rfl hl.1 rfl (Nat.le_of_ble_eq_true rfl) dX5_examine_56 ⟨Nat.le_of_ble_eq_true rfl, Nat.le_of_ble_eq_true rfl⟩ (fun H locs hP hS _ _ => ?_)
        have hP : va_P D clA ((o, .inr (0, [.int 0, .ref a1, .int bl, .int tl, .int ps, .int er, .int ea, .int eo, .ref a8, .ref a9, .ref a10, .int (nI (remU u)), .int ns, .int ne, .int se, .ref a15])) :: (a8, .inl (k 0, 1798, .inl d)) :: hW k a9 a1 a15 a10 hh dr fb st (rem u d hs)) H := hP
        refine lv_iload_n hx hb dX5_examine_59 rfl (lv_at hl 0 rfl) ?_
        refine lv_if_eq (tgt := 83) hx hb dX5_examine_60 (by decide) (fun c_60 => ?_) (fun c_60 => ?_)
        · have hh1 : honP d q := Or.inl c_60
          refine lv_aload_n hx hb dX5_examine_83 rfl (lv_at hl 2 rfl) ?_
          refine lv_iload_n hx hb dX5_examine_84 rfl (lv_at hl 3 rfl) ?_
          refine w_callV (As := [.int (nI q)]) (rest := []) C (m_honour l D k o a1 a8 a9 a10 a15 0 bl tl ps er ea eo (nI (remU u)) ns ne se (hW k a9 a1 a15 a10 hh dr fb st (rem u d hs)) d A (va_D_of hD rfl) hd q (by omega)) (cwV 1 hts (lw_V q2022 q2024 qs66 q76 q2025) rfl rfl rfl (by decide +kernel) ⟨Nat.le_of_ble_eq_true rfl, Nat.le_of_ble_eq_true rfl⟩) hK (va_recv hK hP (ci := 0) (q0 := 0) rfl rfl) hP hS (fun _ h => h) rfl hl.1 rfl (Nat.le_of_ble_eq_true rfl) dX5_examine_85 ⟨Nat.le_of_ble_eq_true rfl, Nat.le_of_ble_eq_true rfl⟩ (fun H locs hP hS _ _ => ?_)
          have hP : va_P D clA ((o, .inr (0, [.int 0, .ref a1, .int bl, .int tl, .int ps, .int er, .int ea, .int eo, .ref a8, .ref a9, .ref a10, .int (nI (remU u)), .int ns, .int ne, .int se, .ref a15])) :: (a8, .inl (k 0, 1798, .inl (honD d q))) :: hW k a9 a1 a15 a10 hh dr fb st (rem u d hs)) H := hP
          refine lv_goto (tgt := 100) hx hb dX5_examine_88 (by decide) ?_
          refine lv_aload_n hx hb dX5_examine_100 rfl (lv_at hl 2 rfl) ?_
          refine va_get hx hb hts in_X5 hown hK hP 0 rfl rfl 8 (by decide) (hts _ q1670) (fun _ h => h) rfl dX5_examine_101 ?_
          refine lv_iload_n hx hb dX5_examine_104 rfl (lv_at hl 1 rfl) ?_
          refine lv_iconst (v := 4) hx hb dX5_examine_105 rfl ?_
          refine lv_iadd hx hb dX5_examine_106 ?_
          refine w_topi (y := nI ((154 + 6 * q) + 4)) (nI_add (154 + 6 * q) 4) ?_
          refine w_iald hx hb hK hP 1 rfl ((154 + 6 * q) + 4) rfl (by omega) (Nat.le_of_ble_eq_true rfl) dX5_examine_107 ?_
          refine w_topi (y := 2) (by unfold honD; rw [pk_un (by omega), pk_us]) ?_
          exact w_iret C (by rw [pick_t (show (hasP d (nI q) ∧ pf d q 4 = 0) from ⟨Classical.not_not.mp b_10, Classical.not_not.mp b_50⟩), ifp_t hh1]) (by simp only [thr2_c b_10 b_50, ifp_t (show (hasP d (nI q) ∧ pf d q 4 = 0) from ⟨Classical.not_not.mp b_10, Classical.not_not.mp b_50⟩), exaD, ifp_t hh1]; exact hP) hS dX5_examine_108
        · refine lv_iload_n hx hb dX5_examine_63 rfl (lv_at hl 0 rfl) ?_
          refine lv_iconst (v := 4) hx hb dX5_examine_64 rfl ?_
          refine lv_iand hx hb dX5_examine_65 ?_
          refine lv_if_ne (tgt := 91) hx hb dX5_examine_66 (by decide) (fun c_66 => ?_) (fun c_66 => ?_)
          · have hh1 : ¬ honP d q := fun h => h.elim c_60 (fun h => c_66 h.1)
            refine lv_aload_n hx hb dX5_examine_91 rfl (lv_at hl 2 rfl) ?_
            refine va_get hx hb hts in_X5 hown hK hP 0 rfl rfl 8 (by decide) (hts _ q1670) (fun _ h => h) rfl dX5_examine_92 ?_
            refine lv_iload_n hx hb dX5_examine_95 rfl (lv_at hl 1 rfl) ?_
            refine lv_iconst (v := 4) hx hb dX5_examine_96 rfl ?_
            refine lv_iadd hx hb dX5_examine_97 ?_
            refine w_topi (y := nI ((154 + 6 * q) + 4)) (nI_add (154 + 6 * q) 4) ?_
            refine lv_iconst (v := 1) hx hb dX5_examine_98 rfl ?_
            refine w_iast hx hb hK hP (va_D_of hD rfl) hS 1 rfl ((154 + 6 * q) + 4) rfl (by omega) (Nat.le_of_ble_eq_true rfl) dX5_examine_99 (fun H locs hP _ hS => ?_)
            have hP : va_P D clA ((o, .inr (0, [.int 0, .ref a1, .int bl, .int tl, .int ps, .int er, .int ea, .int eo, .ref a8, .ref a9, .ref a10, .int (nI (remU u)), .int ns, .int ne, .int se, .ref a15])) :: (a8, .inl (k 0, 1798, .inl (upd d ((154 + 6 * q) + 4) 1))) :: hW k a9 a1 a15 a10 hh dr fb st (rem u d hs)) H := hP
            refine lv_aload_n hx hb dX5_examine_100 rfl (lv_at hl 2 rfl) ?_
            refine va_get hx hb hts in_X5 hown hK hP 0 rfl rfl 8 (by decide) (hts _ q1670) (fun _ h => h) rfl dX5_examine_101 ?_
            refine lv_iload_n hx hb dX5_examine_104 rfl (lv_at hl 1 rfl) ?_
            refine lv_iconst (v := 4) hx hb dX5_examine_105 rfl ?_
            refine lv_iadd hx hb dX5_examine_106 ?_
            refine w_topi (y := nI ((154 + 6 * q) + 4)) (nI_add (154 + 6 * q) 4) ?_
            refine w_iald hx hb hK hP 1 rfl ((154 + 6 * q) + 4) rfl (by omega) (Nat.le_of_ble_eq_true rfl) dX5_examine_107 ?_
            refine w_topi (y := 1) pk_us ?_
            exact w_iret C (by rw [pick_t (show (hasP d (nI q) ∧ pf d q 4 = 0) from ⟨Classical.not_not.mp b_10, Classical.not_not.mp b_50⟩), ifp_f hh1]) (by simp only [thr2_c b_10 b_50, ifp_t (show (hasP d (nI q) ∧ pf d q 4 = 0) from ⟨Classical.not_not.mp b_10, Classical.not_not.mp b_50⟩), exaD, ifp_f hh1]; exact hP) hS dX5_examine_108
          · refine lv_aload_n hx hb dX5_examine_69 rfl (lv_at hl 2 rfl) ?_
            refine va_get hx hb hts in_X5 hown hK hP 0 rfl rfl 8 (by decide) (hts _ q1670) (fun _ h => h) rfl dX5_examine_70 ?_
            refine lv_iconst (v := 3) hx hb dX5_examine_73 rfl ?_
            refine w_iald hx hb hK hP 1 rfl 3 rfl (Nat.le_of_ble_eq_true rfl) (Nat.le_of_ble_eq_true rfl) dX5_examine_74 ?_
            refine lv_aload_n hx hb dX5_examine_75 rfl (lv_at hl 2 rfl) ?_
            refine lv_iload_n hx hb dX5_examine_76 rfl (lv_at hl 3 rfl) ?_
            refine r_callV (As := [.int (nI q)]) (rest := [.int (d 3)]) C (m_deadlineOf l D k o a8 ([.int 0, .ref a1, .int bl, .int tl, .int ps, .int er, .int ea, .int eo, .ref a8, .ref a9, .ref a10, .int (nI (remU u)), .int ns, .int ne, .int se, .ref a15] : List Value) d rfl hd q (by omega)) (cwV 1 hts (lw_V q1977 q1979 qs63 q76 q1980) rfl rfl rfl (by decide +kernel) ⟨Nat.le_of_ble_eq_true rfl, Nat.le_of_ble_eq_true rfl⟩) hK (va_recv hK hP (ci := 0) (q0 := 0) rfl rfl) (hP.sub [0, 1] rfl) rfl hl.1 rfl (Nat.le_of_ble_eq_true rfl) dX5_examine_77 ⟨Nat.le_of_ble_eq_true rfl, Nat.le_of_ble_eq_true rfl⟩ ?_
            refine lv_icmp_le (tgt := 91) hx hb dX5_examine_80 (by decide) (fun c_80 => ?_) (fun c_80 => ?_)
            · have hh1 : ¬ honP d q := fun h => h.elim c_60 (fun h => absurd c_80 (Int32.not_le.mpr h.2))
              refine lv_aload_n hx hb dX5_examine_91 rfl (lv_at hl 2 rfl) ?_
              refine va_get hx hb hts in_X5 hown hK hP 0 rfl rfl 8 (by decide) (hts _ q1670) (fun _ h => h) rfl dX5_examine_92 ?_
              refine lv_iload_n hx hb dX5_examine_95 rfl (lv_at hl 1 rfl) ?_
              refine lv_iconst (v := 4) hx hb dX5_examine_96 rfl ?_
              refine lv_iadd hx hb dX5_examine_97 ?_
              refine w_topi (y := nI ((154 + 6 * q) + 4)) (nI_add (154 + 6 * q) 4) ?_
              refine lv_iconst (v := 1) hx hb dX5_examine_98 rfl ?_
              refine w_iast hx hb hK hP (va_D_of hD rfl) hS 1 rfl ((154 + 6 * q) + 4) rfl (by omega) (Nat.le_of_ble_eq_true rfl) dX5_examine_99 (fun H locs hP _ hS => ?_)
              have hP : va_P D clA ((o, .inr (0, [.int 0, .ref a1, .int bl, .int tl, .int ps, .int er, .int ea, .int eo, .ref a8, .ref a9, .ref a10, .int (nI (remU u)), .int ns, .int ne, .int se, .ref a15])) :: (a8, .inl (k 0, 1798, .inl (upd d ((154 + 6 * q) + 4) 1))) :: hW k a9 a1 a15 a10 hh dr fb st (rem u d hs)) H := hP
              refine lv_aload_n hx hb dX5_examine_100 rfl (lv_at hl 2 rfl) ?_
              refine va_get hx hb hts in_X5 hown hK hP 0 rfl rfl 8 (by decide) (hts _ q1670) (fun _ h => h) rfl dX5_examine_101 ?_
              refine lv_iload_n hx hb dX5_examine_104 rfl (lv_at hl 1 rfl) ?_
              refine lv_iconst (v := 4) hx hb dX5_examine_105 rfl ?_
              refine lv_iadd hx hb dX5_examine_106 ?_
              refine w_topi (y := nI ((154 + 6 * q) + 4)) (nI_add (154 + 6 * q) 4) ?_
              refine w_iald hx hb hK hP 1 rfl ((154 + 6 * q) + 4) rfl (by omega) (Nat.le_of_ble_eq_true rfl) dX5_examine_107 ?_
              refine w_topi (y := 1) pk_us ?_
              exact w_iret C (by rw [pick_t (show (hasP d (nI q) ∧ pf d q 4 = 0) from ⟨Classical.not_not.mp b_10, Classical.not_not.mp b_50⟩), ifp_f hh1]) (by simp only [thr2_c b_10 b_50, ifp_t (show (hasP d (nI q) ∧ pf d q 4 = 0) from ⟨Classical.not_not.mp b_10, Classical.not_not.mp b_50⟩), exaD, ifp_f hh1]; exact hP) hS dX5_examine_108
            · have hh1 : honP d q := Or.inr ⟨c_66, Int32.not_le.mp c_80⟩
              refine lv_aload_n hx hb dX5_examine_83 rfl (lv_at hl 2 rfl) ?_
              refine lv_iload_n hx hb dX5_examine_84 rfl (lv_at hl 3 rfl) ?_
              refine w_callV (As := [.int (nI q)]) (rest := []) C (m_honour l D k o a1 a8 a9 a10 a15 0 bl tl ps er ea eo (nI (remU u)) ns ne se (hW k a9 a1 a15 a10 hh dr fb st (rem u d hs)) d A (va_D_of hD rfl) hd q (by omega)) (cwV 1 hts (lw_V q2022 q2024 qs66 q76 q2025) rfl rfl rfl (by decide +kernel) ⟨Nat.le_of_ble_eq_true rfl, Nat.le_of_ble_eq_true rfl⟩) hK (va_recv hK hP (ci := 0) (q0 := 0) rfl rfl) hP hS (fun _ h => h) rfl hl.1 rfl (Nat.le_of_ble_eq_true rfl) dX5_examine_85 ⟨Nat.le_of_ble_eq_true rfl, Nat.le_of_ble_eq_true rfl⟩ (fun H locs hP hS _ _ => ?_)
              have hP : va_P D clA ((o, .inr (0, [.int 0, .ref a1, .int bl, .int tl, .int ps, .int er, .int ea, .int eo, .ref a8, .ref a9, .ref a10, .int (nI (remU u)), .int ns, .int ne, .int se, .ref a15])) :: (a8, .inl (k 0, 1798, .inl (honD d q))) :: hW k a9 a1 a15 a10 hh dr fb st (rem u d hs)) H := hP
              refine lv_goto (tgt := 100) hx hb dX5_examine_88 (by decide) ?_
              refine lv_aload_n hx hb dX5_examine_100 rfl (lv_at hl 2 rfl) ?_
              refine va_get hx hb hts in_X5 hown hK hP 0 rfl rfl 8 (by decide) (hts _ q1670) (fun _ h => h) rfl dX5_examine_101 ?_
              refine lv_iload_n hx hb dX5_examine_104 rfl (lv_at hl 1 rfl) ?_
              refine lv_iconst (v := 4) hx hb dX5_examine_105 rfl ?_
              refine lv_iadd hx hb dX5_examine_106 ?_
              refine w_topi (y := nI ((154 + 6 * q) + 4)) (nI_add (154 + 6 * q) 4) ?_
              refine w_iald hx hb hK hP 1 rfl ((154 + 6 * q) + 4) rfl (by omega) (Nat.le_of_ble_eq_true rfl) dX5_examine_107 ?_
              refine w_topi (y := 2) (by unfold honD; rw [pk_un (by omega), pk_us]) ?_
              exact w_iret C (by rw [pick_t (show (hasP d (nI q) ∧ pf d q 4 = 0) from ⟨Classical.not_not.mp b_10, Classical.not_not.mp b_50⟩), ifp_t hh1]) (by simp only [thr2_c b_10 b_50, ifp_t (show (hasP d (nI q) ∧ pf d q 4 = 0) from ⟨Classical.not_not.mp b_10, Classical.not_not.mp b_50⟩), exaD, ifp_t hh1]; exact hP) hS dX5_examine_108
      · have b_50 := bI_nz c_50
        rw [pick_t b_50] at hP
        refine lv_iconst (v := 0) hx hb dX5_examine_53 rfl ?_
        exact w_iret C (pick_f (fun h => b_50 h.2)).symm (by simp only [thr2_b b_10 b_50, ifp_f (fun h : (hasP d (nI q) ∧ pf d q 4 = 0) => b_50 h.2)]; exact hP) hS dX5_examine_54
    refine lv_if_eq (tgt := 45) hx hb dX5_examine_38 (by decide) (fun c_38 => ?_) (fun c_38 => ?_)
    · refine lv_iconst (v := 0) hx hb dX5_examine_45 rfl ?_
      exact J_46 0 (by first | exact bI_t c_38 | exact bI_f (fun h => h c_38)) ls hl
    · refine lv_iconst (v := 1) hx hb dX5_examine_41 rfl ?_
      refine lv_goto (tgt := 46) hx hb dX5_examine_42 (by decide) ?_
      exact J_46 1 (by first | exact bI_t c_38 | exact bI_f (fun h => h c_38)) ls hl
  · have b_10 := bI_nz c_10
    rw [pick_t b_10] at hP
    refine lv_iconst (v := 0) hx hb dX5_examine_13 rfl ?_
    exact w_iret C (pick_f (fun h => b_10 h.1)).symm (by simp only [thr2_a b_10, ifp_f (fun h : (hasP d x ∧ pf d (ci x) 4 = 0) => b_10 h.1)]; exact hP) hS dX5_examine_14
set_option maxHeartbeats 8000000 in
theorem m_present (l : Launch) (D : va_G) (k : Nat → ClassId) (o a1 a8 a9 a10 a15 : Nat) (t bl tl ps er ea eo ns ne se : Int32) (hh : Nat → Nat) (d dr fb : Nat → Int32) (st : Nat → Int64) (hs : Nat → Nat → Int32) (A : Nat → Prop) (u : Nat) (hu : u ≤ 8) (hD : va_D A ((o, .inr (0, [.int t, .ref a1, .int bl, .int tl, .int ps, .int er, .int ea, .int eo, .ref a8, .ref a9, .ref a10, .int (nI u), .int ns, .int ne, .int se, .ref a15])) :: (a8, .inl (k 0, 1798, .inl d)) :: hW k a9 a1 a15 a10 hh dr fb st hs)) (hd : okD d) (x y am dc ins : Int32) : wM l D k yX5_present cX5_present 9 (some .int) 5 116 [.ref o, .int x, .int y, .int am, .int dc, .int ins] ((o, .inr (0, [.int t, .ref a1, .int bl, .int tl, .int ps, .int er, .int ea, .int eo, .ref a8, .ref a9, .ref a10, .int (nI u), .int ns, .int ne, .int se, .ref a15])) :: (a8, .inl (k 0, 1798, .inl d)) :: hW k a9 a1 a15 a10 hh dr fb st hs) (some (.int (pick (hasC d x ∧ ¬ wrong y am dc ins ∧ ¬ d 1 = 24) (d 1)))) ((o, .inr (0, [.int (thr3 (¬ hasC d x) (wrong y am dc ins) (d 1 = 24)), .ref a1, .int bl, .int tl, .int ps, .int er, .int ea, .int eo, .ref a8, .ref a9, .ref a10, .int (nI (ifp (hasC d x ∧ ¬ wrong y am dc ins ∧ ¬ d 1 = 24) (remU u) u)), .int ns, .int ne, .int se, .ref a15])) :: (a8, .inl (k 0, 1798, .inl (ifp (hasC d x ∧ ¬ wrong y am dc ins ∧ ¬ d 1 = 24) (preD d (ci x) am (faults d (ci x) (ci y) am dc ins)) d))) :: hW k a9 a1 a15 a10 hh dr fb st (ifp (hasC d x ∧ ¬ wrong y am dc ins ∧ ¬ d 1 = 24) (rem u d hs) hs)) A := by
  refine wM_of (by decide) (Nat.le_of_ble_eq_true rfl) ?_
  intro p e s m below meth c ls C hK hP hS hl
  obtain ⟨hx, hb, hr, hml, hown, hts, hlk⟩ := id C
  have hl : lv_has ls 9 [(0, .ref o), (1, .int x), (2, .int y), (3, .int am), (4, .int dc), (5, .int ins)] := hl
  refine lv_aload_n hx hb dX5_present_0 rfl (lv_at hl 0 rfl) ?_
  refine lv_iconst (v := 0) hx hb dX5_present_1 rfl ?_
  refine va_put hx hb hts in_X5 tyX5 tyX5_ok nmX5 hown hK hP (va_D_of hD rfl) hS 0 rfl rfl 0 (by decide) (hts _ q1662) (fun _ h => h) rfl rfl rfl rfl (Nat.le_of_ble_eq_true rfl) dX5_present_2 (fun H locs hP _ hS => ?_)
  have hP : va_P D clA ((o, .inr (0, [.int 0, .ref a1, .int bl, .int tl, .int ps, .int er, .int ea, .int eo, .ref a8, .ref a9, .ref a10, .int (nI u), .int ns, .int ne, .int se, .ref a15])) :: (a8, .inl (k 0, 1798, .inl d)) :: hW k a9 a1 a15 a10 hh dr fb st hs) H := hP
  refine lv_aload_n hx hb dX5_present_5 rfl (lv_at hl 0 rfl) ?_
  refine lv_iload_n hx hb dX5_present_6 rfl (lv_at hl 1 rfl) ?_
  refine w_callV (As := [.int x]) (rest := []) C (m_noCredit l D k o a1 a8 a9 a10 a15 bl tl ps er ea eo (nI u) ns ne se (hW k a9 a1 a15 a10 hh dr fb st hs) d A (va_D_of hD rfl) hd x) (cwV 1 hts (lw_V q1885 q1887 qs52 q76 q1888) rfl rfl rfl (by decide +kernel) ⟨Nat.le_of_ble_eq_true rfl, Nat.le_of_ble_eq_true rfl⟩) hK (va_recv hK hP (ci := 0) (q0 := 0) rfl rfl) hP hS (fun _ h => h) rfl hl.1 rfl (Nat.le_of_ble_eq_true rfl) dX5_present_7 ⟨Nat.le_of_ble_eq_true rfl, Nat.le_of_ble_eq_true rfl⟩ (fun H locs hP hS _ _ => ?_)
  have hP : va_P D clA ((o, .inr (0, [.int (pick (¬ hasC d x) 1), .ref a1, .int bl, .int tl, .int ps, .int er, .int ea, .int eo, .ref a8, .ref a9, .ref a10, .int (nI u), .int ns, .int ne, .int se, .ref a15])) :: (a8, .inl (k 0, 1798, .inl d)) :: hW k a9 a1 a15 a10 hh dr fb st hs) H := hP
  refine lv_if_ne (tgt := 55) hx hb dX5_present_10 (by decide) (fun c_10 => ?_) (fun c_10 => ?_)
  · have b_10 := bI_nz c_10
    rw [pick_t b_10] at hP
    refine lv_iconst (v := 0) hx hb dX5_present_55 rfl ?_
    exact w_iret C (pick_f (fun h => b_10 h.1)).symm (by simp only [thr3_a b_10, ifp_f (fun h : (hasC d x ∧ ¬ wrong y am dc ins ∧ ¬ d 1 = 24) => b_10 h.1)]; exact hP) hS dX5_present_56
  · have b_10 := bI_0.mp c_10
    rw [pick_f b_10] at hP
    refine lv_aload_n hx hb dX5_present_13 rfl (lv_at hl 0 rfl) ?_
    refine lv_aload_n hx hb dX5_present_14 rfl (lv_at hl 0 rfl) ?_
    refine lv_iload_n hx hb dX5_present_15 rfl (lv_at hl 2 rfl) ?_
    refine lv_iload_n hx hb dX5_present_16 rfl (lv_at hl 3 rfl) ?_
    refine lv_iload hx hb dX5_present_17 (lv_at hl 4 rfl) ?_
    refine lv_iload hx hb dX5_present_19 (lv_at hl 5 rfl) ?_
    refine r_callV (As := [.int y, .int am, .int dc, .int ins]) (rest := [.ref o]) C (m_isWrong l D k o ([.int 0, .ref a1, .int bl, .int tl, .int ps, .int er, .int ea, .int eo, .ref a8, .ref a9, .ref a10, .int (nI u), .int ns, .int ne, .int se, .ref a15] : List Value) y am dc ins) (cwV 4 hts (lw_V q1940 q1942 qs59 q76 q1943) rfl rfl rfl (by decide +kernel) ⟨Nat.le_of_ble_eq_true rfl, Nat.le_of_ble_eq_true rfl⟩) hK (va_recv hK hP (ci := 0) (q0 := 0) rfl rfl) (hP.sub [0] rfl) rfl hl.1 rfl (Nat.le_of_ble_eq_true rfl) dX5_present_21 ⟨Nat.le_of_ble_eq_true rfl, Nat.le_of_ble_eq_true rfl⟩ ?_
    refine lv_iconst (v := 2) hx hb dX5_present_24 rfl ?_
    refine w_callV (As := [.int (bI (wrong y am dc ins)), .int 2]) (rest := []) C (m_fails l D k o a1 a8 a9 a10 a15 bl tl ps er ea eo (nI u) ns ne se ((a8, .inl (k 0, 1798, .inl d)) :: hW k a9 a1 a15 a10 hh dr fb st hs) A (va_D_of hD rfl) (wrong y am dc ins) 2 (by decide)) (cwV 2 hts (lw_V q1727 q1729 qs31 q76 q1730) rfl rfl rfl (by decide +kernel) ⟨Nat.le_of_ble_eq_true rfl, Nat.le_of_ble_eq_true rfl⟩) hK (va_recv hK hP (ci := 0) (q0 := 0) rfl rfl) hP hS (fun _ h => h) rfl hl.1 rfl (Nat.le_of_ble_eq_true rfl) dX5_present_25 ⟨Nat.le_of_ble_eq_true rfl, Nat.le_of_ble_eq_true rfl⟩ (fun H locs hP hS _ _ => ?_)
    have hP : va_P D clA ((o, .inr (0, [.int (pick (wrong y am dc ins) 2), .ref a1, .int bl, .int tl, .int ps, .int er, .int ea, .int eo, .ref a8, .ref a9, .ref a10, .int (nI u), .int ns, .int ne, .int se, .ref a15])) :: (a8, .inl (k 0, 1798, .inl d)) :: hW k a9 a1 a15 a10 hh dr fb st hs) H := hP
    refine lv_if_ne (tgt := 55) hx hb dX5_present_28 (by decide) (fun c_28 => ?_) (fun c_28 => ?_)
    · have b_28 := bI_nz c_28
      rw [pick_t b_28] at hP
      refine lv_iconst (v := 0) hx hb dX5_present_55 rfl ?_
      exact w_iret C (pick_f (fun h => h.2.1 b_28)).symm (by simp only [thr3_b b_10 b_28, ifp_f (fun h : (hasC d x ∧ ¬ wrong y am dc ins ∧ ¬ d 1 = 24) => h.2.1 b_28)]; exact hP) hS dX5_present_56
    · have b_28 := bI_0.mp c_28
      rw [pick_f b_28] at hP
      refine lv_aload_n hx hb dX5_present_31 rfl (lv_at hl 0 rfl) ?_
      refine lv_aload_n hx hb dX5_present_32 rfl (lv_at hl 0 rfl) ?_
      refine va_get hx hb hts in_X5 hown hK hP 0 rfl rfl 8 (by decide) (hts _ q1670) (fun _ h => h) rfl dX5_present_33 ?_
      refine lv_iconst (v := 1) hx hb dX5_present_36 rfl ?_
      refine w_iald hx hb hK hP 1 rfl 1 rfl (Nat.le_of_ble_eq_true rfl) (Nat.le_of_ble_eq_true rfl) dX5_present_37 ?_
      refine lv_bipush (v := 24) hx hb dX5_present_38 rfl ?_
      have J_48 : ∀ (z : Int32), (z = bI (d 1 = 24)) → ∀ (ls : Array Slot), lv_has ls 9 [(0, .ref o), (1, .int x), (2, .int y), (3, .int am), (4, .int dc), (5, .int ins)] → W p l e (Rm 5 116 0 0) s m ([.ref o, .int x, .int y, .int am, .int dc, .int ins] : List Value).toArray below meth c H locs 0 0 (MQ below (wQ D (some (.int (pick (hasC d x ∧ ¬ wrong y am dc ins ∧ ¬ d 1 = 24) (d 1)))) ((o, .inr (0, [.int (thr3 (¬ hasC d x) (wrong y am dc ins) (d 1 = 24)), .ref a1, .int bl, .int tl, .int ps, .int er, .int ea, .int eo, .ref a8, .ref a9, .ref a10, .int (nI (ifp (hasC d x ∧ ¬ wrong y am dc ins ∧ ¬ d 1 = 24) (remU u) u)), .int ns, .int ne, .int se, .ref a15])) :: (a8, .inl (k 0, 1798, .inl (ifp (hasC d x ∧ ¬ wrong y am dc ins ∧ ¬ d 1 = 24) (preD d (ci x) am (faults d (ci x) (ci y) am dc ins)) d))) :: hW k a9 a1 a15 a10 hh dr fb st (ifp (hasC d x ∧ ¬ wrong y am dc ins ∧ ¬ d 1 = 24) (rem u d hs) hs)) A) ([.ref o, .int x, .int y, .int am, .int dc, .int ins] : List Value).toArray s 0 0 A) (F0 m 48 ls [.int z, .ref o]) := by
        intro z h_z ls hl
        refine w_topi (y := bI (d 1 = 24)) h_z ?_
        refine lv_iconst (v := 3) hx hb dX5_present_48 rfl ?_
        refine w_callV (As := [.int (bI (d 1 = 24)), .int 3]) (rest := []) C (m_fails l D k o a1 a8 a9 a10 a15 bl tl ps er ea eo (nI u) ns ne se ((a8, .inl (k 0, 1798, .inl d)) :: hW k a9 a1 a15 a10 hh dr fb st hs) A (va_D_of hD rfl) (d 1 = 24) 3 (by decide)) (cwV 2 hts (lw_V q1727 q1729 qs31 q76 q1730) rfl rfl rfl (by decide +kernel) ⟨Nat.le_of_ble_eq_true rfl, Nat.le_of_ble_eq_true rfl⟩) hK (va_recv hK hP (ci := 0) (q0 := 0) rfl rfl) hP hS (fun _ h => h) rfl hl.1 rfl (Nat.le_of_ble_eq_true rfl) dX5_present_49 ⟨Nat.le_of_ble_eq_true rfl, Nat.le_of_ble_eq_true rfl⟩ (fun H locs hP hS _ _ => ?_)
        have hP : va_P D clA ((o, .inr (0, [.int (pick (d 1 = 24) 3), .ref a1, .int bl, .int tl, .int ps, .int er, .int ea, .int eo, .ref a8, .ref a9, .ref a10, .int (nI u), .int ns, .int ne, .int se, .ref a15])) :: (a8, .inl (k 0, 1798, .inl d)) :: hW k a9 a1 a15 a10 hh dr fb st hs) H := hP
        refine lv_if_eq (tgt := 57) hx hb dX5_present_52 (by decide) (fun c_52 => ?_) (fun c_52 => ?_)
        · have b_52 := bI_0.mp c_52
          rw [pick_f b_52] at hP
          have hlk := hl
          have hPk := hP
          have hSk := hS
          obtain ⟨q, hq, rfl⟩ := hasC_n hd (Classical.not_not.mp b_10)
          have hl := hlk
          have hP := hPk
          have hS := hSk
          obtain ⟨⟨⟨_, n0⟩, ⟨_, n1⟩, -⟩, -⟩ := id hd
          obtain ⟨w1, w2⟩ := hd.1.2.1
          have g_52 : dN d 1 < 24 := by rcases Nat.lt_or_ge (dN d 1) 24 with h | h; exact h; exact absurd (w1.trans (congrArg nI (show dN d 1 = 24 by omega))) b_52
          have hlk := hl
          have hPk := hP
          have hSk := hS
          obtain ⟨r, hr, rfl⟩ := day_n (Classical.not_not.mp (fun h => b_28 (Or.inl h)))
          have hl := hlk
          have hP := hPk
          have hS := hSk
          rw [ci_n (show q < 2 ^ 31 by omega), ci_n (show r < 2 ^ 31 by omega)]
          refine lv_aload_n hx hb dX5_present_57 rfl (lv_at hl 0 rfl) ?_
          refine w_callV (As := []) (rest := []) C (m_remember l D k o a1 a8 a9 a10 a15 0 bl tl ps er ea eo ns ne se hh d dr fb st hs A u hu (va_D_of hD rfl)) (cwV 0 hts (lw_V q1827 q1829 qs48 q76 q1830) rfl rfl rfl (by decide +kernel) ⟨Nat.le_of_ble_eq_true rfl, Nat.le_of_ble_eq_true rfl⟩) hK (va_recv hK hP (ci := 0) (q0 := 0) rfl rfl) hP hS (fun _ h => h) rfl hl.1 rfl (Nat.le_of_ble_eq_true rfl) dX5_present_58 ⟨Nat.le_of_ble_eq_true rfl, Nat.le_of_ble_eq_true rfl⟩ (fun H locs hP hS _ _ => ?_)
          have hP : va_P D clA ((o, .inr (0, [.int 0, .ref a1, .int bl, .int tl, .int ps, .int er, .int ea, .int eo, .ref a8, .ref a9, .ref a10, .int (nI (remU u)), .int ns, .int ne, .int se, .ref a15])) :: (a8, .inl (k 0, 1798, .inl d)) :: hW k a9 a1 a15 a10 hh dr fb st (rem u d hs)) H := hP
          refine lv_aload_n hx hb dX5_present_61 rfl (lv_at hl 0 rfl) ?_
          refine va_get hx hb hts in_X5 hown hK hP 0 rfl rfl 8 (by decide) (hts _ q1670) (fun _ h => h) rfl dX5_present_62 ?_
          refine lv_iconst (v := 1) hx hb dX5_present_65 rfl ?_
          refine w_iald hx hb hK hP 1 rfl 1 rfl (Nat.le_of_ble_eq_true rfl) (Nat.le_of_ble_eq_true rfl) dX5_present_66 ?_
          refine w_topi (y := nI (dN d 1)) w1 ?_
          refine lv_istore (lv' := [(6, .int (nI (dN d 1))), (0, .ref o), (1, .int (nI q)), (2, .int (nI r)), (3, .int am), (4, .int dc), (5, .int ins)]) hx hb dX5_present_67 hl (by decide) rfl (fun ls hl => ?_)
          refine lv_iload hx hb dX5_present_69 (lv_at hl 0 rfl) ?_
          refine r_callS (As := [.int (nI (dN d 1))]) (rest := []) C (m_presentationN l D k (dN d 1)) (va_cwS 1 hts (lw_S q1917 q1918 q76 q1919) rfl rfl rfl (by decide +kernel) ⟨Nat.le_of_ble_eq_true rfl, Nat.le_of_ble_eq_true rfl⟩) hK trivial rfl hl.1 rfl (Nat.le_of_ble_eq_true rfl) dX5_present_71 ⟨Nat.le_of_ble_eq_true rfl, Nat.le_of_ble_eq_true rfl⟩ ?_
          refine lv_istore (lv' := [(7, .int (nI (154 + 6 * (dN d 1)))), (6, .int (nI (dN d 1))), (0, .ref o), (1, .int (nI q)), (2, .int (nI r)), (3, .int am), (4, .int dc), (5, .int ins)]) hx hb dX5_present_74 hl (by decide) rfl (fun ls hl => ?_)
          refine lv_aload_n hx hb dX5_present_76 rfl (lv_at hl 2 rfl) ?_
          refine lv_iload_n hx hb dX5_present_77 rfl (lv_at hl 3 rfl) ?_
          refine lv_iload_n hx hb dX5_present_78 rfl (lv_at hl 4 rfl) ?_
          refine lv_iload_n hx hb dX5_present_79 rfl (lv_at hl 5 rfl) ?_
          refine lv_iload hx hb dX5_present_80 (lv_at hl 6 rfl) ?_
          refine lv_iload hx hb dX5_present_82 (lv_at hl 7 rfl) ?_
          refine r_callV (As := [.int (nI q), .int (nI r), .int am, .int dc, .int ins]) (rest := []) C (m_faultsOf l D k o a8 ([.int 0, .ref a1, .int bl, .int tl, .int ps, .int er, .int ea, .int eo, .ref a8, .ref a9, .ref a10, .int (nI (remU u)), .int ns, .int ne, .int se, .ref a15] : List Value) d rfl hd q r am dc ins (by omega) (by omega)) (cwV 5 hts (lw_V q1945 q1947 qs60 q76 q1948) rfl rfl rfl (by decide +kernel) ⟨Nat.le_of_ble_eq_true rfl, Nat.le_of_ble_eq_true rfl⟩) hK (va_recv hK hP (ci := 0) (q0 := 0) rfl rfl) (hP.sub [0, 1] rfl) rfl hl.1 rfl (Nat.le_of_ble_eq_true rfl) dX5_present_84 ⟨Nat.le_of_ble_eq_true rfl, Nat.le_of_ble_eq_true rfl⟩ ?_
          refine lv_istore (lv' := [(8, .int (faults d q r am dc ins)), (7, .int (nI (154 + 6 * (dN d 1)))), (6, .int (nI (dN d 1))), (0, .ref o), (1, .int (nI q)), (2, .int (nI r)), (3, .int am), (4, .int dc), (5, .int ins)]) hx hb dX5_present_87 hl (by decide) rfl (fun ls hl => ?_)
          refine lv_aload_n hx hb dX5_present_89 rfl (lv_at hl 3 rfl) ?_
          refine va_get hx hb hts in_X5 hown hK hP 0 rfl rfl 8 (by decide) (hts _ q1670) (fun _ h => h) rfl dX5_present_90 ?_
          refine lv_iconst (v := 1) hx hb dX5_present_93 rfl ?_
          refine lv_dup2_11 hx hb dX5_present_94 rfl rfl ?_
          refine w_iald hx hb hK hP 1 rfl 1 rfl (Nat.le_of_ble_eq_true rfl) (Nat.le_of_ble_eq_true rfl) dX5_present_95 ?_
          refine w_topi (y := nI (dN d 1)) w1 ?_
          refine lv_iconst (v := 1) hx hb dX5_present_96 rfl ?_
          refine lv_iadd hx hb dX5_present_97 ?_
          refine w_topi (y := nI ((dN d 1) + 1)) (nI_add (dN d 1) 1) ?_
          refine w_iast hx hb hK hP (va_D_of hD rfl) hS 1 rfl 1 rfl (Nat.le_of_ble_eq_true rfl) (Nat.le_of_ble_eq_true rfl) dX5_present_98 (fun H locs hP _ hS => ?_)
          have hP : va_P D clA ((o, .inr (0, [.int 0, .ref a1, .int bl, .int tl, .int ps, .int er, .int ea, .int eo, .ref a8, .ref a9, .ref a10, .int (nI (remU u)), .int ns, .int ne, .int se, .ref a15])) :: (a8, .inl (k 0, 1798, .inl (upd d 1 (nI ((dN d 1) + 1))))) :: hW k a9 a1 a15 a10 hh dr fb st (rem u d hs)) H := hP
          refine lv_aload_n hx hb dX5_present_99 rfl (lv_at hl 3 rfl) ?_
          refine va_get hx hb hts in_X5 hown hK hP 0 rfl rfl 8 (by decide) (hts _ q1670) (fun _ h => h) rfl dX5_present_100 ?_
          refine lv_iload hx hb dX5_present_103 (lv_at hl 1 rfl) ?_
          refine lv_iload_n hx hb dX5_present_105 rfl (lv_at hl 4 rfl) ?_
          refine w_iast hx hb hK hP (va_D_of hD rfl) hS 1 rfl (154 + 6 * (dN d 1)) rfl (by omega) (Nat.le_of_ble_eq_true rfl) dX5_present_106 (fun H locs hP _ hS => ?_)
          have hP : va_P D clA ((o, .inr (0, [.int 0, .ref a1, .int bl, .int tl, .int ps, .int er, .int ea, .int eo, .ref a8, .ref a9, .ref a10, .int (nI (remU u)), .int ns, .int ne, .int se, .ref a15])) :: (a8, .inl (k 0, 1798, .inl (upd (upd d 1 (nI ((dN d 1) + 1))) (154 + 6 * (dN d 1)) (nI q)))) :: hW k a9 a1 a15 a10 hh dr fb st (rem u d hs)) H := hP
          refine lv_aload_n hx hb dX5_present_107 rfl (lv_at hl 3 rfl) ?_
          refine va_get hx hb hts in_X5 hown hK hP 0 rfl rfl 8 (by decide) (hts _ q1670) (fun _ h => h) rfl dX5_present_108 ?_
          refine lv_iload hx hb dX5_present_111 (lv_at hl 1 rfl) ?_
          refine lv_iconst (v := 1) hx hb dX5_present_113 rfl ?_
          refine lv_iadd hx hb dX5_present_114 ?_
          refine w_topi (y := nI ((154 + 6 * (dN d 1)) + 1)) (nI_add (154 + 6 * (dN d 1)) 1) ?_
          refine lv_aload_n hx hb dX5_present_115 rfl (lv_at hl 3 rfl) ?_
          refine va_get hx hb hts in_X5 hown hK hP 0 rfl rfl 8 (by decide) (hts _ q1670) (fun _ h => h) rfl dX5_present_116 ?_
          refine lv_iconst (v := 3) hx hb dX5_present_119 rfl ?_
          refine w_iald hx hb hK hP 1 rfl 3 rfl (Nat.le_of_ble_eq_true rfl) (Nat.le_of_ble_eq_true rfl) dX5_present_120 ?_
          refine w_topi (y := d 3) (by rw [pk_un (by omega), pk_un (by omega)]) ?_
          refine w_iast hx hb hK hP (va_D_of hD rfl) hS 1 rfl ((154 + 6 * (dN d 1)) + 1) rfl (by omega) (Nat.le_of_ble_eq_true rfl) dX5_present_121 (fun H locs hP _ hS => ?_)
          have hP : va_P D clA ((o, .inr (0, [.int 0, .ref a1, .int bl, .int tl, .int ps, .int er, .int ea, .int eo, .ref a8, .ref a9, .ref a10, .int (nI (remU u)), .int ns, .int ne, .int se, .ref a15])) :: (a8, .inl (k 0, 1798, .inl (upd (upd (upd d 1 (nI ((dN d 1) + 1))) (154 + 6 * (dN d 1)) (nI q)) ((154 + 6 * (dN d 1)) + 1) (d 3)))) :: hW k a9 a1 a15 a10 hh dr fb st (rem u d hs)) H := hP
          refine lv_aload_n hx hb dX5_present_122 rfl (lv_at hl 3 rfl) ?_
          refine va_get hx hb hts in_X5 hown hK hP 0 rfl rfl 8 (by decide) (hts _ q1670) (fun _ h => h) rfl dX5_present_123 ?_
          refine lv_iload hx hb dX5_present_126 (lv_at hl 1 rfl) ?_
          refine lv_iconst (v := 2) hx hb dX5_present_128 rfl ?_
          refine lv_iadd hx hb dX5_present_129 ?_
          refine w_topi (y := nI ((154 + 6 * (dN d 1)) + 2)) (nI_add (154 + 6 * (dN d 1)) 2) ?_
          refine lv_iload_n hx hb dX5_present_130 rfl (lv_at hl 6 rfl) ?_
          refine w_iast hx hb hK hP (va_D_of hD rfl) hS 1 rfl ((154 + 6 * (dN d 1)) + 2) rfl (by omega) (Nat.le_of_ble_eq_true rfl) dX5_present_131 (fun H locs hP _ hS => ?_)
          have hP : va_P D clA ((o, .inr (0, [.int 0, .ref a1, .int bl, .int tl, .int ps, .int er, .int ea, .int eo, .ref a8, .ref a9, .ref a10, .int (nI (remU u)), .int ns, .int ne, .int se, .ref a15])) :: (a8, .inl (k 0, 1798, .inl (upd (upd (upd (upd d 1 (nI ((dN d 1) + 1))) (154 + 6 * (dN d 1)) (nI q)) ((154 + 6 * (dN d 1)) + 1) (d 3)) ((154 + 6 * (dN d 1)) + 2) am))) :: hW k a9 a1 a15 a10 hh dr fb st (rem u d hs)) H := hP
          refine lv_aload_n hx hb dX5_present_132 rfl (lv_at hl 3 rfl) ?_
          refine va_get hx hb hts in_X5 hown hK hP 0 rfl rfl 8 (by decide) (hts _ q1670) (fun _ h => h) rfl dX5_present_133 ?_
          refine lv_iload hx hb dX5_present_136 (lv_at hl 1 rfl) ?_
          refine lv_iconst (v := 3) hx hb dX5_present_138 rfl ?_
          refine lv_iadd hx hb dX5_present_139 ?_
          refine w_topi (y := nI ((154 + 6 * (dN d 1)) + 3)) (nI_add (154 + 6 * (dN d 1)) 3) ?_
          refine lv_iload hx hb dX5_present_140 (lv_at hl 0 rfl) ?_
          refine w_iast hx hb hK hP (va_D_of hD rfl) hS 1 rfl ((154 + 6 * (dN d 1)) + 3) rfl (by omega) (Nat.le_of_ble_eq_true rfl) dX5_present_142 (fun H locs hP _ hS => ?_)
          have hP : va_P D clA ((o, .inr (0, [.int 0, .ref a1, .int bl, .int tl, .int ps, .int er, .int ea, .int eo, .ref a8, .ref a9, .ref a10, .int (nI (remU u)), .int ns, .int ne, .int se, .ref a15])) :: (a8, .inl (k 0, 1798, .inl (upd (upd (upd (upd (upd d 1 (nI ((dN d 1) + 1))) (154 + 6 * (dN d 1)) (nI q)) ((154 + 6 * (dN d 1)) + 1) (d 3)) ((154 + 6 * (dN d 1)) + 2) am) ((154 + 6 * (dN d 1)) + 3) (faults d q r am dc ins)))) :: hW k a9 a1 a15 a10 hh dr fb st (rem u d hs)) H := hP
          refine lv_aload_n hx hb dX5_present_143 rfl (lv_at hl 3 rfl) ?_
          refine va_get hx hb hts in_X5 hown hK hP 0 rfl rfl 8 (by decide) (hts _ q1670) (fun _ h => h) rfl dX5_present_144 ?_
          refine lv_iload hx hb dX5_present_147 (lv_at hl 1 rfl) ?_
          refine lv_iconst (v := 4) hx hb dX5_present_149 rfl ?_
          refine lv_iadd hx hb dX5_present_150 ?_
          refine w_topi (y := nI ((154 + 6 * (dN d 1)) + 4)) (nI_add (154 + 6 * (dN d 1)) 4) ?_
          refine lv_iconst (v := 0) hx hb dX5_present_151 rfl ?_
          refine w_iast hx hb hK hP (va_D_of hD rfl) hS 1 rfl ((154 + 6 * (dN d 1)) + 4) rfl (by omega) (Nat.le_of_ble_eq_true rfl) dX5_present_152 (fun H locs hP _ hS => ?_)
          have hP : va_P D clA ((o, .inr (0, [.int 0, .ref a1, .int bl, .int tl, .int ps, .int er, .int ea, .int eo, .ref a8, .ref a9, .ref a10, .int (nI (remU u)), .int ns, .int ne, .int se, .ref a15])) :: (a8, .inl (k 0, 1798, .inl (upd (upd (upd (upd (upd (upd d 1 (nI ((dN d 1) + 1))) (154 + 6 * (dN d 1)) (nI q)) ((154 + 6 * (dN d 1)) + 1) (d 3)) ((154 + 6 * (dN d 1)) + 2) am) ((154 + 6 * (dN d 1)) + 3) (faults d q r am dc ins)) ((154 + 6 * (dN d 1)) + 4) 0))) :: hW k a9 a1 a15 a10 hh dr fb st (rem u d hs)) H := hP
          refine lv_aload_n hx hb dX5_present_153 rfl (lv_at hl 3 rfl) ?_
          refine va_get hx hb hts in_X5 hown hK hP 0 rfl rfl 8 (by decide) (hts _ q1670) (fun _ h => h) rfl dX5_present_154 ?_
          refine lv_iload hx hb dX5_present_157 (lv_at hl 1 rfl) ?_
          refine lv_iconst (v := 5) hx hb dX5_present_159 rfl ?_
          refine lv_iadd hx hb dX5_present_160 ?_
          refine w_topi (y := nI ((154 + 6 * (dN d 1)) + 5)) (nI_add (154 + 6 * (dN d 1)) 5) ?_
          refine lv_iconst (v := 0) hx hb dX5_present_161 rfl ?_
          refine w_iast hx hb hK hP (va_D_of hD rfl) hS 1 rfl ((154 + 6 * (dN d 1)) + 5) rfl (by omega) (Nat.le_of_ble_eq_true rfl) dX5_present_162 (fun H locs hP _ hS => ?_)
          have hP : va_P D clA ((o, .inr (0, [.int 0, .ref a1, .int bl, .int tl, .int ps, .int er, .int ea, .int eo, .ref a8, .ref a9, .ref a10, .int (nI (remU u)), .int ns, .int ne, .int se, .ref a15])) :: (a8, .inl (k 0, 1798, .inl (upd (upd (upd (upd (upd (upd (upd d 1 (nI ((dN d 1) + 1))) (154 + 6 * (dN d 1)) (nI q)) ((154 + 6 * (dN d 1)) + 1) (d 3)) ((154 + 6 * (dN d 1)) + 2) am) ((154 + 6 * (dN d 1)) + 3) (faults d q r am dc ins)) ((154 + 6 * (dN d 1)) + 4) 0) ((154 + 6 * (dN d 1)) + 5) 0))) :: hW k a9 a1 a15 a10 hh dr fb st (rem u d hs)) H := hP
          refine lv_iload hx hb dX5_present_163 (lv_at hl 2 rfl) ?_
          exact w_iret C (by rw [pick_t (show (hasC d (nI q) ∧ ¬ wrong (nI r) am dc ins ∧ ¬ d 1 = 24) from ⟨Classical.not_not.mp b_10, b_28, b_52⟩)]; exact w1.symm) (by simp only [thr3_d b_10 b_28 b_52, ifp_t (show (hasC d (nI q) ∧ ¬ wrong (nI r) am dc ins ∧ ¬ d 1 = 24) from ⟨Classical.not_not.mp b_10, b_28, b_52⟩)]; exact hP) hS dX5_present_165
        · have b_52 := bI_nz c_52
          rw [pick_t b_52] at hP
          refine lv_iconst (v := 0) hx hb dX5_present_55 rfl ?_
          exact w_iret C (pick_f (fun h => h.2.2 b_52)).symm (by simp only [thr3_c b_10 b_28 b_52, ifp_f (fun h : (hasC d x ∧ ¬ wrong y am dc ins ∧ ¬ d 1 = 24) => h.2.2 b_52)]; exact hP) hS dX5_present_56
      refine lv_icmp_ne (tgt := 47) hx hb dX5_present_40 (by decide) (fun c_40 => ?_) (fun c_40 => ?_)
      · refine lv_iconst (v := 0) hx hb dX5_present_47 rfl ?_
        exact J_48 0 (by first | exact bI_t c_40 | exact bI_f c_40) ls hl
      · refine lv_iconst (v := 1) hx hb dX5_present_43 rfl ?_
        refine lv_goto (tgt := 48) hx hb dX5_present_44 (by decide) ?_
        exact J_48 1 (by first | exact bI_t c_40 | exact bI_f c_40) ls hl
