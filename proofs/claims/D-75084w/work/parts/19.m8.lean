/-! the reference, part 8: reading (printed by gen/m8.py) -/
set_option maxRecDepth 100000
set_option maxHeartbeats 4000000 in
theorem m_isGood (l : Launch) (D : va_G) (k : Nat → ClassId) (o : Nat) (er : Int32) (fs : List Value) (h5 : fs[5]? = some (.int er)) : rM l D k yX5_isGood cX5_isGood 1 (some .boolean) 0 0 [.ref o] (va_P D clA [(o, .inr (0, fs))]) (some (.int (bI (er = 0)))) := by
  refine rM_of (by decide) (Nat.le_of_ble_eq_true rfl) ?_
  intro p e s m below meth c ls C hK hP hl
  obtain ⟨hx, hb, hr, hml, hown, hts, hlk⟩ := id C
  have hl : lv_has ls 1 [(0, .ref o)] := hl
  refine lv_aload_n hx hb dX5_isGood_0 rfl (lv_at hl 0 rfl) ?_
  refine va_get hx hb hts in_X5 hown hK hP 0 rfl rfl 5 (by decide) (hts _ q1667) (fun _ h => h) h5 dX5_isGood_1 ?_
  refine lv_if_ne (tgt := 11) hx hb dX5_isGood_4 (by decide) (fun c_4 => ?_) (fun c_4 => ?_)
  · refine lv_iconst (v := 0) hx hb dX5_isGood_11 rfl ?_
    exact r_zret C (by first | exact bI_t c_4 | exact bI_f c_4) dX5_isGood_12
  · refine lv_iconst (v := 1) hx hb dX5_isGood_7 rfl ?_
    refine lv_goto (tgt := 12) hx hb dX5_isGood_8 (by decide) ?_
    exact r_zret C (by first | exact bI_t c_4 | exact bI_f c_4) dX5_isGood_12
set_option maxHeartbeats 4000000 in
theorem m_byteAt (l : Launch) (D : va_G) (k : Nat → ClassId) (o a1 L q : Nat) (fs : List Value) (fb : Nat → Int32) (h1 : fs[1]? = some (.ref a1)) (h3 : fs[3]? = some (.int (nI L))) (hL : L ≤ 900) (hq : q < 2 ^ 30) : rM l D k yX5_byteAt cX5_byteAt 2 (some .int) 0 0 [.ref o, .int (nI q)] (va_P D clA [(o, .inr (0, fs)), (a1, .inl (k 0, 900, .inl fb))]) (some (.int (byt fb L q))) := by
  refine rM_of (by decide) (Nat.le_of_ble_eq_true rfl) ?_
  intro p e s m below meth c ls C hK hP hl
  obtain ⟨hx, hb, hr, hml, hown, hts, hlk⟩ := id C
  have hl : lv_has ls 2 [(0, .ref o), (1, .int (nI q))] := hl
  refine lv_iload_n hx hb dX5_byteAt_0 rfl (lv_at hl 1 rfl) ?_
  refine lv_aload_n hx hb dX5_byteAt_1 rfl (lv_at hl 0 rfl) ?_
  refine va_get hx hb hts in_X5 hown hK hP 0 rfl rfl 3 (by decide) (hts _ q1665) (fun _ h => h) h3 dX5_byteAt_2 ?_
  refine lv_icmp_ge (tgt := 17) hx hb dX5_byteAt_5 (by decide) (fun c_5 => ?_) (fun c_5 => ?_)
  · have g_5 := nI_le' c_5 (by omega) (by omega)
    refine lv_iconst (v := (-1)) hx hb dX5_byteAt_17 rfl ?_
    exact r_iret C (by unfold byt; first | rw [if_pos (by omega)] | rw [if_neg (by omega)]) dX5_byteAt_18
  · have g_5 := nI_nle' c_5 (by omega) (by omega)
    refine lv_aload_n hx hb dX5_byteAt_8 rfl (lv_at hl 0 rfl) ?_
    refine va_get hx hb hts in_X5 hown hK hP 0 rfl rfl 1 (by decide) (hts _ q1663) (fun _ h => h) h1 dX5_byteAt_9 ?_
    refine lv_iload_n hx hb dX5_byteAt_12 rfl (lv_at hl 1 rfl) ?_
    refine w_iald hx hb hK hP 1 rfl q rfl (by omega) (Nat.le_of_ble_eq_true rfl) dX5_byteAt_13 ?_
    refine lv_goto (tgt := 18) hx hb dX5_byteAt_14 (by decide) ?_
    exact r_iret C (by unfold byt; first | rw [if_pos (by omega)] | rw [if_neg (by omega)]) dX5_byteAt_18
set_option maxHeartbeats 4000000 in
theorem m_next (l : Launch) (D : va_G) (k : Nat → ClassId) (o a1 a8 a9 a10 a15 : Nat) (t bl er ea eo ud ns ne se : Int32) (wr : va_W) (d dr fb : Nat → Int32) (L : Nat) (hL : L ≤ 900) (p0 : Nat) (A : Nat → Prop) (hD : va_D A ((o, .inr (0, [.int t, .ref a1, .int bl, .int (nI L), .int (nI p0), .int er, .int ea, .int eo, .ref a8, .ref a9, .ref a10, .int ud, .int ns, .int ne, .int se, .ref a15])) :: (a8, .inl (k 0, 1798, .inl d)) :: (a9, .inl (k 0, 1798, .inl dr)) :: (a1, .inl (k 0, 900, .inl fb)) :: wr)) (hp : p0 ≤ L) : wM l D k yX5_next cX5_next 1 (some .int) 1 21 [.ref o] ((o, .inr (0, [.int t, .ref a1, .int bl, .int (nI L), .int (nI p0), .int er, .int ea, .int eo, .ref a8, .ref a9, .ref a10, .int ud, .int ns, .int ne, .int se, .ref a15])) :: (a8, .inl (k 0, 1798, .inl d)) :: (a9, .inl (k 0, 1798, .inl dr)) :: (a1, .inl (k 0, 900, .inl fb)) :: wr) (some (.int (byt fb L (sk fb L p0)))) ((o, .inr (0, [.int t, .ref a1, .int bl, .int (nI L), .int (nI (sk fb L p0)), .int er, .int ea, .int eo, .ref a8, .ref a9, .ref a10, .int ud, .int ns, .int ne, .int se, .ref a15])) :: (a8, .inl (k 0, 1798, .inl d)) :: (a9, .inl (k 0, 1798, .inl dr)) :: (a1, .inl (k 0, 900, .inl fb)) :: wr) A := by
  refine wM_of (by decide) (Nat.le_of_ble_eq_true rfl) ?_
  intro p e s m below meth c ls C hK hP hS hl
  obtain ⟨hx, hb, hr, hml, hown, hts, hlk⟩ := id C
  have hl : lv_has ls 1 [(0, .ref o)] := hl
  have loop_0 : ∀ (n : Nat) (j : Nat), (j ≤ L) → (sk fb L j = sk fb L p0) → (L + 1 ≤ j + n) → ∀ (H : Heap) (locs : List Loc), va_P D clA ((o, .inr (0, [.int t, .ref a1, .int bl, .int (nI L), .int (nI j), .int er, .int ea, .int eo, .ref a8, .ref a9, .ref a10, .int ud, .int ns, .int ne, .int se, .ref a15])) :: (a8, .inl (k 0, 1798, .inl d)) :: (a9, .inl (k 0, 1798, .inl dr)) :: (a1, .inl (k 0, 900, .inl fb)) :: wr) H → va_S A s.heap H locs → ∀ (ls : Array Slot), lv_has ls 1 [(0, .ref o)] → W p l e (Rm 1 21 0 0) s m ([.ref o] : List Value).toArray below meth c H locs 0 0 (MQ below (wQ D (some (.int (byt fb L (sk fb L p0)))) ((o, .inr (0, [.int t, .ref a1, .int bl, .int (nI L), .int (nI (sk fb L p0)), .int er, .int ea, .int eo, .ref a8, .ref a9, .ref a10, .int ud, .int ns, .int ne, .int se, .ref a15])) :: (a8, .inl (k 0, 1798, .inl d)) :: (a9, .inl (k 0, 1798, .inl dr)) :: (a1, .inl (k 0, 900, .inl fb)) :: wr) A) ([.ref o] : List Value).toArray s 0 0 A) (F0 m 0 ls []) := by
    intro n
    induction n with
    | zero =>
      intro j hj he hn
      exact absurd hn (by omega)
    | succ n ih_0 =>
      intro j hj he hn H locs hP hS ls hl
      refine lv_aload_n hx hb dX5_next_0 rfl (lv_at hl 0 rfl) ?_
      refine lv_aload_n hx hb dX5_next_1 rfl (lv_at hl 0 rfl) ?_
      refine va_get hx hb hts in_X5 hown hK hP 0 rfl rfl 4 (by decide) (hts _ q1666) (fun _ h => h) rfl dX5_next_2 ?_
      refine r_callV (As := [.int (nI j)]) (rest := []) C (m_byteAt l D k o a1 L j ([.int t, .ref a1, .int bl, .int (nI L), .int (nI j), .int er, .int ea, .int eo, .ref a8, .ref a9, .ref a10, .int ud, .int ns, .int ne, .int se, .ref a15] : List Value) fb rfl rfl hL (by omega)) (cwV 1 hts (lw_V q1739 q1741 qs34 q76 q1742) rfl rfl rfl (by decide +kernel) ⟨Nat.le_of_ble_eq_true rfl, Nat.le_of_ble_eq_true rfl⟩) hK (va_recv hK hP (ci := 0) (q0 := 0) rfl rfl) (hP.sub [0, 3] rfl) rfl hl.1 rfl (Nat.le_of_ble_eq_true rfl) dX5_next_5 ⟨Nat.le_of_ble_eq_true rfl, Nat.le_of_ble_eq_true rfl⟩ ?_
      refine lv_bipush (v := 32) hx hb dX5_next_8 rfl ?_
      refine lv_icmp_ne (tgt := 26) hx hb dX5_next_10 (by decide) (fun c_10 => ?_) (fun c_10 => ?_)
      · have e1 : sk fb L p0 = j := he.symm.trans (sk_stop c_10)
        refine lv_aload_n hx hb dX5_next_26 rfl (lv_at hl 0 rfl) ?_
        refine lv_aload_n hx hb dX5_next_27 rfl (lv_at hl 0 rfl) ?_
        refine va_get hx hb hts in_X5 hown hK hP 0 rfl rfl 4 (by decide) (hts _ q1666) (fun _ h => h) rfl dX5_next_28 ?_
        refine r_callV (As := [.int (nI j)]) (rest := []) C (m_byteAt l D k o a1 L j ([.int t, .ref a1, .int bl, .int (nI L), .int (nI j), .int er, .int ea, .int eo, .ref a8, .ref a9, .ref a10, .int ud, .int ns, .int ne, .int se, .ref a15] : List Value) fb rfl rfl hL (by omega)) (cwV 1 hts (lw_V q1739 q1741 qs34 q76 q1742) rfl rfl rfl (by decide +kernel) ⟨Nat.le_of_ble_eq_true rfl, Nat.le_of_ble_eq_true rfl⟩) hK (va_recv hK hP (ci := 0) (q0 := 0) rfl rfl) (hP.sub [0, 3] rfl) rfl hl.1 rfl (Nat.le_of_ble_eq_true rfl) dX5_next_31 ⟨Nat.le_of_ble_eq_true rfl, Nat.le_of_ble_eq_true rfl⟩ ?_
        exact w_iret C (by rw [e1]) (by rw [e1]; exact hP) hS dX5_next_34
      · refine lv_aload_n hx hb dX5_next_13 rfl (lv_at hl 0 rfl) ?_
        refine lv_dup hx hb dX5_next_14 rfl ?_
        refine va_get hx hb hts in_X5 hown hK hP 0 rfl rfl 4 (by decide) (hts _ q1666) (fun _ h => h) rfl dX5_next_15 ?_
        refine lv_iconst (v := 1) hx hb dX5_next_18 rfl ?_
        refine lv_iadd hx hb dX5_next_19 ?_
        refine w_topi (y := nI (j + 1)) (nI_add j 1) ?_
        refine va_put hx hb hts in_X5 tyX5 tyX5_ok nmX5 hown hK hP (va_D_of hD rfl) hS 0 rfl rfl 4 (by decide) (hts _ q1666) (fun _ h => h) rfl rfl rfl rfl (Nat.le_of_ble_eq_true rfl) dX5_next_20 (fun H locs hP _ hS => ?_)
        have hP : va_P D clA ((o, .inr (0, [.int t, .ref a1, .int bl, .int (nI L), .int (nI (j + 1)), .int er, .int ea, .int eo, .ref a8, .ref a9, .ref a10, .int ud, .int ns, .int ne, .int se, .ref a15])) :: (a8, .inl (k 0, 1798, .inl d)) :: (a9, .inl (k 0, 1798, .inl dr)) :: (a1, .inl (k 0, 900, .inl fb)) :: wr) H := hP
        refine lv_goto (tgt := 0) hx hb dX5_next_23 (by decide) ?_
        exact ih_0 (j + 1) (by have := (sk_step c_10).2; omega) ((sk_step c_10).1.symm.trans he) (by omega) _ _ hP hS ls (lv_sub hl [0] rfl)
  exact loop_0 (L + 1) p0 hp rfl (by omega) _ _ hP hS ls (lv_sub hl [0] rfl)
set_option maxHeartbeats 4000000 in
theorem m_report (l : Launch) (D : va_G) (k : Nat → ClassId) (o a1 a8 a9 a10 a15 : Nat) (t bl eo ud ne se : Int32) (wr : va_W) (d dr fb : Nat → Int32) (L : Nat) (A : Nat → Prop) (σ : PS) (hD : va_D A ((o, .inr (0, [.int t, .ref a1, .int bl, .int (nI L), .int (nI σ.1), .int σ.2.1, .int σ.2.2.1, .int eo, .ref a8, .ref a9, .ref a10, .int ud, .int (nI σ.2.2.2), .int ne, .int se, .ref a15])) :: (a8, .inl (k 0, 1798, .inl d)) :: (a9, .inl (k 0, 1798, .inl dr)) :: (a1, .inl (k 0, 900, .inl fb)) :: wr)) (x y : Int32) : wM l D k yX5_report cX5_report 3 none 0 0 [.ref o, .int x, .int y] ((o, .inr (0, [.int t, .ref a1, .int bl, .int (nI L), .int (nI σ.1), .int σ.2.1, .int σ.2.2.1, .int eo, .ref a8, .ref a9, .ref a10, .int ud, .int (nI σ.2.2.2), .int ne, .int se, .ref a15])) :: (a8, .inl (k 0, 1798, .inl d)) :: (a9, .inl (k 0, 1798, .inl dr)) :: (a1, .inl (k 0, 900, .inl fb)) :: wr) (none) ((o, .inr (0, [.int t, .ref a1, .int bl, .int (nI L), .int (nI (rpS x y σ).1), .int ((rpS x y σ).2.1), .int ((rpS x y σ).2.2.1), .int eo, .ref a8, .ref a9, .ref a10, .int ud, .int (nI (rpS x y σ).2.2.2), .int ne, .int se, .ref a15])) :: (a8, .inl (k 0, 1798, .inl d)) :: (a9, .inl (k 0, 1798, .inl dr)) :: (a1, .inl (k 0, 900, .inl fb)) :: wr) A := by
  refine wM_of (by decide) (Nat.le_of_ble_eq_true rfl) ?_
  intro p e s m below meth c ls C hK hP hS hl
  obtain ⟨hx, hb, hr, hml, hown, hts, hlk⟩ := id C
  have hl : lv_has ls 3 [(0, .ref o), (1, .int x), (2, .int y)] := hl
  refine lv_aload_n hx hb dX5_report_0 rfl (lv_at hl 0 rfl) ?_
  refine va_get hx hb hts in_X5 hown hK hP 0 rfl rfl 5 (by decide) (hts _ q1667) (fun _ h => h) rfl dX5_report_1 ?_
  refine lv_if_eq (tgt := 8) hx hb dX5_report_4 (by decide) (fun c_4 => ?_) (fun c_4 => ?_)
  · refine lv_aload_n hx hb dX5_report_8 rfl (lv_at hl 0 rfl) ?_
    refine lv_iload_n hx hb dX5_report_9 rfl (lv_at hl 1 rfl) ?_
    refine va_put hx hb hts in_X5 tyX5 tyX5_ok nmX5 hown hK hP (va_D_of hD rfl) hS 0 rfl rfl 5 (by decide) (hts _ q1667) (fun _ h => h) rfl rfl rfl rfl (Nat.le_of_ble_eq_true rfl) dX5_report_10 (fun H locs hP _ hS => ?_)
    have hP : va_P D clA ((o, .inr (0, [.int t, .ref a1, .int bl, .int (nI L), .int (nI σ.1), .int x, .int σ.2.2.1, .int eo, .ref a8, .ref a9, .ref a10, .int ud, .int (nI σ.2.2.2), .int ne, .int se, .ref a15])) :: (a8, .inl (k 0, 1798, .inl d)) :: (a9, .inl (k 0, 1798, .inl dr)) :: (a1, .inl (k 0, 900, .inl fb)) :: wr) H := hP
    refine lv_aload_n hx hb dX5_report_13 rfl (lv_at hl 0 rfl) ?_
    refine lv_iload_n hx hb dX5_report_14 rfl (lv_at hl 2 rfl) ?_
    refine va_put hx hb hts in_X5 tyX5 tyX5_ok nmX5 hown hK hP (va_D_of hD rfl) hS 0 rfl rfl 6 (by decide) (hts _ q1668) (fun _ h => h) rfl rfl rfl rfl (Nat.le_of_ble_eq_true rfl) dX5_report_15 (fun H locs hP _ hS => ?_)
    have hP : va_P D clA ((o, .inr (0, [.int t, .ref a1, .int bl, .int (nI L), .int (nI σ.1), .int x, .int y, .int eo, .ref a8, .ref a9, .ref a10, .int ud, .int (nI σ.2.2.2), .int ne, .int se, .ref a15])) :: (a8, .inl (k 0, 1798, .inl d)) :: (a9, .inl (k 0, 1798, .inl dr)) :: (a1, .inl (k 0, 900, .inl fb)) :: wr) H := hP
    exact w_vret C (by simp only [rpS, ifp_t c_4]; exact hP) hS dX5_report_18
  · exact w_vret C (by simp only [rpS, ifp_f c_4]; exact hP) hS dX5_report_7
set_option maxHeartbeats 4000000 in
theorem m_expect (l : Launch) (D : va_G) (k : Nat → ClassId) (o a1 a8 a9 a10 a15 : Nat) (t bl eo ud ne se : Int32) (wr : va_W) (d dr fb : Nat → Int32) (L : Nat) (hL : L ≤ 900) (σ : PS) (A : Nat → Prop) (hD : va_D A ((o, .inr (0, [.int t, .ref a1, .int bl, .int (nI L), .int (nI σ.1), .int σ.2.1, .int σ.2.2.1, .int eo, .ref a8, .ref a9, .ref a10, .int ud, .int (nI σ.2.2.2), .int ne, .int se, .ref a15])) :: (a8, .inl (k 0, 1798, .inl d)) :: (a9, .inl (k 0, 1798, .inl dr)) :: (a1, .inl (k 0, 900, .inl fb)) :: wr)) (hok : okS L σ) (x : Int32) : wM l D k yX5_expect cX5_expect 2 none 2 41 [.ref o, .int x] ((o, .inr (0, [.int t, .ref a1, .int bl, .int (nI L), .int (nI σ.1), .int σ.2.1, .int σ.2.2.1, .int eo, .ref a8, .ref a9, .ref a10, .int ud, .int (nI σ.2.2.2), .int ne, .int se, .ref a15])) :: (a8, .inl (k 0, 1798, .inl d)) :: (a9, .inl (k 0, 1798, .inl dr)) :: (a1, .inl (k 0, 900, .inl fb)) :: wr) (none) ((o, .inr (0, [.int t, .ref a1, .int bl, .int (nI L), .int (nI (exS fb L x σ).1), .int ((exS fb L x σ).2.1), .int ((exS fb L x σ).2.2.1), .int eo, .ref a8, .ref a9, .ref a10, .int ud, .int (nI (exS fb L x σ).2.2.2), .int ne, .int se, .ref a15])) :: (a8, .inl (k 0, 1798, .inl d)) :: (a9, .inl (k 0, 1798, .inl dr)) :: (a1, .inl (k 0, 900, .inl fb)) :: wr) A := by
  refine wM_of (by decide) (Nat.le_of_ble_eq_true rfl) ?_
  intro p e s m below meth c ls C hK hP hS hl
  obtain ⟨hx, hb, hr, hml, hown, hts, hlk⟩ := id C
  have hl : lv_has ls 2 [(0, .ref o), (1, .int x)] := hl
  refine lv_aload_n hx hb dX5_expect_0 rfl (lv_at hl 0 rfl) ?_
  refine r_callV (As := []) (rest := []) C (m_isGood l D k o σ.2.1 ([.int t, .ref a1, .int bl, .int (nI L), .int (nI σ.1), .int σ.2.1, .int σ.2.2.1, .int eo, .ref a8, .ref a9, .ref a10, .int ud, .int (nI σ.2.2.2), .int ne, .int se, .ref a15] : List Value) rfl) (cwV 0 hts (lw_V q1731 q1733 qs32 q76 q1734) rfl rfl rfl (by decide +kernel) ⟨Nat.le_of_ble_eq_true rfl, Nat.le_of_ble_eq_true rfl⟩) hK (va_recv hK hP (ci := 0) (q0 := 0) rfl rfl) (hP.sub [0] rfl) rfl hl.1 rfl (Nat.le_of_ble_eq_true rfl) dX5_expect_1 ⟨Nat.le_of_ble_eq_true rfl, Nat.le_of_ble_eq_true rfl⟩ ?_
  refine lv_if_ne (tgt := 8) hx hb dX5_expect_4 (by decide) (fun c_4 => ?_) (fun c_4 => ?_)
  · have b_4 := bI_nz c_4
    have hp := hok.1 b_4
    have hs := sk_in (fb := fb) hp
    refine lv_aload_n hx hb dX5_expect_8 rfl (lv_at hl 0 rfl) ?_
    refine w_callV (As := []) (rest := []) C (m_next l D k o a1 a8 a9 a10 a15 t bl σ.2.1 σ.2.2.1 eo ud (nI σ.2.2.2) ne se wr d dr fb L hL σ.1 A (va_D_of hD rfl) hp) (cwV 0 hts (lw_V q1735 q1737 qs33 q76 q1738) rfl rfl rfl (by decide +kernel) ⟨Nat.le_of_ble_eq_true rfl, Nat.le_of_ble_eq_true rfl⟩) hK (va_recv hK hP (ci := 0) (q0 := 0) rfl rfl) hP hS (fun _ h => h) rfl hl.1 rfl (Nat.le_of_ble_eq_true rfl) dX5_expect_9 ⟨Nat.le_of_ble_eq_true rfl, Nat.le_of_ble_eq_true rfl⟩ (fun H locs hP hS _ _ => ?_)
    have hP : va_P D clA ((o, .inr (0, [.int t, .ref a1, .int bl, .int (nI L), .int (nI (sk fb L σ.1)), .int σ.2.1, .int σ.2.2.1, .int eo, .ref a8, .ref a9, .ref a10, .int ud, .int (nI σ.2.2.2), .int ne, .int se, .ref a15])) :: (a8, .inl (k 0, 1798, .inl d)) :: (a9, .inl (k 0, 1798, .inl dr)) :: (a1, .inl (k 0, 900, .inl fb)) :: wr) H := hP
    refine lv_iload_n hx hb dX5_expect_12 rfl (lv_at hl 1 rfl) ?_
    refine lv_icmp_ne (tgt := 29) hx hb dX5_expect_13 (by decide) (fun c_13 => ?_) (fun c_13 => ?_)
    · refine lv_aload_n hx hb dX5_expect_29 rfl (lv_at hl 0 rfl) ?_
      refine lv_bipush (v := (-2)) hx hb dX5_expect_30 rfl ?_
      refine lv_aload_n hx hb dX5_expect_32 rfl (lv_at hl 0 rfl) ?_
      refine va_get hx hb hts in_X5 hown hK hP 0 rfl rfl 4 (by decide) (hts _ q1666) (fun _ h => h) rfl dX5_expect_33 ?_
      refine w_callV (As := [.int (-2), .int (nI (sk fb L σ.1))]) (rest := []) C (m_report l D k o a1 a8 a9 a10 a15 t bl eo ud ne se wr d dr fb L A ((sk fb L σ.1), σ.2.1, σ.2.2.1, σ.2.2.2) (va_D_of hD rfl) (-2) (nI (sk fb L σ.1))) (cwV 2 hts (lw_V q1775 q1777 qs39 q76 q1778) rfl rfl rfl (by decide +kernel) ⟨Nat.le_of_ble_eq_true rfl, Nat.le_of_ble_eq_true rfl⟩) hK (va_recv hK hP (ci := 0) (q0 := 0) rfl rfl) hP hS (fun _ h => h) rfl hl.1 rfl (Nat.le_of_ble_eq_true rfl) dX5_expect_36 ⟨Nat.le_of_ble_eq_true rfl, Nat.le_of_ble_eq_true rfl⟩ (fun H locs hP hS _ _ => ?_)
      have hP : va_P D clA ((o, .inr (0, [.int t, .ref a1, .int bl, .int (nI L), .int (nI (rpS (-2) (nI (sk fb L σ.1)) ((sk fb L σ.1), σ.2.1, σ.2.2.1, σ.2.2.2)).1), .int ((rpS (-2) (nI (sk fb L σ.1)) ((sk fb L σ.1), σ.2.1, σ.2.2.1, σ.2.2.2)).2.1), .int ((rpS (-2) (nI (sk fb L σ.1)) ((sk fb L σ.1), σ.2.1, σ.2.2.1, σ.2.2.2)).2.2.1), .int eo, .ref a8, .ref a9, .ref a10, .int ud, .int (nI (rpS (-2) (nI (sk fb L σ.1)) ((sk fb L σ.1), σ.2.1, σ.2.2.1, σ.2.2.2)).2.2.2), .int ne, .int se, .ref a15])) :: (a8, .inl (k 0, 1798, .inl d)) :: (a9, .inl (k 0, 1798, .inl dr)) :: (a1, .inl (k 0, 900, .inl fb)) :: wr) H := hP
      exact w_vret C (by simp only [exS, ifp_t b_4, ifp_f c_13]; simp only [rpS, ifp_t b_4] at hP; exact hP) hS dX5_expect_39
    · refine lv_aload_n hx hb dX5_expect_16 rfl (lv_at hl 0 rfl) ?_
      refine lv_dup hx hb dX5_expect_17 rfl ?_
      refine va_get hx hb hts in_X5 hown hK hP 0 rfl rfl 4 (by decide) (hts _ q1666) (fun _ h => h) rfl dX5_expect_18 ?_
      refine lv_iconst (v := 1) hx hb dX5_expect_21 rfl ?_
      refine lv_iadd hx hb dX5_expect_22 ?_
      refine w_topi (y := nI ((sk fb L σ.1) + 1)) (nI_add (sk fb L σ.1) 1) ?_
      refine va_put hx hb hts in_X5 tyX5 tyX5_ok nmX5 hown hK hP (va_D_of hD rfl) hS 0 rfl rfl 4 (by decide) (hts _ q1666) (fun _ h => h) rfl rfl rfl rfl (Nat.le_of_ble_eq_true rfl) dX5_expect_23 (fun H locs hP _ hS => ?_)
      have hP : va_P D clA ((o, .inr (0, [.int t, .ref a1, .int bl, .int (nI L), .int (nI ((sk fb L σ.1) + 1)), .int σ.2.1, .int σ.2.2.1, .int eo, .ref a8, .ref a9, .ref a10, .int ud, .int (nI σ.2.2.2), .int ne, .int se, .ref a15])) :: (a8, .inl (k 0, 1798, .inl d)) :: (a9, .inl (k 0, 1798, .inl dr)) :: (a1, .inl (k 0, 900, .inl fb)) :: wr) H := hP
      refine lv_goto (tgt := 39) hx hb dX5_expect_26 (by decide) ?_
      exact w_vret C (by simp only [exS, ifp_t b_4, ifp_t c_13]; exact hP) hS dX5_expect_39
  · have b_4 := bI_0.mp c_4
    exact w_vret C (by simp only [exS, ifp_f b_4]; exact hP) hS dX5_expect_7
set_option maxHeartbeats 4000000 in
theorem m_number (l : Launch) (D : va_G) (k : Nat → ClassId) (o a1 a8 a9 a10 a15 : Nat) (t bl eo ud ne se : Int32) (wr : va_W) (d dr fb : Nat → Int32) (L : Nat) (hL : L ≤ 900) (σ : PS) (A : Nat → Prop) (hD : va_D A ((o, .inr (0, [.int t, .ref a1, .int bl, .int (nI L), .int (nI σ.1), .int σ.2.1, .int σ.2.2.1, .int eo, .ref a8, .ref a9, .ref a10, .int ud, .int (nI σ.2.2.2), .int ne, .int se, .ref a15])) :: (a8, .inl (k 0, 1798, .inl d)) :: (a9, .inl (k 0, 1798, .inl dr)) :: (a1, .inl (k 0, 900, .inl fb)) :: wr)) (hok : okS L σ) (lo hi : Int32) : wM l D k yX5_number cX5_number 4 (some .int) 2 42 [.ref o, .int lo, .int hi] ((o, .inr (0, [.int t, .ref a1, .int bl, .int (nI L), .int (nI σ.1), .int σ.2.1, .int σ.2.2.1, .int eo, .ref a8, .ref a9, .ref a10, .int ud, .int (nI σ.2.2.2), .int ne, .int se, .ref a15])) :: (a8, .inl (k 0, 1798, .inl d)) :: (a9, .inl (k 0, 1798, .inl dr)) :: (a1, .inl (k 0, 900, .inl fb)) :: wr) (some (.int ((nmS fb L lo hi σ).1))) ((o, .inr (0, [.int t, .ref a1, .int bl, .int (nI L), .int (nI (nmS fb L lo hi σ).2.1), .int ((nmS fb L lo hi σ).2.2.1), .int ((nmS fb L lo hi σ).2.2.2.1), .int eo, .ref a8, .ref a9, .ref a10, .int ud, .int (nI (nmS fb L lo hi σ).2.2.2.2), .int ne, .int se, .ref a15])) :: (a8, .inl (k 0, 1798, .inl d)) :: (a9, .inl (k 0, 1798, .inl dr)) :: (a1, .inl (k 0, 900, .inl fb)) :: wr) A := by
  refine wM_of (by decide) (Nat.le_of_ble_eq_true rfl) ?_
  intro p e s m below meth c ls C hK hP hS hl
  obtain ⟨hx, hb, hr, hml, hown, hts, hlk⟩ := id C
  have hl : lv_has ls 4 [(0, .ref o), (1, .int lo), (2, .int hi)] := hl
  refine lv_aload_n hx hb dX5_number_0 rfl (lv_at hl 0 rfl) ?_
  refine r_callV (As := []) (rest := []) C (m_isGood l D k o σ.2.1 ([.int t, .ref a1, .int bl, .int (nI L), .int (nI σ.1), .int σ.2.1, .int σ.2.2.1, .int eo, .ref a8, .ref a9, .ref a10, .int ud, .int (nI σ.2.2.2), .int ne, .int se, .ref a15] : List Value) rfl) (cwV 0 hts (lw_V q1731 q1733 qs32 q76 q1734) rfl rfl rfl (by decide +kernel) ⟨Nat.le_of_ble_eq_true rfl, Nat.le_of_ble_eq_true rfl⟩) hK (va_recv hK hP (ci := 0) (q0 := 0) rfl rfl) (hP.sub [0] rfl) rfl hl.1 rfl (Nat.le_of_ble_eq_true rfl) dX5_number_1 ⟨Nat.le_of_ble_eq_true rfl, Nat.le_of_ble_eq_true rfl⟩ ?_
  refine lv_if_ne (tgt := 9) hx hb dX5_number_4 (by decide) (fun c_4 => ?_) (fun c_4 => ?_)
  · have b_4 := bI_nz c_4
    have hp := hok.1 b_4
    have hs := sk_in (fb := fb) hp
    refine lv_aload_n hx hb dX5_number_9 rfl (lv_at hl 0 rfl) ?_
    refine w_callV (As := []) (rest := []) C (m_next l D k o a1 a8 a9 a10 a15 t bl σ.2.1 σ.2.2.1 eo ud (nI σ.2.2.2) ne se wr d dr fb L hL σ.1 A (va_D_of hD rfl) hp) (cwV 0 hts (lw_V q1735 q1737 qs33 q76 q1738) rfl rfl rfl (by decide +kernel) ⟨Nat.le_of_ble_eq_true rfl, Nat.le_of_ble_eq_true rfl⟩) hK (va_recv hK hP (ci := 0) (q0 := 0) rfl rfl) hP hS (fun _ h => h) rfl hl.1 rfl (Nat.le_of_ble_eq_true rfl) dX5_number_10 ⟨Nat.le_of_ble_eq_true rfl, Nat.le_of_ble_eq_true rfl⟩ (fun H locs hP hS _ _ => ?_)
    have hP : va_P D clA ((o, .inr (0, [.int t, .ref a1, .int bl, .int (nI L), .int (nI (sk fb L σ.1)), .int σ.2.1, .int σ.2.2.1, .int eo, .ref a8, .ref a9, .ref a10, .int ud, .int (nI σ.2.2.2), .int ne, .int se, .ref a15])) :: (a8, .inl (k 0, 1798, .inl d)) :: (a9, .inl (k 0, 1798, .inl dr)) :: (a1, .inl (k 0, 900, .inl fb)) :: wr) H := hP
    refine r_callS (As := [.int (byt fb L (sk fb L σ.1))]) (rest := []) C (m_isDigit l D k (byt fb L (sk fb L σ.1))) (va_cwS 1 hts (lw_S q1772 q1773 q76 q1774) rfl rfl rfl (by decide +kernel) ⟨Nat.le_of_ble_eq_true rfl, Nat.le_of_ble_eq_true rfl⟩) hK trivial rfl hl.1 rfl (Nat.le_of_ble_eq_true rfl) dX5_number_13 ⟨Nat.le_of_ble_eq_true rfl, Nat.le_of_ble_eq_true rfl⟩ ?_
    refine lv_if_ne (tgt := 31) hx hb dX5_number_16 (by decide) (fun c_16 => ?_) (fun c_16 => ?_)
    · have b_16 := bI_nz c_16
      refine lv_aload_n hx hb dX5_number_31 rfl (lv_at hl 0 rfl) ?_
      refine lv_aload_n hx hb dX5_number_32 rfl (lv_at hl 0 rfl) ?_
      refine va_get hx hb hts in_X5 hown hK hP 0 rfl rfl 4 (by decide) (hts _ q1666) (fun _ h => h) rfl dX5_number_33 ?_
      refine va_put hx hb hts in_X5 tyX5 tyX5_ok nmX5 hown hK hP (va_D_of hD rfl) hS 0 rfl rfl 12 (by decide) (hts _ q1674) (fun _ h => h) rfl rfl rfl rfl (Nat.le_of_ble_eq_true rfl) dX5_number_36 (fun H locs hP _ hS => ?_)
      have hP : va_P D clA ((o, .inr (0, [.int t, .ref a1, .int bl, .int (nI L), .int (nI (sk fb L σ.1)), .int σ.2.1, .int σ.2.2.1, .int eo, .ref a8, .ref a9, .ref a10, .int ud, .int (nI (sk fb L σ.1)), .int ne, .int se, .ref a15])) :: (a8, .inl (k 0, 1798, .inl d)) :: (a9, .inl (k 0, 1798, .inl dr)) :: (a1, .inl (k 0, 900, .inl fb)) :: wr) H := hP
      refine lv_iconst (v := 0) hx hb dX5_number_39 rfl ?_
      refine lv_istore_n (lv' := [(3, .int 0), (0, .ref o), (1, .int lo), (2, .int hi)]) hx hb dX5_number_40 rfl hl (by decide) rfl (fun ls hl => ?_)
      have loop_41 : ∀ (n : Nat) (j : Nat) (v : Int32), (j ≤ L) → (nd fb L j v = nd fb L (sk fb L σ.1) 0) → (L + 1 ≤ j + n) → ∀ (H : Heap) (locs : List Loc), va_P D clA ((o, .inr (0, [.int t, .ref a1, .int bl, .int (nI L), .int (nI j), .int σ.2.1, .int σ.2.2.1, .int eo, .ref a8, .ref a9, .ref a10, .int ud, .int (nI (sk fb L σ.1)), .int ne, .int se, .ref a15])) :: (a8, .inl (k 0, 1798, .inl d)) :: (a9, .inl (k 0, 1798, .inl dr)) :: (a1, .inl (k 0, 900, .inl fb)) :: wr) H → va_S A s.heap H locs → ∀ (ls : Array Slot), lv_has ls 4 [(0, .ref o), (1, .int lo), (2, .int hi), (3, .int v)] → W p l e (Rm 2 42 0 0) s m ([.ref o, .int lo, .int hi] : List Value).toArray below meth c H locs 0 0 (MQ below (wQ D (some (.int ((nmS fb L lo hi σ).1))) ((o, .inr (0, [.int t, .ref a1, .int bl, .int (nI L), .int (nI (nmS fb L lo hi σ).2.1), .int ((nmS fb L lo hi σ).2.2.1), .int ((nmS fb L lo hi σ).2.2.2.1), .int eo, .ref a8, .ref a9, .ref a10, .int ud, .int (nI (nmS fb L lo hi σ).2.2.2.2), .int ne, .int se, .ref a15])) :: (a8, .inl (k 0, 1798, .inl d)) :: (a9, .inl (k 0, 1798, .inl dr)) :: (a1, .inl (k 0, 900, .inl fb)) :: wr) A) ([.ref o, .int lo, .int hi] : List Value).toArray s 0 0 A) (F0 m 41 ls []) := by
        intro n
        induction n with
        | zero =>
          intro j v hj he hn
          exact absurd hn (by omega)
        | succ n ih_41 =>
          intro j v hj he hn H locs hP hS ls hl
          refine lv_aload_n hx hb dX5_number_41 rfl (lv_at hl 0 rfl) ?_
          refine lv_aload_n hx hb dX5_number_42 rfl (lv_at hl 0 rfl) ?_
          refine va_get hx hb hts in_X5 hown hK hP 0 rfl rfl 4 (by decide) (hts _ q1666) (fun _ h => h) rfl dX5_number_43 ?_
          refine r_callV (As := [.int (nI j)]) (rest := []) C (m_byteAt l D k o a1 L j ([.int t, .ref a1, .int bl, .int (nI L), .int (nI j), .int σ.2.1, .int σ.2.2.1, .int eo, .ref a8, .ref a9, .ref a10, .int ud, .int (nI (sk fb L σ.1)), .int ne, .int se, .ref a15] : List Value) fb rfl rfl hL (by omega)) (cwV 1 hts (lw_V q1739 q1741 qs34 q76 q1742) rfl rfl rfl (by decide +kernel) ⟨Nat.le_of_ble_eq_true rfl, Nat.le_of_ble_eq_true rfl⟩) hK (va_recv hK hP (ci := 0) (q0 := 0) rfl rfl) (hP.sub [0, 3] rfl) rfl hl.1 rfl (Nat.le_of_ble_eq_true rfl) dX5_number_46 ⟨Nat.le_of_ble_eq_true rfl, Nat.le_of_ble_eq_true rfl⟩ ?_
          refine r_callS (As := [.int (byt fb L j)]) (rest := []) C (m_isDigit l D k (byt fb L j)) (va_cwS 1 hts (lw_S q1772 q1773 q76 q1774) rfl rfl rfl (by decide +kernel) ⟨Nat.le_of_ble_eq_true rfl, Nat.le_of_ble_eq_true rfl⟩) hK trivial rfl hl.1 rfl (Nat.le_of_ble_eq_true rfl) dX5_number_49 ⟨Nat.le_of_ble_eq_true rfl, Nat.le_of_ble_eq_true rfl⟩ ?_
          refine lv_if_eq (tgt := 90) hx hb dX5_number_52 (by decide) (fun c_52 => ?_) (fun c_52 => ?_)
          · have b_52 := bI_0.mp c_52
            have e1 : nd fb L (sk fb L σ.1) 0 = (j, v) := he.symm.trans (nd_stop b_52)
            refine lv_iload_n hx hb dX5_number_90 rfl (lv_at hl 3 rfl) ?_
            refine lv_iload_n hx hb dX5_number_91 rfl (lv_at hl 1 rfl) ?_
            refine lv_iload_n hx hb dX5_number_92 rfl (lv_at hl 2 rfl) ?_
            refine r_callS (As := [.int v, .int lo, .int hi]) (rest := []) C (m_in l D k v lo hi) (va_cwS 3 hts (lw_S q1724 q1725 q76 q1726) rfl rfl rfl (by decide +kernel) ⟨Nat.le_of_ble_eq_true rfl, Nat.le_of_ble_eq_true rfl⟩) hK trivial rfl hl.1 rfl (Nat.le_of_ble_eq_true rfl) dX5_number_93 ⟨Nat.le_of_ble_eq_true rfl, Nat.le_of_ble_eq_true rfl⟩ ?_
            refine lv_if_ne (tgt := 109) hx hb dX5_number_96 (by decide) (fun c_96 => ?_) (fun c_96 => ?_)
            · have b_96 := bI_nz c_96
              refine lv_iload_n hx hb dX5_number_109 rfl (lv_at hl 3 rfl) ?_
              exact w_iret C (by simp only [nmS, ifp_t b_4, ifp_t (show dig _ from b_16), e1]) (by simp only [nmS, ifp_t b_4, ifp_t (show dig _ from b_16), e1, ifp_t b_96]; rw [b_4] at hP; exact hP) hS dX5_number_110
            · have b_96 := bI_0.mp c_96
              refine lv_aload_n hx hb dX5_number_99 rfl (lv_at hl 0 rfl) ?_
              refine lv_bipush (v := (-3)) hx hb dX5_number_100 rfl ?_
              refine lv_aload_n hx hb dX5_number_102 rfl (lv_at hl 0 rfl) ?_
              refine va_get hx hb hts in_X5 hown hK hP 0 rfl rfl 12 (by decide) (hts _ q1674) (fun _ h => h) rfl dX5_number_103 ?_
              refine w_callV (As := [.int (-3), .int (nI (sk fb L σ.1))]) (rest := []) C (m_report l D k o a1 a8 a9 a10 a15 t bl eo ud ne se wr d dr fb L A (j, σ.2.1, σ.2.2.1, (sk fb L σ.1)) (va_D_of hD rfl) (-3) (nI (sk fb L σ.1))) (cwV 2 hts (lw_V q1775 q1777 qs39 q76 q1778) rfl rfl rfl (by decide +kernel) ⟨Nat.le_of_ble_eq_true rfl, Nat.le_of_ble_eq_true rfl⟩) hK (va_recv hK hP (ci := 0) (q0 := 0) rfl rfl) hP hS (fun _ h => h) rfl hl.1 rfl (Nat.le_of_ble_eq_true rfl) dX5_number_106 ⟨Nat.le_of_ble_eq_true rfl, Nat.le_of_ble_eq_true rfl⟩ (fun H locs hP hS _ _ => ?_)
              have hP : va_P D clA ((o, .inr (0, [.int t, .ref a1, .int bl, .int (nI L), .int (nI (rpS (-3) (nI (sk fb L σ.1)) (j, σ.2.1, σ.2.2.1, (sk fb L σ.1))).1), .int ((rpS (-3) (nI (sk fb L σ.1)) (j, σ.2.1, σ.2.2.1, (sk fb L σ.1))).2.1), .int ((rpS (-3) (nI (sk fb L σ.1)) (j, σ.2.1, σ.2.2.1, (sk fb L σ.1))).2.2.1), .int eo, .ref a8, .ref a9, .ref a10, .int ud, .int (nI (rpS (-3) (nI (sk fb L σ.1)) (j, σ.2.1, σ.2.2.1, (sk fb L σ.1))).2.2.2), .int ne, .int se, .ref a15])) :: (a8, .inl (k 0, 1798, .inl d)) :: (a9, .inl (k 0, 1798, .inl dr)) :: (a1, .inl (k 0, 900, .inl fb)) :: wr) H := hP
              refine lv_iload_n hx hb dX5_number_109 rfl (lv_at hl 3 rfl) ?_
              exact w_iret C (by simp only [nmS, ifp_t b_4, ifp_t (show dig _ from b_16), e1]) (by simp only [nmS, ifp_t b_4, ifp_t (show dig _ from b_16), e1, ifp_f b_96]; simp only [rpS, ifp_t b_4] at hP; exact hP) hS dX5_number_110
          · have b_52 := bI_nz c_52
            refine lv_ldc (v := 1000000) hx hb hown (hts _ q1779) dX5_number_55 ?_
            refine lv_bipush (v := 10) hx hb dX5_number_57 rfl ?_
            refine lv_iload_n hx hb dX5_number_59 rfl (lv_at hl 3 rfl) ?_
            refine lv_imul hx hb dX5_number_60 ?_
            refine lv_aload_n hx hb dX5_number_61 rfl (lv_at hl 0 rfl) ?_
            refine lv_aload_n hx hb dX5_number_62 rfl (lv_at hl 0 rfl) ?_
            refine va_get hx hb hts in_X5 hown hK hP 0 rfl rfl 4 (by decide) (hts _ q1666) (fun _ h => h) rfl dX5_number_63 ?_
            refine r_callV (As := [.int (nI j)]) (rest := [.int (10 * v), .int 1000000]) C (m_byteAt l D k o a1 L j ([.int t, .ref a1, .int bl, .int (nI L), .int (nI j), .int σ.2.1, .int σ.2.2.1, .int eo, .ref a8, .ref a9, .ref a10, .int ud, .int (nI (sk fb L σ.1)), .int ne, .int se, .ref a15] : List Value) fb rfl rfl hL (by omega)) (cwV 1 hts (lw_V q1739 q1741 qs34 q76 q1742) rfl rfl rfl (by decide +kernel) ⟨Nat.le_of_ble_eq_true rfl, Nat.le_of_ble_eq_true rfl⟩) hK (va_recv hK hP (ci := 0) (q0 := 0) rfl rfl) (hP.sub [0, 3] rfl) rfl hl.1 rfl (Nat.le_of_ble_eq_true rfl) dX5_number_66 ⟨Nat.le_of_ble_eq_true rfl, Nat.le_of_ble_eq_true rfl⟩ ?_
            refine lv_iadd hx hb dX5_number_69 ?_
            refine lv_bipush (v := 48) hx hb dX5_number_70 rfl ?_
            refine lv_isub hx hb dX5_number_72 ?_
            refine r_callS (As := [.int 1000000, .int (((10 * v) + (byt fb L j)) - 48)]) (rest := []) C (m_min l D k 1000000 (((10 * v) + (byt fb L j)) - 48)) (va_cwS 2 hts (lw_S q1780 q1781 q76 q1782) rfl rfl rfl (by decide +kernel) ⟨Nat.le_of_ble_eq_true rfl, Nat.le_of_ble_eq_true rfl⟩) hK trivial rfl hl.1 rfl (Nat.le_of_ble_eq_true rfl) dX5_number_73 ⟨Nat.le_of_ble_eq_true rfl, Nat.le_of_ble_eq_true rfl⟩ ?_
            refine lv_istore_n (lv' := [(3, .int (mn 1000000 (((10 * v) + (byt fb L j)) - 48))), (0, .ref o), (1, .int lo), (2, .int hi)]) hx hb dX5_number_76 rfl hl (by decide) rfl (fun ls hl => ?_)
            refine lv_aload_n hx hb dX5_number_77 rfl (lv_at hl 1 rfl) ?_
            refine lv_dup hx hb dX5_number_78 rfl ?_
            refine va_get hx hb hts in_X5 hown hK hP 0 rfl rfl 4 (by decide) (hts _ q1666) (fun _ h => h) rfl dX5_number_79 ?_
            refine lv_iconst (v := 1) hx hb dX5_number_82 rfl ?_
            refine lv_iadd hx hb dX5_number_83 ?_
            refine w_topi (y := nI (j + 1)) (nI_add j 1) ?_
            refine va_put hx hb hts in_X5 tyX5 tyX5_ok nmX5 hown hK hP (va_D_of hD rfl) hS 0 rfl rfl 4 (by decide) (hts _ q1666) (fun _ h => h) rfl rfl rfl rfl (Nat.le_of_ble_eq_true rfl) dX5_number_84 (fun H locs hP _ hS => ?_)
            have hP : va_P D clA ((o, .inr (0, [.int t, .ref a1, .int bl, .int (nI L), .int (nI (j + 1)), .int σ.2.1, .int σ.2.2.1, .int eo, .ref a8, .ref a9, .ref a10, .int ud, .int (nI (sk fb L σ.1)), .int ne, .int se, .ref a15])) :: (a8, .inl (k 0, 1798, .inl d)) :: (a9, .inl (k 0, 1798, .inl dr)) :: (a1, .inl (k 0, 900, .inl fb)) :: wr) H := hP
            refine lv_goto (tgt := 41) hx hb dX5_number_87 (by decide) ?_
            exact ih_41 (j + 1) _ (by have := dig_lt b_52; omega) ((nd_step b_52).symm.trans he) (by omega) _ _ hP hS ls (lv_sub hl [1, 2, 3, 0] rfl)
      exact loop_41 (L + 1) (sk fb L σ.1) 0 hs.2 rfl (by omega) _ _ hP hS ls (lv_sub hl [1, 2, 3, 0] rfl)
    · have b_16 := bI_0.mp c_16
      refine lv_aload_n hx hb dX5_number_19 rfl (lv_at hl 0 rfl) ?_
      refine lv_bipush (v := (-2)) hx hb dX5_number_20 rfl ?_
      refine lv_aload_n hx hb dX5_number_22 rfl (lv_at hl 0 rfl) ?_
      refine va_get hx hb hts in_X5 hown hK hP 0 rfl rfl 4 (by decide) (hts _ q1666) (fun _ h => h) rfl dX5_number_23 ?_
      refine w_callV (As := [.int (-2), .int (nI (sk fb L σ.1))]) (rest := []) C (m_report l D k o a1 a8 a9 a10 a15 t bl eo ud ne se wr d dr fb L A ((sk fb L σ.1), σ.2.1, σ.2.2.1, σ.2.2.2) (va_D_of hD rfl) (-2) (nI (sk fb L σ.1))) (cwV 2 hts (lw_V q1775 q1777 qs39 q76 q1778) rfl rfl rfl (by decide +kernel) ⟨Nat.le_of_ble_eq_true rfl, Nat.le_of_ble_eq_true rfl⟩) hK (va_recv hK hP (ci := 0) (q0 := 0) rfl rfl) hP hS (fun _ h => h) rfl hl.1 rfl (Nat.le_of_ble_eq_true rfl) dX5_number_26 ⟨Nat.le_of_ble_eq_true rfl, Nat.le_of_ble_eq_true rfl⟩ (fun H locs hP hS _ _ => ?_)
      have hP : va_P D clA ((o, .inr (0, [.int t, .ref a1, .int bl, .int (nI L), .int (nI (rpS (-2) (nI (sk fb L σ.1)) ((sk fb L σ.1), σ.2.1, σ.2.2.1, σ.2.2.2)).1), .int ((rpS (-2) (nI (sk fb L σ.1)) ((sk fb L σ.1), σ.2.1, σ.2.2.1, σ.2.2.2)).2.1), .int ((rpS (-2) (nI (sk fb L σ.1)) ((sk fb L σ.1), σ.2.1, σ.2.2.1, σ.2.2.2)).2.2.1), .int eo, .ref a8, .ref a9, .ref a10, .int ud, .int (nI (rpS (-2) (nI (sk fb L σ.1)) ((sk fb L σ.1), σ.2.1, σ.2.2.1, σ.2.2.2)).2.2.2), .int ne, .int se, .ref a15])) :: (a8, .inl (k 0, 1798, .inl d)) :: (a9, .inl (k 0, 1798, .inl dr)) :: (a1, .inl (k 0, 900, .inl fb)) :: wr) H := hP
      refine lv_iconst (v := 0) hx hb dX5_number_29 rfl ?_
      exact w_iret C (by simp only [nmS, ifp_t b_4, ifp_f (show ¬ dig _ from b_16)]) (by simp only [nmS, ifp_t b_4, ifp_f (show ¬ dig _ from b_16)]; simp only [rpS, ifp_t b_4] at hP; exact hP) hS dX5_number_30
  · have b_4 := bI_0.mp c_4
    refine lv_iconst (v := 0) hx hb dX5_number_7 rfl ?_
    exact w_iret C (by simp only [nmS, ifp_f b_4]) (by simp only [nmS, ifp_f b_4]; exact hP) hS dX5_number_8
set_option maxHeartbeats 4000000 in
theorem m_emit (l : Launch) (D : va_G) (k : Nat → ClassId) (o a1 a8 a9 a10 a15 : Nat) (t bl eo ud ne se : Int32) (wr : va_W) (d dr fb : Nat → Int32) (L : Nat) (hL : L ≤ 900) (σ : PS) (A : Nat → Prop) (hD : va_D A ((o, .inr (0, [.int t, .ref a1, .int bl, .int (nI L), .int (nI σ.1), .int σ.2.1, .int σ.2.2.1, .int eo, .ref a8, .ref a9, .ref a10, .int ud, .int (nI σ.2.2.2), .int ne, .int se, .ref a15])) :: (a8, .inl (k 0, 1798, .inl d)) :: (a9, .inl (k 0, 1798, .inl dr)) :: (a1, .inl (k 0, 900, .inl fb)) :: wr)) (hok : okS L σ) (x : Int32) (hc : σ.2.1 = 0 → dr 5 = nI (dN dr 5) ∧ dN dr 5 < 1500) : wM l D k yX5_emit cX5_emit 2 none 1 20 [.ref o, .int x] ((o, .inr (0, [.int t, .ref a1, .int bl, .int (nI L), .int (nI σ.1), .int σ.2.1, .int σ.2.2.1, .int eo, .ref a8, .ref a9, .ref a10, .int ud, .int (nI σ.2.2.2), .int ne, .int se, .ref a15])) :: (a8, .inl (k 0, 1798, .inl d)) :: (a9, .inl (k 0, 1798, .inl dr)) :: (a1, .inl (k 0, 900, .inl fb)) :: wr) (none) ((o, .inr (0, [.int t, .ref a1, .int bl, .int (nI L), .int (nI σ.1), .int σ.2.1, .int σ.2.2.1, .int eo, .ref a8, .ref a9, .ref a10, .int ud, .int (nI σ.2.2.2), .int ne, .int se, .ref a15])) :: (a8, .inl (k 0, 1798, .inl d)) :: (a9, .inl (k 0, 1798, .inl (emS dr x σ))) :: (a1, .inl (k 0, 900, .inl fb)) :: wr) A := by
  refine wM_of (by decide) (Nat.le_of_ble_eq_true rfl) ?_
  intro p e s m below meth c ls C hK hP hS hl
  obtain ⟨hx, hb, hr, hml, hown, hts, hlk⟩ := id C
  have hl : lv_has ls 2 [(0, .ref o), (1, .int x)] := hl
  refine lv_aload_n hx hb dX5_emit_0 rfl (lv_at hl 0 rfl) ?_
  refine r_callV (As := []) (rest := []) C (m_isGood l D k o σ.2.1 ([.int t, .ref a1, .int bl, .int (nI L), .int (nI σ.1), .int σ.2.1, .int σ.2.2.1, .int eo, .ref a8, .ref a9, .ref a10, .int ud, .int (nI σ.2.2.2), .int ne, .int se, .ref a15] : List Value) rfl) (cwV 0 hts (lw_V q1731 q1733 qs32 q76 q1734) rfl rfl rfl (by decide +kernel) ⟨Nat.le_of_ble_eq_true rfl, Nat.le_of_ble_eq_true rfl⟩) hK (va_recv hK hP (ci := 0) (q0 := 0) rfl rfl) (hP.sub [0] rfl) rfl hl.1 rfl (Nat.le_of_ble_eq_true rfl) dX5_emit_1 ⟨Nat.le_of_ble_eq_true rfl, Nat.le_of_ble_eq_true rfl⟩ ?_
  refine lv_if_ne (tgt := 8) hx hb dX5_emit_4 (by decide) (fun c_4 => ?_) (fun c_4 => ?_)
  · have b_4 := bI_nz c_4
    obtain ⟨c1, c2⟩ := hc b_4
    refine lv_aload_n hx hb dX5_emit_8 rfl (lv_at hl 0 rfl) ?_
    refine va_get hx hb hts in_X5 hown hK hP 0 rfl rfl 9 (by decide) (hts _ q1671) (fun _ h => h) rfl dX5_emit_9 ?_
    refine lv_sipush (v := 298) hx hb dX5_emit_12 rfl ?_
    refine lv_aload_n hx hb dX5_emit_15 rfl (lv_at hl 0 rfl) ?_
    refine va_get hx hb hts in_X5 hown hK hP 0 rfl rfl 9 (by decide) (hts _ q1671) (fun _ h => h) rfl dX5_emit_16 ?_
    refine lv_iconst (v := 5) hx hb dX5_emit_19 rfl ?_
    refine w_iald hx hb hK hP 2 rfl 5 rfl (Nat.le_of_ble_eq_true rfl) (Nat.le_of_ble_eq_true rfl) dX5_emit_20 ?_
    refine w_topi (y := nI (dN dr 5)) c1 ?_
    refine lv_iadd hx hb dX5_emit_21 ?_
    refine w_topi (y := nI (298 + (dN dr 5))) (nI_add 298 (dN dr 5)) ?_
    refine lv_iload_n hx hb dX5_emit_22 rfl (lv_at hl 1 rfl) ?_
    refine w_iast hx hb hK hP (va_D_of hD rfl) hS 2 rfl (298 + (dN dr 5)) rfl (by omega) (Nat.le_of_ble_eq_true rfl) dX5_emit_23 (fun H locs hP _ hS => ?_)
    have hP : va_P D clA ((o, .inr (0, [.int t, .ref a1, .int bl, .int (nI L), .int (nI σ.1), .int σ.2.1, .int σ.2.2.1, .int eo, .ref a8, .ref a9, .ref a10, .int ud, .int (nI σ.2.2.2), .int ne, .int se, .ref a15])) :: (a8, .inl (k 0, 1798, .inl d)) :: (a9, .inl (k 0, 1798, .inl (upd dr (298 + (dN dr 5)) x))) :: (a1, .inl (k 0, 900, .inl fb)) :: wr) H := hP
    refine lv_aload_n hx hb dX5_emit_24 rfl (lv_at hl 0 rfl) ?_
    refine va_get hx hb hts in_X5 hown hK hP 0 rfl rfl 9 (by decide) (hts _ q1671) (fun _ h => h) rfl dX5_emit_25 ?_
    refine lv_iconst (v := 5) hx hb dX5_emit_28 rfl ?_
    refine lv_dup2_11 hx hb dX5_emit_29 rfl rfl ?_
    refine w_iald hx hb hK hP 2 rfl 5 rfl (Nat.le_of_ble_eq_true rfl) (Nat.le_of_ble_eq_true rfl) dX5_emit_30 ?_
    refine w_topi (y := nI (dN dr 5)) (by rw [pk_un (by omega)]; exact c1) ?_
    refine lv_iconst (v := 1) hx hb dX5_emit_31 rfl ?_
    refine lv_iadd hx hb dX5_emit_32 ?_
    refine w_topi (y := nI ((dN dr 5) + 1)) (nI_add (dN dr 5) 1) ?_
    refine w_iast hx hb hK hP (va_D_of hD rfl) hS 2 rfl 5 rfl (Nat.le_of_ble_eq_true rfl) (Nat.le_of_ble_eq_true rfl) dX5_emit_33 (fun H locs hP _ hS => ?_)
    have hP : va_P D clA ((o, .inr (0, [.int t, .ref a1, .int bl, .int (nI L), .int (nI σ.1), .int σ.2.1, .int σ.2.2.1, .int eo, .ref a8, .ref a9, .ref a10, .int ud, .int (nI σ.2.2.2), .int ne, .int se, .ref a15])) :: (a8, .inl (k 0, 1798, .inl d)) :: (a9, .inl (k 0, 1798, .inl (upd (upd dr (298 + (dN dr 5)) x) 5 (nI ((dN dr 5) + 1))))) :: (a1, .inl (k 0, 900, .inl fb)) :: wr) H := hP
    exact w_vret C (by simp only [emS, ifp_t b_4]; exact hP) hS dX5_emit_34
  · have b_4 := bI_0.mp c_4
    exact w_vret C (by simp only [emS, ifp_f b_4]; exact hP) hS dX5_emit_7
