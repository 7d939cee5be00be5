/-! the reference, part 9 (printed by gen/m9.py) -/
set_option maxRecDepth 100000
set_option maxHeartbeats 4000000 in
theorem m_once (l : Launch) (D : va_G) (k : Nat → ClassId) (o a1 a8 a9 a10 a15 : Nat) (t bl eo ud ne se : Int32) (wr : va_W) (d dr fb : Nat → Int32) (L : Nat) (hL : L ≤ 900) (σ : PS) (A : Nat → Prop) (hD : va_D A ((o, .inr (0, [.int t, .ref a1, .int bl, .int (nI L), .int (nI σ.1), .int σ.2.1, .int σ.2.2.1, .int eo, .ref a8, .ref a9, .ref a10, .int ud, .int (nI σ.2.2.2), .int ne, .int se, .ref a15])) :: (a8, .inl (k 0, 1798, .inl d)) :: (a9, .inl (k 0, 1798, .inl dr)) :: (a1, .inl (k 0, 900, .inl fb)) :: wr)) (hok : okS L σ) (x : Int32) : wM l D k yX5_once cX5_once 3 none 1 22 [.ref o, .int 0, .int x] ((o, .inr (0, [.int t, .ref a1, .int bl, .int (nI L), .int (nI σ.1), .int σ.2.1, .int σ.2.2.1, .int eo, .ref a8, .ref a9, .ref a10, .int ud, .int (nI σ.2.2.2), .int ne, .int se, .ref a15])) :: (a8, .inl (k 0, 1798, .inl d)) :: (a9, .inl (k 0, 1798, .inl dr)) :: (a1, .inl (k 0, 900, .inl fb)) :: wr) (none) ((o, .inr (0, [.int t, .ref a1, .int bl, .int (nI L), .int (nI (ifp (se >>> ((0 : Int32) &&& 31) &&& 1 = 1) (rpS (-2) x σ) σ).1), .int ((ifp (se >>> ((0 : Int32) &&& 31) &&& 1 = 1) (rpS (-2) x σ) σ).2.1), .int ((ifp (se >>> ((0 : Int32) &&& 31) &&& 1 = 1) (rpS (-2) x σ) σ).2.2.1), .int eo, .ref a8, .ref a9, .ref a10, .int ud, .int (nI (ifp (se >>> ((0 : Int32) &&& 31) &&& 1 = 1) (rpS (-2) x σ) σ).2.2.2), .int ne, .int (se ||| ((1 : Int32) <<< ((0 : Int32) &&& 31))), .ref a15])) :: (a8, .inl (k 0, 1798, .inl d)) :: (a9, .inl (k 0, 1798, .inl dr)) :: (a1, .inl (k 0, 900, .inl fb)) :: wr) A := by
  refine wM_of (by decide) (Nat.le_of_ble_eq_true rfl) ?_
  intro p e s m below meth c ls C hK hP hS hl
  obtain ⟨hx, hb, hr, hml, hown, hts, hlk⟩ := id C
  have hl : lv_has ls 3 [(0, .ref o), (1, .int 0), (2, .int x)] := hl
  refine lv_aload_n hx hb dX5_once_0 rfl (lv_at hl 0 rfl) ?_
  refine va_get hx hb hts in_X5 hown hK hP 0 rfl rfl 14 (by decide) (hts _ q1676) (fun _ h => h) rfl dX5_once_1 ?_
  refine lv_iload_n hx hb dX5_once_4 rfl (lv_at hl 1 rfl) ?_
  refine lv_ishr hx hb dX5_once_5 ?_
  refine w_topi (y := se >>> ((0 : Int32) &&& 31)) rfl ?_
  refine lv_iconst (v := 1) hx hb dX5_once_6 rfl ?_
  refine lv_iand hx hb dX5_once_7 ?_
  refine lv_iconst (v := 1) hx hb dX5_once_8 rfl ?_
  refine lv_icmp_ne (tgt := 19) hx hb dX5_once_9 (by decide) (fun c_9 => ?_) (fun c_9 => ?_)
  · refine lv_aload_n hx hb dX5_once_19 rfl (lv_at hl 0 rfl) ?_
    refine lv_dup hx hb dX5_once_20 rfl ?_
    refine va_get hx hb hts in_X5 hown hK hP 0 rfl rfl 14 (by decide) (hts _ q1676) (fun _ h => h) rfl dX5_once_21 ?_
    refine lv_iconst (v := 1) hx hb dX5_once_24 rfl ?_
    refine lv_iload_n hx hb dX5_once_25 rfl (lv_at hl 1 rfl) ?_
    refine lv_ishl hx hb dX5_once_26 ?_
    refine lv_ior hx hb dX5_once_27 ?_
    refine va_put hx hb hts in_X5 tyX5 tyX5_ok nmX5 hown hK hP (va_D_of hD rfl) hS 0 rfl rfl 14 (by decide) (hts _ q1676) (fun _ h => h) rfl rfl rfl rfl (Nat.le_of_ble_eq_true rfl) dX5_once_28 (fun H locs hP _ hS => ?_)
    have hP : va_P D clA ((o, .inr (0, [.int t, .ref a1, .int bl, .int (nI L), .int (nI σ.1), .int σ.2.1, .int σ.2.2.1, .int eo, .ref a8, .ref a9, .ref a10, .int ud, .int (nI σ.2.2.2), .int ne, .int (se ||| ((1 : Int32) <<< ((0 : Int32) &&& 31))), .ref a15])) :: (a8, .inl (k 0, 1798, .inl d)) :: (a9, .inl (k 0, 1798, .inl dr)) :: (a1, .inl (k 0, 900, .inl fb)) :: wr) H := hP
    exact w_vret C (by simp only [ifp_f c_9]; exact hP) hS dX5_once_31
  · refine lv_aload_n hx hb dX5_once_12 rfl (lv_at hl 0 rfl) ?_
    refine lv_bipush (v := (-2)) hx hb dX5_once_13 rfl ?_
    refine lv_iload_n hx hb dX5_once_15 rfl (lv_at hl 2 rfl) ?_
    refine w_callV (As := [.int (-2), .int x]) (rest := []) C (m_report l D k o a1 a8 a9 a10 a15 t bl eo ud ne se wr d dr fb L A σ (va_D_of hD rfl) (-2) x) (cwV 2 hts (lw_V q1775 q1777 qs39 q76 q1778) rfl rfl rfl (by decide +kernel) ⟨Nat.le_of_ble_eq_true rfl, Nat.le_of_ble_eq_true rfl⟩) hK (va_recv hK hP (ci := 0) (q0 := 0) rfl rfl) hP hS (fun _ h => h) rfl hl.1 rfl (Nat.le_of_ble_eq_true rfl) dX5_once_16 ⟨Nat.le_of_ble_eq_true rfl, Nat.le_of_ble_eq_true rfl⟩ (fun H locs hP hS _ _ => ?_)
    have hP : va_P D clA ((o, .inr (0, [.int t, .ref a1, .int bl, .int (nI L), .int (nI (rpS (-2) x σ).1), .int ((rpS (-2) x σ).2.1), .int ((rpS (-2) x σ).2.2.1), .int eo, .ref a8, .ref a9, .ref a10, .int ud, .int (nI (rpS (-2) x σ).2.2.2), .int ne, .int se, .ref a15])) :: (a8, .inl (k 0, 1798, .inl d)) :: (a9, .inl (k 0, 1798, .inl dr)) :: (a1, .inl (k 0, 900, .inl fb)) :: wr) H := hP
    refine lv_aload_n hx hb dX5_once_19 rfl (lv_at hl 0 rfl) ?_
    refine lv_dup hx hb dX5_once_20 rfl ?_
    refine va_get hx hb hts in_X5 hown hK hP 0 rfl rfl 14 (by decide) (hts _ q1676) (fun _ h => h) rfl dX5_once_21 ?_
    refine lv_iconst (v := 1) hx hb dX5_once_24 rfl ?_
    refine lv_iload_n hx hb dX5_once_25 rfl (lv_at hl 1 rfl) ?_
    refine lv_ishl hx hb dX5_once_26 ?_
    refine lv_ior hx hb dX5_once_27 ?_
    refine va_put hx hb hts in_X5 tyX5 tyX5_ok nmX5 hown hK hP (va_D_of hD rfl) hS 0 rfl rfl 14 (by decide) (hts _ q1676) (fun _ h => h) rfl rfl rfl rfl (Nat.le_of_ble_eq_true rfl) dX5_once_28 (fun H locs hP _ hS => ?_)
    have hP : va_P D clA ((o, .inr (0, [.int t, .ref a1, .int bl, .int (nI L), .int (nI (rpS (-2) x σ).1), .int ((rpS (-2) x σ).2.1), .int ((rpS (-2) x σ).2.2.1), .int eo, .ref a8, .ref a9, .ref a10, .int ud, .int (nI (rpS (-2) x σ).2.2.2), .int ne, .int (se ||| ((1 : Int32) <<< ((0 : Int32) &&& 31))), .ref a15])) :: (a8, .inl (k 0, 1798, .inl d)) :: (a9, .inl (k 0, 1798, .inl dr)) :: (a1, .inl (k 0, 900, .inl fb)) :: wr) H := hP
    exact w_vret C (by simp only [ifp_t c_9]; exact hP) hS dX5_once_31
set_option maxHeartbeats 16000000 in
theorem m_readHoliday (l : Launch) (D : va_G) (k : Nat → ClassId) (o a1 a8 a9 a10 a15 : Nat) (t bl eo ud ne se : Int32) (wr : va_W) (d dr fb : Nat → Int32) (L : Nat) (hL : L ≤ 900) (σ : PS) (A : Nat → Prop) (hD : va_D A ((o, .inr (0, [.int t, .ref a1, .int bl, .int (nI L), .int (nI σ.1), .int σ.2.1, .int σ.2.2.1, .int eo, .ref a8, .ref a9, .ref a10, .int ud, .int (nI σ.2.2.2), .int ne, .int se, .ref a15])) :: (a8, .inl (k 0, 1798, .inl d)) :: (a9, .inl (k 0, 1798, .inl dr)) :: (a1, .inl (k 0, 900, .inl fb)) :: wr)) (hok : okS L σ) (h2 : isN dr 2 16) : wM l D k yX5_readHoliday cX5_readHoliday 3 none 3 65 [.ref o] ((o, .inr (0, [.int t, .ref a1, .int bl, .int (nI L), .int (nI σ.1), .int σ.2.1, .int σ.2.2.1, .int eo, .ref a8, .ref a9, .ref a10, .int ud, .int (nI σ.2.2.2), .int ne, .int se, .ref a15])) :: (a8, .inl (k 0, 1798, .inl d)) :: (a9, .inl (k 0, 1798, .inl dr)) :: (a1, .inl (k 0, 900, .inl fb)) :: wr) (none) ((o, .inr (0, [.int t, .ref a1, .int bl, .int (nI L), .int (nI (holF fb L (L + 2) σ dr).1.1), .int ((holF fb L (L + 2) σ dr).1.2.1), .int ((holF fb L (L + 2) σ dr).1.2.2.1), .int eo, .ref a8, .ref a9, .ref a10, .int ud, .int (nI (holF fb L (L + 2) σ dr).1.2.2.2), .int ne, .int se, .ref a15])) :: (a8, .inl (k 0, 1798, .inl d)) :: (a9, .inl (k 0, 1798, .inl ((holF fb L (L + 2) σ dr).2))) :: (a1, .inl (k 0, 900, .inl fb)) :: wr) A := by
  refine wM_of (by decide) (Nat.le_of_ble_eq_true rfl) ?_
  intro p e s m below meth c ls C hK hP hS hl
  obtain ⟨hx, hb, hr, hml, hown, hts, hlk⟩ := id C
  have hl : lv_has ls 3 [(0, .ref o)] := hl
  have loop_0 : ∀ (n : Nat) (s1 : PS) (d1 : Nat → Int32), (okS L s1) → (isN d1 2 16) → (holF fb L n s1 d1 = holF fb L (L + 2) σ dr) → (L - s1.1 + 1 ≤ n) → ∀ (H : Heap) (locs : List Loc), va_P D clA ((o, .inr (0, [.int t, .ref a1, .int bl, .int (nI L), .int (nI s1.1), .int s1.2.1, .int s1.2.2.1, .int eo, .ref a8, .ref a9, .ref a10, .int ud, .int (nI s1.2.2.2), .int ne, .int se, .ref a15])) :: (a8, .inl (k 0, 1798, .inl d)) :: (a9, .inl (k 0, 1798, .inl d1)) :: (a1, .inl (k 0, 900, .inl fb)) :: wr) H → va_S A s.heap H locs → ∀ (ls : Array Slot), lv_has ls 3 [(0, .ref o)] → W p l e (Rm 3 65 0 0) s m ([.ref o] : List Value).toArray below meth c H locs 0 0 (MQ below (wQ D (none) ((o, .inr (0, [.int t, .ref a1, .int bl, .int (nI L), .int (nI (holF fb L (L + 2) σ dr).1.1), .int ((holF fb L (L + 2) σ dr).1.2.1), .int ((holF fb L (L + 2) σ dr).1.2.2.1), .int eo, .ref a8, .ref a9, .ref a10, .int ud, .int (nI (holF fb L (L + 2) σ dr).1.2.2.2), .int ne, .int se, .ref a15])) :: (a8, .inl (k 0, 1798, .inl d)) :: (a9, .inl (k 0, 1798, .inl ((holF fb L (L + 2) σ dr).2))) :: (a1, .inl (k 0, 900, .inl fb)) :: wr) A) ([.ref o] : List Value).toArray s 0 0 A) (F0 m 0 ls []) := by
    intro n
    induction n with
    | zero =>
      intro s1 d1 ok1 g2 he hn
      exact absurd hn (by omega)
    | succ n ih_0 =>
      intro s1 d1 ok1 g2 he hn H locs hP hS ls hl
      refine lv_aload_n hx hb dX5_readHoliday_0 rfl (lv_at hl 0 rfl) ?_
      refine lv_iconst (v := 0) hx hb dX5_readHoliday_1 rfl ?_
      refine lv_sipush (v := 999) hx hb dX5_readHoliday_2 rfl ?_
      refine w_callV (As := [.int 0, .int 999]) (rest := []) C (m_number l D k o a1 a8 a9 a10 a15 t bl eo ud ne se wr d d1 fb L hL s1 A (va_D_of hD rfl) ok1 0 999) (cwV 2 hts (lw_V q1768 q1770 qs38 q76 q1771) rfl rfl rfl (by decide +kernel) ⟨Nat.le_of_ble_eq_true rfl, Nat.le_of_ble_eq_true rfl⟩) hK (va_recv hK hP (ci := 0) (q0 := 0) rfl rfl) hP hS (fun _ h => h) rfl hl.1 rfl (Nat.le_of_ble_eq_true rfl) dX5_readHoliday_5 ⟨Nat.le_of_ble_eq_true rfl, Nat.le_of_ble_eq_true rfl⟩ (fun H locs hP hS _ _ => ?_)
      have hP : va_P D clA ((o, .inr (0, [.int t, .ref a1, .int bl, .int (nI L), .int (nI (nmS fb L 0 999 s1).2.1), .int ((nmS fb L 0 999 s1).2.2.1), .int ((nmS fb L 0 999 s1).2.2.2.1), .int eo, .ref a8, .ref a9, .ref a10, .int ud, .int (nI (nmS fb L 0 999 s1).2.2.2.2), .int ne, .int se, .ref a15])) :: (a8, .inl (k 0, 1798, .inl d)) :: (a9, .inl (k 0, 1798, .inl d1)) :: (a1, .inl (k 0, 900, .inl fb)) :: wr) H := hP
      obtain ⟨q1, q2⟩ := g2
      refine lv_istore_n (lv' := [(1, .int ((nmS fb L 0 999 s1).1)), (0, .ref o)]) hx hb dX5_readHoliday_8 rfl hl (by decide) rfl (fun ls hl => ?_)
      have hP : va_P D clA ((o, .inr (0, [.int t, .ref a1, .int bl, .int (nI L), .int (nI (hk fb L d1 s1 0).1), .int ((hk fb L d1 s1 0).2.1), .int ((hk fb L d1 s1 0).2.2.1), .int eo, .ref a8, .ref a9, .ref a10, .int ud, .int (nI (hk fb L d1 s1 0).2.2.2), .int ne, .int se, .ref a15])) :: (a8, .inl (k 0, 1798, .inl d)) :: (a9, .inl (k 0, 1798, .inl d1)) :: (a1, .inl (k 0, 900, .inl fb)) :: wr) H := by rw [hk_0]; exact hP
      refine lv_iconst (v := 0) hx hb dX5_readHoliday_9 rfl ?_
      refine lv_istore_n (lv' := [(2, .int 0), (1, .int ((nmS fb L 0 999 s1).1)), (0, .ref o)]) hx hb dX5_readHoliday_10 rfl hl (by decide) rfl (fun ls hl => ?_)
      have loop_11 : ∀ (n2 : Nat) (j : Nat), (j ≤ dN d1 2) → (dN d1 2 + 1 ≤ j + n2) → ∀ (H : Heap) (locs : List Loc), va_P D clA ((o, .inr (0, [.int t, .ref a1, .int bl, .int (nI L), .int (nI (hk fb L d1 s1 j).1), .int ((hk fb L d1 s1 j).2.1), .int ((hk fb L d1 s1 j).2.2.1), .int eo, .ref a8, .ref a9, .ref a10, .int ud, .int (nI (hk fb L d1 s1 j).2.2.2), .int ne, .int se, .ref a15])) :: (a8, .inl (k 0, 1798, .inl d)) :: (a9, .inl (k 0, 1798, .inl d1)) :: (a1, .inl (k 0, 900, .inl fb)) :: wr) H → va_S A s.heap H locs → ∀ (ls : Array Slot), lv_has ls 3 [(0, .ref o), (1, .int ((nmS fb L 0 999 s1).1)), (2, .int (nI j))] → W p l e (Rm 3 65 0 0) s m ([.ref o] : List Value).toArray below meth c H locs 0 0 (MQ below (wQ D (none) ((o, .inr (0, [.int t, .ref a1, .int bl, .int (nI L), .int (nI (holF fb L (L + 2) σ dr).1.1), .int ((holF fb L (L + 2) σ dr).1.2.1), .int ((holF fb L (L + 2) σ dr).1.2.2.1), .int eo, .ref a8, .ref a9, .ref a10, .int ud, .int (nI (holF fb L (L + 2) σ dr).1.2.2.2), .int ne, .int se, .ref a15])) :: (a8, .inl (k 0, 1798, .inl d)) :: (a9, .inl (k 0, 1798, .inl ((holF fb L (L + 2) σ dr).2))) :: (a1, .inl (k 0, 900, .inl fb)) :: wr) A) ([.ref o] : List Value).toArray s 0 0 A) (F0 m 11 ls []) := by
        intro n2
        induction n2 with
        | zero =>
          intro j hj hn2
          exact absurd hn2 (by omega)
        | succ n2 ih_11 =>
          intro j hj hn2 H locs hP hS ls hl
          refine lv_iload_n hx hb dX5_readHoliday_11 rfl (lv_at hl 2 rfl) ?_
          refine lv_aload_n hx hb dX5_readHoliday_12 rfl (lv_at hl 0 rfl) ?_
          refine va_get hx hb hts in_X5 hown hK hP 0 rfl rfl 9 (by decide) (hts _ q1671) (fun _ h => h) rfl dX5_readHoliday_13 ?_
          refine lv_iconst (v := 2) hx hb dX5_readHoliday_16 rfl ?_
          refine w_iald hx hb hK hP 2 rfl 2 rfl (Nat.le_of_ble_eq_true rfl) (Nat.le_of_ble_eq_true rfl) dX5_readHoliday_17 ?_
          refine w_topi (y := nI (dN d1 2)) q1 ?_
          refine lv_icmp_ge (tgt := 57) hx hb dX5_readHoliday_18 (by decide) (fun c_18 => ?_) (fun c_18 => ?_)
          · have g_18 := nI_le' c_18 (by omega) (by omega)
            rw [show j = dN d1 2 by omega] at hP
            refine lv_aload_n hx hb dX5_readHoliday_57 rfl (lv_at hl 0 rfl) ?_
            refine va_get hx hb hts in_X5 hown hK hP 0 rfl rfl 9 (by decide) (hts _ q1671) (fun _ h => h) rfl dX5_readHoliday_58 ?_
            refine lv_iconst (v := 2) hx hb dX5_readHoliday_61 rfl ?_
            refine w_iald hx hb hK hP 2 rfl 2 rfl (Nat.le_of_ble_eq_true rfl) (Nat.le_of_ble_eq_true rfl) dX5_readHoliday_62 ?_
            refine lv_bipush (v := 16) hx hb dX5_readHoliday_63 rfl ?_
            refine lv_icmp_ne (tgt := 78) hx hb dX5_readHoliday_65 (by decide) (fun c_65 => ?_) (fun c_65 => ?_)
            · have hP : va_P D clA ((o, .inr (0, [.int t, .ref a1, .int bl, .int (nI L), .int (nI (h3s fb L d1 s1).1), .int ((h3s fb L d1 s1).2.1), .int ((h3s fb L d1 s1).2.2.1), .int eo, .ref a8, .ref a9, .ref a10, .int ud, .int (nI (h3s fb L d1 s1).2.2.2), .int ne, .int se, .ref a15])) :: (a8, .inl (k 0, 1798, .inl d)) :: (a9, .inl (k 0, 1798, .inl d1)) :: (a1, .inl (k 0, 900, .inl fb)) :: wr) H := by simp only [h3s, ifp_f c_65]; exact hP
              refine lv_aload_n hx hb dX5_readHoliday_78 rfl (lv_at hl 0 rfl) ?_
              refine r_callV (As := []) (rest := []) C (m_isGood l D k o ((h3s fb L d1 s1).2.1) ([.int t, .ref a1, .int bl, .int (nI L), .int (nI (h3s fb L d1 s1).1), .int ((h3s fb L d1 s1).2.1), .int ((h3s fb L d1 s1).2.2.1), .int eo, .ref a8, .ref a9, .ref a10, .int ud, .int (nI (h3s fb L d1 s1).2.2.2), .int ne, .int se, .ref a15] : List Value) rfl) (cwV 0 hts (lw_V q1731 q1733 qs32 q76 q1734) rfl rfl rfl (by decide +kernel) ⟨Nat.le_of_ble_eq_true rfl, Nat.le_of_ble_eq_true rfl⟩) hK (va_recv hK hP (ci := 0) (q0 := 0) rfl rfl) (hP.sub [0] rfl) rfl hl.1 rfl (Nat.le_of_ble_eq_true rfl) dX5_readHoliday_79 ⟨Nat.le_of_ble_eq_true rfl, Nat.le_of_ble_eq_true rfl⟩ ?_
              refine lv_if_ne (tgt := 86) hx hb dX5_readHoliday_82 (by decide) (fun c_82 => ?_) (fun c_82 => ?_)
              · have b_82 := bI_nz c_82
                obtain ⟨e1, e16, e2, e3, e4, e5⟩ := h3_good ok1 b_82
                have ok3 := okS_h3 (fb := fb) (dr := d1) hL ok1
                have hp := ok3.1 b_82
                have hs := sk_in (fb := fb) hp
                have hlt : dN d1 2 < 16 := by rcases Nat.lt_or_ge (dN d1 2) 16 with q | q; exact q; exact absurd (q1.trans (congrArg nI (show dN d1 2 = 16 by omega))) e16
                have hfw : s1.1 < (h3s fb L d1 s1).1 := by rw [e1]; exact e4
                refine lv_aload_n hx hb dX5_readHoliday_86 rfl (lv_at hl 0 rfl) ?_
                refine va_get hx hb hts in_X5 hown hK hP 0 rfl rfl 9 (by decide) (hts _ q1671) (fun _ h => h) rfl dX5_readHoliday_87 ?_
                refine lv_bipush (v := 6) hx hb dX5_readHoliday_90 rfl ?_
                refine lv_aload_n hx hb dX5_readHoliday_92 rfl (lv_at hl 0 rfl) ?_
                refine va_get hx hb hts in_X5 hown hK hP 0 rfl rfl 9 (by decide) (hts _ q1671) (fun _ h => h) rfl dX5_readHoliday_93 ?_
                refine lv_iconst (v := 2) hx hb dX5_readHoliday_96 rfl ?_
                refine w_iald hx hb hK hP 2 rfl 2 rfl (Nat.le_of_ble_eq_true rfl) (Nat.le_of_ble_eq_true rfl) dX5_readHoliday_97 ?_
                refine w_topi (y := nI (dN d1 2)) q1 ?_
                refine lv_iadd hx hb dX5_readHoliday_98 ?_
                refine w_topi (y := nI (6 + (dN d1 2))) (nI_add 6 (dN d1 2)) ?_
                refine lv_iload_n hx hb dX5_readHoliday_99 rfl (lv_at hl 1 rfl) ?_
                refine w_iast hx hb hK hP (va_D_of hD rfl) hS 2 rfl (6 + (dN d1 2)) rfl (by omega) (Nat.le_of_ble_eq_true rfl) dX5_readHoliday_100 (fun H locs hP _ hS => ?_)
                have hP : va_P D clA ((o, .inr (0, [.int t, .ref a1, .int bl, .int (nI L), .int (nI (h3s fb L d1 s1).1), .int ((h3s fb L d1 s1).2.1), .int ((h3s fb L d1 s1).2.2.1), .int eo, .ref a8, .ref a9, .ref a10, .int ud, .int (nI (h3s fb L d1 s1).2.2.2), .int ne, .int se, .ref a15])) :: (a8, .inl (k 0, 1798, .inl d)) :: (a9, .inl (k 0, 1798, .inl (upd d1 (6 + (dN d1 2)) ((nmS fb L 0 999 s1).1)))) :: (a1, .inl (k 0, 900, .inl fb)) :: wr) H := hP
                refine lv_aload_n hx hb dX5_readHoliday_101 rfl (lv_at hl 0 rfl) ?_
                refine va_get hx hb hts in_X5 hown hK hP 0 rfl rfl 9 (by decide) (hts _ q1671) (fun _ h => h) rfl dX5_readHoliday_102 ?_
                refine lv_iconst (v := 2) hx hb dX5_readHoliday_105 rfl ?_
                refine lv_dup2_11 hx hb dX5_readHoliday_106 rfl rfl ?_
                refine w_iald hx hb hK hP 2 rfl 2 rfl (Nat.le_of_ble_eq_true rfl) (Nat.le_of_ble_eq_true rfl) dX5_readHoliday_107 ?_
                refine w_topi (y := nI (dN d1 2)) (by rw [pk_un (by omega)]; exact q1) ?_
                refine lv_iconst (v := 1) hx hb dX5_readHoliday_108 rfl ?_
                refine lv_iadd hx hb dX5_readHoliday_109 ?_
                refine w_topi (y := nI ((dN d1 2) + 1)) (nI_add (dN d1 2) 1) ?_
                refine w_iast hx hb hK hP (va_D_of hD rfl) hS 2 rfl 2 rfl (Nat.le_of_ble_eq_true rfl) (Nat.le_of_ble_eq_true rfl) dX5_readHoliday_110 (fun H locs hP _ hS => ?_)
                have hP : va_P D clA ((o, .inr (0, [.int t, .ref a1, .int bl, .int (nI L), .int (nI (h3s fb L d1 s1).1), .int ((h3s fb L d1 s1).2.1), .int ((h3s fb L d1 s1).2.2.1), .int eo, .ref a8, .ref a9, .ref a10, .int ud, .int (nI (h3s fb L d1 s1).2.2.2), .int ne, .int se, .ref a15])) :: (a8, .inl (k 0, 1798, .inl d)) :: (a9, .inl (k 0, 1798, .inl (upd (upd d1 (6 + (dN d1 2)) ((nmS fb L 0 999 s1).1)) 2 (nI ((dN d1 2) + 1))))) :: (a1, .inl (k 0, 900, .inl fb)) :: wr) H := hP
                refine lv_aload_n hx hb dX5_readHoliday_111 rfl (lv_at hl 0 rfl) ?_
                refine w_callV (As := []) (rest := []) C (m_next l D k o a1 a8 a9 a10 a15 t bl ((h3s fb L d1 s1).2.1) ((h3s fb L d1 s1).2.2.1) eo ud (nI (h3s fb L d1 s1).2.2.2) ne se wr d (upd (upd d1 (6 + (dN d1 2)) ((nmS fb L 0 999 s1).1)) 2 (nI ((dN d1 2) + 1))) fb L hL ((h3s fb L d1 s1).1) A (va_D_of hD rfl) hp) (cwV 0 hts (lw_V q1735 q1737 qs33 q76 q1738) rfl rfl rfl (by decide +kernel) ⟨Nat.le_of_ble_eq_true rfl, Nat.le_of_ble_eq_true rfl⟩) hK (va_recv hK hP (ci := 0) (q0 := 0) rfl rfl) hP hS (fun _ h => h) rfl hl.1 rfl (Nat.le_of_ble_eq_true rfl) dX5_readHoliday_112 ⟨Nat.le_of_ble_eq_true rfl, Nat.le_of_ble_eq_true rfl⟩ (fun H locs hP hS _ _ => ?_)
                have hP : va_P D clA ((o, .inr (0, [.int t, .ref a1, .int bl, .int (nI L), .int (nI (sk fb L ((h3s fb L d1 s1).1))), .int ((h3s fb L d1 s1).2.1), .int ((h3s fb L d1 s1).2.2.1), .int eo, .ref a8, .ref a9, .ref a10, .int ud, .int (nI (h3s fb L d1 s1).2.2.2), .int ne, .int se, .ref a15])) :: (a8, .inl (k 0, 1798, .inl d)) :: (a9, .inl (k 0, 1798, .inl (upd (upd d1 (6 + (dN d1 2)) ((nmS fb L 0 999 s1).1)) 2 (nI ((dN d1 2) + 1))))) :: (a1, .inl (k 0, 900, .inl fb)) :: wr) H := hP
                refine r_callS (As := [.int (byt fb L (sk fb L ((h3s fb L d1 s1).1)))]) (rest := []) C (m_isDigit l D k (byt fb L (sk fb L ((h3s fb L d1 s1).1)))) (va_cwS 1 hts (lw_S q1772 q1773 q76 q1774) rfl rfl rfl (by decide +kernel) ⟨Nat.le_of_ble_eq_true rfl, Nat.le_of_ble_eq_true rfl⟩) hK trivial rfl hl.1 rfl (Nat.le_of_ble_eq_true rfl) dX5_readHoliday_115 ⟨Nat.le_of_ble_eq_true rfl, Nat.le_of_ble_eq_true rfl⟩ ?_
                refine lv_if_ne (tgt := 0) hx hb dX5_readHoliday_118 (by decide) (fun c_118 => ?_) (fun c_118 => ?_)
                · have b_118 := bI_nz c_118
                  have ok4 : okS L (sk fb L (h3s fb L d1 s1).1, (h3s fb L d1 s1).2) := ⟨fun _ => hs.2, show sk fb L (h3s fb L d1 s1).1 ≤ 2000 by omega, ok3.2.2⟩
                  have he2 : holF fb L n (sk fb L (h3s fb L d1 s1).1, (h3s fb L d1 s1).2) (hdr fb L d1 s1) = holF fb L (L + 2) σ dr := by rw [← he]; simp only [holF, ifp_t b_82, ifp_t (show dig _ from b_118)]
                  exact ih_0 (sk fb L (h3s fb L d1 s1).1, (h3s fb L d1 s1).2) (hdr fb L d1 s1) ok4 (isN_nI (by omega) (by omega)) he2 (by show L - sk fb L (h3s fb L d1 s1).1 + 1 ≤ n; omega) _ _ hP hS ls (lv_sub hl [0] rfl)
                · have b_118 := bI_0.mp c_118
                  exact w_vret C (by rw [← he]; simp only [holF, ifp_t b_82, ifp_f (show ¬ dig _ from b_118)]; exact hP) hS dX5_readHoliday_121
              · have b_82 := bI_0.mp c_82
                exact w_vret C (by rw [← he]; simp only [holF, ifp_f b_82]; exact hP) hS dX5_readHoliday_85
            · refine lv_aload_n hx hb dX5_readHoliday_68 rfl (lv_at hl 0 rfl) ?_
              refine lv_bipush (v := (-4)) hx hb dX5_readHoliday_69 rfl ?_
              refine lv_aload_n hx hb dX5_readHoliday_71 rfl (lv_at hl 0 rfl) ?_
              refine va_get hx hb hts in_X5 hown hK hP 0 rfl rfl 12 (by decide) (hts _ q1674) (fun _ h => h) rfl dX5_readHoliday_72 ?_
              refine w_callV (As := [.int (-4), .int (nI (hk fb L d1 s1 (dN d1 2)).2.2.2)]) (rest := []) C (m_report l D k o a1 a8 a9 a10 a15 t bl eo ud ne se wr d d1 fb L A (hk fb L d1 s1 (dN d1 2)) (va_D_of hD rfl) (-4) (nI (hk fb L d1 s1 (dN d1 2)).2.2.2)) (cwV 2 hts (lw_V q1775 q1777 qs39 q76 q1778) rfl rfl rfl (by decide +kernel) ⟨Nat.le_of_ble_eq_true rfl, Nat.le_of_ble_eq_true rfl⟩) hK (va_recv hK hP (ci := 0) (q0 := 0) rfl rfl) hP hS (fun _ h => h) rfl hl.1 rfl (Nat.le_of_ble_eq_true rfl) dX5_readHoliday_75 ⟨Nat.le_of_ble_eq_true rfl, Nat.le_of_ble_eq_true rfl⟩ (fun H locs hP hS _ _ => ?_)
              have hP : va_P D clA ((o, .inr (0, [.int t, .ref a1, .int bl, .int (nI L), .int (nI (rpS (-4) (nI (hk fb L d1 s1 (dN d1 2)).2.2.2) (hk fb L d1 s1 (dN d1 2))).1), .int ((rpS (-4) (nI (hk fb L d1 s1 (dN d1 2)).2.2.2) (hk fb L d1 s1 (dN d1 2))).2.1), .int ((rpS (-4) (nI (hk fb L d1 s1 (dN d1 2)).2.2.2) (hk fb L d1 s1 (dN d1 2))).2.2.1), .int eo, .ref a8, .ref a9, .ref a10, .int ud, .int (nI (rpS (-4) (nI (hk fb L d1 s1 (dN d1 2)).2.2.2) (hk fb L d1 s1 (dN d1 2))).2.2.2), .int ne, .int se, .ref a15])) :: (a8, .inl (k 0, 1798, .inl d)) :: (a9, .inl (k 0, 1798, .inl d1)) :: (a1, .inl (k 0, 900, .inl fb)) :: wr) H := hP
              have hP : va_P D clA ((o, .inr (0, [.int t, .ref a1, .int bl, .int (nI L), .int (nI (h3s fb L d1 s1).1), .int ((h3s fb L d1 s1).2.1), .int ((h3s fb L d1 s1).2.2.1), .int eo, .ref a8, .ref a9, .ref a10, .int ud, .int (nI (h3s fb L d1 s1).2.2.2), .int ne, .int se, .ref a15])) :: (a8, .inl (k 0, 1798, .inl d)) :: (a9, .inl (k 0, 1798, .inl d1)) :: (a1, .inl (k 0, 900, .inl fb)) :: wr) H := by simp only [h3s, ifp_t c_65]; exact hP
              refine lv_aload_n hx hb dX5_readHoliday_78 rfl (lv_at hl 0 rfl) ?_
              refine r_callV (As := []) (rest := []) C (m_isGood l D k o ((h3s fb L d1 s1).2.1) ([.int t, .ref a1, .int bl, .int (nI L), .int (nI (h3s fb L d1 s1).1), .int ((h3s fb L d1 s1).2.1), .int ((h3s fb L d1 s1).2.2.1), .int eo, .ref a8, .ref a9, .ref a10, .int ud, .int (nI (h3s fb L d1 s1).2.2.2), .int ne, .int se, .ref a15] : List Value) rfl) (cwV 0 hts (lw_V q1731 q1733 qs32 q76 q1734) rfl rfl rfl (by decide +kernel) ⟨Nat.le_of_ble_eq_true rfl, Nat.le_of_ble_eq_true rfl⟩) hK (va_recv hK hP (ci := 0) (q0 := 0) rfl rfl) (hP.sub [0] rfl) rfl hl.1 rfl (Nat.le_of_ble_eq_true rfl) dX5_readHoliday_79 ⟨Nat.le_of_ble_eq_true rfl, Nat.le_of_ble_eq_true rfl⟩ ?_
              refine lv_if_ne (tgt := 86) hx hb dX5_readHoliday_82 (by decide) (fun c_82 => ?_) (fun c_82 => ?_)
              · have b_82 := bI_nz c_82
                obtain ⟨e1, e16, e2, e3, e4, e5⟩ := h3_good ok1 b_82
                have ok3 := okS_h3 (fb := fb) (dr := d1) hL ok1
                have hp := ok3.1 b_82
                have hs := sk_in (fb := fb) hp
                have hlt : dN d1 2 < 16 := by rcases Nat.lt_or_ge (dN d1 2) 16 with q | q; exact q; exact absurd (q1.trans (congrArg nI (show dN d1 2 = 16 by omega))) e16
                have hfw : s1.1 < (h3s fb L d1 s1).1 := by rw [e1]; exact e4
                refine lv_aload_n hx hb dX5_readHoliday_86 rfl (lv_at hl 0 rfl) ?_
                refine va_get hx hb hts in_X5 hown hK hP 0 rfl rfl 9 (by decide) (hts _ q1671) (fun _ h => h) rfl dX5_readHoliday_87 ?_
                refine lv_bipush (v := 6) hx hb dX5_readHoliday_90 rfl ?_
                refine lv_aload_n hx hb dX5_readHoliday_92 rfl (lv_at hl 0 rfl) ?_
                refine va_get hx hb hts in_X5 hown hK hP 0 rfl rfl 9 (by decide) (hts _ q1671) (fun _ h => h) rfl dX5_readHoliday_93 ?_
                refine lv_iconst (v := 2) hx hb dX5_readHoliday_96 rfl ?_
                refine w_iald hx hb hK hP 2 rfl 2 rfl (Nat.le_of_ble_eq_true rfl) (Nat.le_of_ble_eq_true rfl) dX5_readHoliday_97 ?_
                refine w_topi (y := nI (dN d1 2)) q1 ?_
                refine lv_iadd hx hb dX5_readHoliday_98 ?_
                refine w_topi (y := nI (6 + (dN d1 2))) (nI_add 6 (dN d1 2)) ?_
                refine lv_iload_n hx hb dX5_readHoliday_99 rfl (lv_at hl 1 rfl) ?_
                refine w_iast hx hb hK hP (va_D_of hD rfl) hS 2 rfl (6 + (dN d1 2)) rfl (by omega) (Nat.le_of_ble_eq_true rfl) dX5_readHoliday_100 (fun H locs hP _ hS => ?_)
                have hP : va_P D clA ((o, .inr (0, [.int t, .ref a1, .int bl, .int (nI L), .int (nI (h3s fb L d1 s1).1), .int ((h3s fb L d1 s1).2.1), .int ((h3s fb L d1 s1).2.2.1), .int eo, .ref a8, .ref a9, .ref a10, .int ud, .int (nI (h3s fb L d1 s1).2.2.2), .int ne, .int se, .ref a15])) :: (a8, .inl (k 0, 1798, .inl d)) :: (a9, .inl (k 0, 1798, .inl (upd d1 (6 + (dN d1 2)) ((nmS fb L 0 999 s1).1)))) :: (a1, .inl (k 0, 900, .inl fb)) :: wr) H := hP
                refine lv_aload_n hx hb dX5_readHoliday_101 rfl (lv_at hl 0 rfl) ?_
                refine va_get hx hb hts in_X5 hown hK hP 0 rfl rfl 9 (by decide) (hts _ q1671) (fun _ h => h) rfl dX5_readHoliday_102 ?_
                refine lv_iconst (v := 2) hx hb dX5_readHoliday_105 rfl ?_
                refine lv_dup2_11 hx hb dX5_readHoliday_106 rfl rfl ?_
                refine w_iald hx hb hK hP 2 rfl 2 rfl (Nat.le_of_ble_eq_true rfl) (Nat.le_of_ble_eq_true rfl) dX5_readHoliday_107 ?_
                refine w_topi (y := nI (dN d1 2)) (by rw [pk_un (by omega)]; exact q1) ?_
                refine lv_iconst (v := 1) hx hb dX5_readHoliday_108 rfl ?_
                refine lv_iadd hx hb dX5_readHoliday_109 ?_
                refine w_topi (y := nI ((dN d1 2) + 1)) (nI_add (dN d1 2) 1) ?_
                refine w_iast hx hb hK hP (va_D_of hD rfl) hS 2 rfl 2 rfl (Nat.le_of_ble_eq_true rfl) (Nat.le_of_ble_eq_true rfl) dX5_readHoliday_110 (fun H locs hP _ hS => ?_)
                have hP : va_P D clA ((o, .inr (0, [.int t, .ref a1, .int bl, .int (nI L), .int (nI (h3s fb L d1 s1).1), .int ((h3s fb L d1 s1).2.1), .int ((h3s fb L d1 s1).2.2.1), .int eo, .ref a8, .ref a9, .ref a10, .int ud, .int (nI (h3s fb L d1 s1).2.2.2), .int ne, .int se, .ref a15])) :: (a8, .inl (k 0, 1798, .inl d)) :: (a9, .inl (k 0, 1798, .inl (upd (upd d1 (6 + (dN d1 2)) ((nmS fb L 0 999 s1).1)) 2 (nI ((dN d1 2) + 1))))) :: (a1, .inl (k 0, 900, .inl fb)) :: wr) H := hP
                refine lv_aload_n hx hb dX5_readHoliday_111 rfl (lv_at hl 0 rfl) ?_
                refine w_callV (As := []) (rest := []) C (m_next l D k o a1 a8 a9 a10 a15 t bl ((h3s fb L d1 s1).2.1) ((h3s fb L d1 s1).2.2.1) eo ud (nI (h3s fb L d1 s1).2.2.2) ne se wr d (upd (upd d1 (6 + (dN d1 2)) ((nmS fb L 0 999 s1).1)) 2 (nI ((dN d1 2) + 1))) fb L hL ((h3s fb L d1 s1).1) A (va_D_of hD rfl) hp) (cwV 0 hts (lw_V q1735 q1737 qs33 q76 q1738) rfl rfl rfl (by decide +kernel) ⟨Nat.le_of_ble_eq_true rfl, Nat.le_of_ble_eq_true rfl⟩) hK (va_recv hK hP (ci := 0) (q0 := 0) rfl rfl) hP hS (fun _ h => h) rfl hl.1 rfl (Nat.le_of_ble_eq_true rfl) dX5_readHoliday_112 ⟨Nat.le_of_ble_eq_true rfl, Nat.le_of_ble_eq_true rfl⟩ (fun H locs hP hS _ _ => ?_)
                have hP : va_P D clA ((o, .inr (0, [.int t, .ref a1, .int bl, .int (nI L), .int (nI (sk fb L ((h3s fb L d1 s1).1))), .int ((h3s fb L d1 s1).2.1), .int ((h3s fb L d1 s1).2.2.1), .int eo, .ref a8, .ref a9, .ref a10, .int ud, .int (nI (h3s fb L d1 s1).2.2.2), .int ne, .int se, .ref a15])) :: (a8, .inl (k 0, 1798, .inl d)) :: (a9, .inl (k 0, 1798, .inl (upd (upd d1 (6 + (dN d1 2)) ((nmS fb L 0 999 s1).1)) 2 (nI ((dN d1 2) + 1))))) :: (a1, .inl (k 0, 900, .inl fb)) :: wr) H := hP
                refine r_callS (As := [.int (byt fb L (sk fb L ((h3s fb L d1 s1).1)))]) (rest := []) C (m_isDigit l D k (byt fb L (sk fb L ((h3s fb L d1 s1).1)))) (va_cwS 1 hts (lw_S q1772 q1773 q76 q1774) rfl rfl rfl (by decide +kernel) ⟨Nat.le_of_ble_eq_true rfl, Nat.le_of_ble_eq_true rfl⟩) hK trivial rfl hl.1 rfl (Nat.le_of_ble_eq_true rfl) dX5_readHoliday_115 ⟨Nat.le_of_ble_eq_true rfl, Nat.le_of_ble_eq_true rfl⟩ ?_
                refine lv_if_ne (tgt := 0) hx hb dX5_readHoliday_118 (by decide) (fun c_118 => ?_) (fun c_118 => ?_)
                · have b_118 := bI_nz c_118
                  have ok4 : okS L (sk fb L (h3s fb L d1 s1).1, (h3s fb L d1 s1).2) := ⟨fun _ => hs.2, show sk fb L (h3s fb L d1 s1).1 ≤ 2000 by omega, ok3.2.2⟩
                  have he2 : holF fb L n (sk fb L (h3s fb L d1 s1).1, (h3s fb L d1 s1).2) (hdr fb L d1 s1) = holF fb L (L + 2) σ dr := by rw [← he]; simp only [holF, ifp_t b_82, ifp_t (show dig _ from b_118)]
                  exact ih_0 (sk fb L (h3s fb L d1 s1).1, (h3s fb L d1 s1).2) (hdr fb L d1 s1) ok4 (isN_nI (by omega) (by omega)) he2 (by show L - sk fb L (h3s fb L d1 s1).1 + 1 ≤ n; omega) _ _ hP hS ls (lv_sub hl [0] rfl)
                · have b_118 := bI_0.mp c_118
                  exact w_vret C (by rw [← he]; simp only [holF, ifp_t b_82, ifp_f (show ¬ dig _ from b_118)]; exact hP) hS dX5_readHoliday_121
              · have b_82 := bI_0.mp c_82
                exact w_vret C (by rw [← he]; simp only [holF, ifp_f b_82]; exact hP) hS dX5_readHoliday_85
          · have g_18 := nI_nle' c_18 (by omega) (by omega)
            refine lv_aload_n hx hb dX5_readHoliday_21 rfl (lv_at hl 0 rfl) ?_
            refine r_callV (As := []) (rest := []) C (m_isGood l D k o ((hk fb L d1 s1 j).2.1) ([.int t, .ref a1, .int bl, .int (nI L), .int (nI (hk fb L d1 s1 j).1), .int ((hk fb L d1 s1 j).2.1), .int ((hk fb L d1 s1 j).2.2.1), .int eo, .ref a8, .ref a9, .ref a10, .int ud, .int (nI (hk fb L d1 s1 j).2.2.2), .int ne, .int se, .ref a15] : List Value) rfl) (cwV 0 hts (lw_V q1731 q1733 qs32 q76 q1734) rfl rfl rfl (by decide +kernel) ⟨Nat.le_of_ble_eq_true rfl, Nat.le_of_ble_eq_true rfl⟩) hK (va_recv hK hP (ci := 0) (q0 := 0) rfl rfl) (hP.sub [0] rfl) rfl hl.1 rfl (Nat.le_of_ble_eq_true rfl) dX5_readHoliday_22 ⟨Nat.le_of_ble_eq_true rfl, Nat.le_of_ble_eq_true rfl⟩ ?_
            refine lv_if_eq (tgt := 51) hx hb dX5_readHoliday_25 (by decide) (fun c_25 => ?_) (fun c_25 => ?_)
            · have b_25 := bI_0.mp c_25
              refine lv_iinc (v := nI (j + 1)) (lv' := [(2, .int (nI (j + 1))), (0, .ref o), (1, .int ((nmS fb L 0 999 s1).1))]) hx hb dX5_readHoliday_51 hl (k := 2) rfl (nI_1 j) (by decide) rfl (fun ls hl => ?_)
              refine lv_goto (tgt := 11) hx hb dX5_readHoliday_54 (by decide) ?_
              rw [hk_bad b_25] at hP
              exact ih_11 (j + 1) (by omega) (by omega) _ _ hP hS ls (lv_sub hl [1, 2, 0] rfl)
            · have b_25 := bI_nz c_25
              refine lv_aload_n hx hb dX5_readHoliday_28 rfl (lv_at hl 0 rfl) ?_
              refine va_get hx hb hts in_X5 hown hK hP 0 rfl rfl 9 (by decide) (hts _ q1671) (fun _ h => h) rfl dX5_readHoliday_29 ?_
              refine lv_bipush (v := 6) hx hb dX5_readHoliday_32 rfl ?_
              refine lv_iload_n hx hb dX5_readHoliday_34 rfl (lv_at hl 2 rfl) ?_
              refine lv_iadd hx hb dX5_readHoliday_35 ?_
              refine w_topi (y := nI (6 + j)) (nI_add 6 j) ?_
              refine w_iald hx hb hK hP 2 rfl (6 + j) rfl (by omega) (Nat.le_of_ble_eq_true rfl) dX5_readHoliday_36 ?_
              refine lv_iload_n hx hb dX5_readHoliday_37 rfl (lv_at hl 1 rfl) ?_
              refine lv_icmp_ne (tgt := 51) hx hb dX5_readHoliday_38 (by decide) (fun c_38 => ?_) (fun c_38 => ?_)
              · refine lv_iinc (v := nI (j + 1)) (lv' := [(2, .int (nI (j + 1))), (0, .ref o), (1, .int ((nmS fb L 0 999 s1).1))]) hx hb dX5_readHoliday_51 hl (k := 2) rfl (nI_1 j) (by decide) rfl (fun ls hl => ?_)
                refine lv_goto (tgt := 11) hx hb dX5_readHoliday_54 (by decide) ?_
                rw [hk_miss c_38] at hP
                exact ih_11 (j + 1) (by omega) (by omega) _ _ hP hS ls (lv_sub hl [1, 2, 0] rfl)
              · refine lv_aload_n hx hb dX5_readHoliday_41 rfl (lv_at hl 0 rfl) ?_
                refine lv_bipush (v := (-3)) hx hb dX5_readHoliday_42 rfl ?_
                refine lv_aload_n hx hb dX5_readHoliday_44 rfl (lv_at hl 0 rfl) ?_
                refine va_get hx hb hts in_X5 hown hK hP 0 rfl rfl 12 (by decide) (hts _ q1674) (fun _ h => h) rfl dX5_readHoliday_45 ?_
                refine w_callV (As := [.int (-3), .int (nI (hk fb L d1 s1 j).2.2.2)]) (rest := []) C (m_report l D k o a1 a8 a9 a10 a15 t bl eo ud ne se wr d d1 fb L A (hk fb L d1 s1 j) (va_D_of hD rfl) (-3) (nI (hk fb L d1 s1 j).2.2.2)) (cwV 2 hts (lw_V q1775 q1777 qs39 q76 q1778) rfl rfl rfl (by decide +kernel) ⟨Nat.le_of_ble_eq_true rfl, Nat.le_of_ble_eq_true rfl⟩) hK (va_recv hK hP (ci := 0) (q0 := 0) rfl rfl) hP hS (fun _ h => h) rfl hl.1 rfl (Nat.le_of_ble_eq_true rfl) dX5_readHoliday_48 ⟨Nat.le_of_ble_eq_true rfl, Nat.le_of_ble_eq_true rfl⟩ (fun H locs hP hS _ _ => ?_)
                have hP : va_P D clA ((o, .inr (0, [.int t, .ref a1, .int bl, .int (nI L), .int (nI (rpS (-3) (nI (hk fb L d1 s1 j).2.2.2) (hk fb L d1 s1 j)).1), .int ((rpS (-3) (nI (hk fb L d1 s1 j).2.2.2) (hk fb L d1 s1 j)).2.1), .int ((rpS (-3) (nI (hk fb L d1 s1 j).2.2.2) (hk fb L d1 s1 j)).2.2.1), .int eo, .ref a8, .ref a9, .ref a10, .int ud, .int (nI (rpS (-3) (nI (hk fb L d1 s1 j).2.2.2) (hk fb L d1 s1 j)).2.2.2), .int ne, .int se, .ref a15])) :: (a8, .inl (k 0, 1798, .inl d)) :: (a9, .inl (k 0, 1798, .inl d1)) :: (a1, .inl (k 0, 900, .inl fb)) :: wr) H := hP
                rw [hk_hit c_38] at hP
                refine lv_iinc (v := nI (j + 1)) (lv' := [(2, .int (nI (j + 1))), (0, .ref o), (1, .int ((nmS fb L 0 999 s1).1))]) hx hb dX5_readHoliday_51 hl (k := 2) rfl (nI_1 j) (by decide) rfl (fun ls hl => ?_)
                refine lv_goto (tgt := 11) hx hb dX5_readHoliday_54 (by decide) ?_
                exact ih_11 (j + 1) (by omega) (by omega) _ _ hP hS ls (lv_sub hl [1, 2, 0] rfl)
      exact loop_11 (dN d1 2 + 1) 0 (Nat.zero_le _) (by omega) _ _ hP hS ls (lv_sub hl [2, 1, 0] rfl)
  exact loop_0 (L + 2) σ dr hok h2 rfl (by omega) _ _ hP hS ls (lv_sub hl [0] rfl)
