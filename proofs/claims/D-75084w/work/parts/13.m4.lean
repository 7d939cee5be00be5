/-! the reference, part 4 (printed by gen/m4.py) -/
set_option maxRecDepth 100000
set_option maxHeartbeats 4000000 in
theorem m_dueBetween (l : Launch) (D : va_G) (k : Nat → ClassId) (o a1 a8 a9 a10 a15 : Nat) (t bl tl ps er ea eo ud ns ne se : Int32) (wr : va_W) (d : Nat → Int32) (A : Nat → Prop) (hD : va_D A ((o, .inr (0, [.int t, .ref a1, .int bl, .int tl, .int ps, .int er, .int ea, .int eo, .ref a8, .ref a9, .ref a10, .int ud, .int ns, .int ne, .int se, .ref a15])) :: (a8, .inl (k 0, 1798, .inl d)) :: wr)) (hd : okD d) (x y : Int32) : wM l D k yX5_dueBetween cX5_dueBetween 7 (some .long) 3 66 [.ref o, .int x, .int y] ((o, .inr (0, [.int t, .ref a1, .int bl, .int tl, .int ps, .int er, .int ea, .int eo, .ref a8, .ref a9, .ref a10, .int ud, .int ns, .int ne, .int se, .ref a15])) :: (a8, .inl (k 0, 1798, .inl d)) :: wr) (some (.long (dueB d x y))) ((o, .inr (0, [.int 0, .ref a1, .int bl, .int tl, .int ps, .int er, .int ea, .int eo, .ref a8, .ref a9, .ref a10, .int ud, .int ns, .int ne, .int se, .ref a15])) :: (a8, .inl (k 0, 1798, .inl d)) :: wr) A := by
  refine wM_of (by decide) (Nat.le_of_ble_eq_true rfl) ?_
  intro p e s m below meth c ls C hK hP hS hl
  obtain ⟨hx, hb, hr, hml, hown, hts, hlk⟩ := id C
  have hl : lv_has ls 7 [(0, .ref o), (1, .int x), (2, .int y)] := hl
  obtain ⟨⟨⟨e0, n0⟩, ⟨e1, n1⟩, ⟨e2, n2⟩, ⟨e3, n3⟩, ⟨e5, n5⟩⟩, hhol, hcr, hpr⟩ := id hd
  refine lv_aload_n hx hb dX5_dueBetween_0 rfl (lv_at hl 0 rfl) ?_
  refine lv_iconst (v := 0) hx hb dX5_dueBetween_1 rfl ?_
  refine va_put hx hb hts in_X5 tyX5 tyX5_ok nmX5 hown hK hP (va_D_of hD rfl) hS 0 rfl rfl 0 (by decide) (hts _ q1662) (fun _ h => h) rfl rfl rfl rfl (Nat.le_of_ble_eq_true rfl) dX5_dueBetween_2 (fun H locs hP _ hS => ?_)
  have hP : va_P D clA ((o, .inr (0, [.int 0, .ref a1, .int bl, .int tl, .int ps, .int er, .int ea, .int eo, .ref a8, .ref a9, .ref a10, .int ud, .int ns, .int ne, .int se, .ref a15])) :: (a8, .inl (k 0, 1798, .inl d)) :: wr) H := hP
  refine lv_lconst (v := 0) hx hb dX5_dueBetween_5 rfl ?_
  refine lv_lstore_n (lv' := [(3, .long 0), (0, .ref o), (1, .int x), (2, .int y)]) hx hb dX5_dueBetween_6 rfl hl (by decide) rfl (fun ls hl => ?_)
  refine lv_iconst (v := 0) hx hb dX5_dueBetween_7 rfl ?_
  refine lv_istore (lv' := [(5, .int 0), (3, .long 0), (0, .ref o), (1, .int x), (2, .int y)]) hx hb dX5_dueBetween_8 hl (by decide) rfl (fun ls hl => ?_)
  have loop_10 : ∀ (n : Nat) (j : Nat), (j ≤ dN d 1) → (dN d 1 + 1 ≤ j + n) → ∀ (ls : Array Slot), lv_has ls 7 [(0, .ref o), (1, .int x), (2, .int y), (3, .long (sumL (fun q => pickL (¬ due d q = -1 ∧ x ≤ due d q ∧ due d q ≤ y) (pf d q 2).toInt64) j)), (5, .int (nI j))] → W p l e (Rm 3 66 0 0) s m ([.ref o, .int x, .int y] : List Value).toArray below meth c H locs 0 0 (MQ below (wQ D (some (.long (dueB d x y))) ((o, .inr (0, [.int 0, .ref a1, .int bl, .int tl, .int ps, .int er, .int ea, .int eo, .ref a8, .ref a9, .ref a10, .int ud, .int ns, .int ne, .int se, .ref a15])) :: (a8, .inl (k 0, 1798, .inl d)) :: wr) A) ([.ref o, .int x, .int y] : List Value).toArray s 0 0 A) (F0 m 10 ls []) := by
    intro n
    induction n with
    | zero =>
      intro j hj hn
      exact absurd hn (by omega)
    | succ n ih_10 =>
      intro j hj hn ls hl
      refine lv_iload hx hb dX5_dueBetween_10 (lv_at hl 4 rfl) ?_
      refine lv_aload_n hx hb dX5_dueBetween_12 rfl (lv_at hl 0 rfl) ?_
      refine va_get hx hb hts in_X5 hown hK hP 0 rfl rfl 8 (by decide) (hts _ q1670) (fun _ h => h) rfl dX5_dueBetween_13 ?_
      refine lv_iconst (v := 1) hx hb dX5_dueBetween_16 rfl ?_
      refine w_iald hx hb hK hP 1 rfl 1 rfl (Nat.le_of_ble_eq_true rfl) (Nat.le_of_ble_eq_true rfl) dX5_dueBetween_17 ?_
      refine w_topi (y := nI (dN d 1)) e1 ?_
      refine lv_icmp_ge (tgt := 69) hx hb dX5_dueBetween_18 (by decide) (fun c_18 => ?_) (fun c_18 => ?_)
      · have g_18 := nI_le' c_18 (by omega) (by omega)
        refine lv_lload_n hx hb dX5_dueBetween_69 rfl (lv_at hl 3 rfl) ?_
        exact w_lret C (by rw [show j = dN d 1 by omega]; rfl) hP hS dX5_dueBetween_70
      · have g_18 := nI_nle' c_18 (by omega) (by omega)
        refine lv_aload_n hx hb dX5_dueBetween_21 rfl (lv_at hl 0 rfl) ?_
        refine lv_iload hx hb dX5_dueBetween_22 (lv_at hl 4 rfl) ?_
        refine r_callV (As := [.int (nI j)]) (rest := []) C (m_dueOf l D k o a8 ([.int 0, .ref a1, .int bl, .int tl, .int ps, .int er, .int ea, .int eo, .ref a8, .ref a9, .ref a10, .int ud, .int ns, .int ne, .int se, .ref a15] : List Value) d rfl hd j (by omega)) (cwV 1 hts (lw_V q1985 q1987 qs64 q76 q1988) rfl rfl rfl (by decide +kernel) ⟨Nat.le_of_ble_eq_true rfl, Nat.le_of_ble_eq_true rfl⟩) hK (va_recv hK hP (ci := 0) (q0 := 0) rfl rfl) (hP.sub [0, 1] rfl) rfl hl.1 rfl (Nat.le_of_ble_eq_true rfl) dX5_dueBetween_24 ⟨Nat.le_of_ble_eq_true rfl, Nat.le_of_ble_eq_true rfl⟩ ?_
        refine lv_istore (lv' := [(6, .int (due d j)), (0, .ref o), (1, .int x), (2, .int y), (3, .long (sumL (fun q => pickL (¬ due d q = -1 ∧ x ≤ due d q ∧ due d q ≤ y) (pf d q 2).toInt64) j)), (5, .int (nI j))]) hx hb dX5_dueBetween_27 hl (by decide) rfl (fun ls hl => ?_)
        refine lv_iload hx hb dX5_dueBetween_29 (lv_at hl 0 rfl) ?_
        refine lv_iconst (v := (-1)) hx hb dX5_dueBetween_31 rfl ?_
        refine lv_icmp_eq (tgt := 63) hx hb dX5_dueBetween_32 (by decide) (fun c_32 => ?_) (fun c_32 => ?_)
        · refine lv_iinc (v := nI (j + 1)) (lv' := [(5, .int (nI (j + 1))), (6, .int (due d j)), (0, .ref o), (1, .int x), (2, .int y), (3, .long (sumL (fun q => pickL (¬ due d q = -1 ∧ x ≤ due d q ∧ due d q ≤ y) (pf d q 2).toInt64) j))]) hx hb dX5_dueBetween_63 hl (k := 5) rfl (nI_1 j) (by decide) rfl (fun ls hl => ?_)
          refine lv_goto (tgt := 10) hx hb dX5_dueBetween_66 (by decide) ?_
          rw [sumL_skip (f := (fun q => pickL (¬ due d q = -1 ∧ x ≤ due d q ∧ due d q ≤ y) (pf d q 2).toInt64)) (n := j) (pickL_f (fun h => h.1 c_32))] at hl
          exact ih_10 (j + 1) (by omega) (by omega) ls (lv_sub hl [2, 3, 4, 5, 0] rfl)
        · refine lv_iload hx hb dX5_dueBetween_35 (lv_at hl 0 rfl) ?_
          refine lv_iload_n hx hb dX5_dueBetween_37 rfl (lv_at hl 2 rfl) ?_
          refine lv_icmp_lt (tgt := 63) hx hb dX5_dueBetween_38 (by decide) (fun c_38 => ?_) (fun c_38 => ?_)
          · refine lv_iinc (v := nI (j + 1)) (lv' := [(5, .int (nI (j + 1))), (6, .int (due d j)), (0, .ref o), (1, .int x), (2, .int y), (3, .long (sumL (fun q => pickL (¬ due d q = -1 ∧ x ≤ due d q ∧ due d q ≤ y) (pf d q 2).toInt64) j))]) hx hb dX5_dueBetween_63 hl (k := 5) rfl (nI_1 j) (by decide) rfl (fun ls hl => ?_)
            refine lv_goto (tgt := 10) hx hb dX5_dueBetween_66 (by decide) ?_
            rw [sumL_skip (f := (fun q => pickL (¬ due d q = -1 ∧ x ≤ due d q ∧ due d q ≤ y) (pf d q 2).toInt64)) (n := j) (pickL_f (fun h => absurd c_38 (Int32.not_lt.mpr h.2.1)))] at hl
            exact ih_10 (j + 1) (by omega) (by omega) ls (lv_sub hl [2, 3, 4, 5, 0] rfl)
          · refine lv_iload hx hb dX5_dueBetween_41 (lv_at hl 0 rfl) ?_
            refine lv_iload_n hx hb dX5_dueBetween_43 rfl (lv_at hl 3 rfl) ?_
            refine lv_icmp_gt (tgt := 63) hx hb dX5_dueBetween_44 (by decide) (fun c_44 => ?_) (fun c_44 => ?_)
            · refine lv_iinc (v := nI (j + 1)) (lv' := [(5, .int (nI (j + 1))), (6, .int (due d j)), (0, .ref o), (1, .int x), (2, .int y), (3, .long (sumL (fun q => pickL (¬ due d q = -1 ∧ x ≤ due d q ∧ due d q ≤ y) (pf d q 2).toInt64) j))]) hx hb dX5_dueBetween_63 hl (k := 5) rfl (nI_1 j) (by decide) rfl (fun ls hl => ?_)
              refine lv_goto (tgt := 10) hx hb dX5_dueBetween_66 (by decide) ?_
              rw [sumL_skip (f := (fun q => pickL (¬ due d q = -1 ∧ x ≤ due d q ∧ due d q ≤ y) (pf d q 2).toInt64)) (n := j) (pickL_f (fun h => absurd c_44 (Int32.not_lt.mpr h.2.2)))] at hl
              exact ih_10 (j + 1) (by omega) (by omega) ls (lv_sub hl [2, 3, 4, 5, 0] rfl)
            · refine lv_lload_n hx hb dX5_dueBetween_47 rfl (lv_at hl 4 rfl) ?_
              refine lv_aload_n hx hb dX5_dueBetween_48 rfl (lv_at hl 1 rfl) ?_
              refine va_get hx hb hts in_X5 hown hK hP 0 rfl rfl 8 (by decide) (hts _ q1670) (fun _ h => h) rfl dX5_dueBetween_49 ?_
              refine lv_iload hx hb dX5_dueBetween_52 (lv_at hl 5 rfl) ?_
              refine r_callS (As := [.int (nI j)]) (rest := [.ref a8, .long (sumL (fun q => pickL (¬ due d q = -1 ∧ x ≤ due d q ∧ due d q ≤ y) (pf d q 2).toInt64) j)]) C (m_presentationN l D k j) (va_cwS 1 hts (lw_S q1917 q1918 q76 q1919) rfl rfl rfl (by decide +kernel) ⟨Nat.le_of_ble_eq_true rfl, Nat.le_of_ble_eq_true rfl⟩) hK trivial rfl hl.1 rfl (Nat.le_of_ble_eq_true rfl) dX5_dueBetween_54 ⟨Nat.le_of_ble_eq_true rfl, Nat.le_of_ble_eq_true rfl⟩ ?_
              refine lv_iconst (v := 2) hx hb dX5_dueBetween_57 rfl ?_
              refine lv_iadd hx hb dX5_dueBetween_58 ?_
              refine w_topi (y := nI ((154 + 6 * j) + 2)) (nI_add (154 + 6 * j) 2) ?_
              refine w_iald hx hb hK hP 1 rfl ((154 + 6 * j) + 2) rfl (by omega) (Nat.le_of_ble_eq_true rfl) dX5_dueBetween_59 ?_
              refine lv_i2l (v := (d ((154 + 6 * j) + 2)).toInt64) hx hb dX5_dueBetween_60 rfl ?_
              refine lv_ladd hx hb dX5_dueBetween_61 ?_
              refine w_topl (y := sumL (fun q => pickL (¬ due d q = -1 ∧ x ≤ due d q ∧ due d q ≤ y) (pf d q 2).toInt64) (j + 1)) (by rw [show sumL (fun q => pickL (¬ due d q = -1 ∧ x ≤ due d q ∧ due d q ≤ y) (pf d q 2).toInt64) (j + 1) = sumL (fun q => pickL (¬ due d q = -1 ∧ x ≤ due d q ∧ due d q ≤ y) (pf d q 2).toInt64) j + pickL (¬ due d j = -1 ∧ x ≤ due d j ∧ due d j ≤ y) (pf d j 2).toInt64 from rfl, pickL_t ⟨c_32, Int32.not_lt.mp c_38, Int32.not_lt.mp c_44⟩]; rfl) ?_
              refine lv_lstore_n (lv' := [(3, .long (sumL (fun q => pickL (¬ due d q = -1 ∧ x ≤ due d q ∧ due d q ≤ y) (pf d q 2).toInt64) (j + 1))), (6, .int (due d j)), (0, .ref o), (1, .int x), (2, .int y), (5, .int (nI j))]) hx hb dX5_dueBetween_62 rfl hl (by decide) rfl (fun ls hl => ?_)
              refine lv_iinc (v := nI (j + 1)) (lv' := [(5, .int (nI (j + 1))), (3, .long (sumL (fun q => pickL (¬ due d q = -1 ∧ x ≤ due d q ∧ due d q ≤ y) (pf d q 2).toInt64) (j + 1))), (6, .int (due d j)), (0, .ref o), (1, .int x), (2, .int y)]) hx hb dX5_dueBetween_63 hl (k := 5) rfl (nI_1 j) (by decide) rfl (fun ls hl => ?_)
              refine lv_goto (tgt := 10) hx hb dX5_dueBetween_66 (by decide) ?_
              exact ih_10 (j + 1) (by omega) (by omega) ls (lv_sub hl [3, 4, 5, 1, 0] rfl)
  exact loop_10 (dN d 1 + 1) 0 (Nat.zero_le _) (by omega) ls (lv_sub hl [2, 3, 4, 1, 0] rfl)
set_option maxHeartbeats 4000000 in
theorem m_checksum (l : Launch) (D : va_G) (k : Nat → ClassId) (o a1 a8 a9 a10 a15 : Nat) (t bl tl ps er ea eo ud ns ne se : Int32) (wr : va_W) (d : Nat → Int32) (A : Nat → Prop) (hD : va_D A ((o, .inr (0, [.int t, .ref a1, .int bl, .int tl, .int ps, .int er, .int ea, .int eo, .ref a8, .ref a9, .ref a10, .int ud, .int ns, .int ne, .int se, .ref a15])) :: (a8, .inl (k 0, 1798, .inl d)) :: wr)) (hd : okD d) : wM l D k yX5_checksum cX5_checksum 4 (some .long) 4 86 [.ref o] ((o, .inr (0, [.int t, .ref a1, .int bl, .int tl, .int ps, .int er, .int ea, .int eo, .ref a8, .ref a9, .ref a10, .int ud, .int ns, .int ne, .int se, .ref a15])) :: (a8, .inl (k 0, 1798, .inl d)) :: wr) (some (.long (ck2 d (dN d 1)))) ((o, .inr (0, [.int 0, .ref a1, .int bl, .int tl, .int ps, .int er, .int ea, .int eo, .ref a8, .ref a9, .ref a10, .int ud, .int ns, .int ne, .int se, .ref a15])) :: (a8, .inl (k 0, 1798, .inl d)) :: wr) A := by
  refine wM_of (by decide) (Nat.le_of_ble_eq_true rfl) ?_
  intro p e s m below meth c ls C hK hP hS hl
  obtain ⟨hx, hb, hr, hml, hown, hts, hlk⟩ := id C
  have hl : lv_has ls 4 [(0, .ref o)] := hl
  obtain ⟨⟨⟨e0, n0⟩, ⟨e1, n1⟩, ⟨e2, n2⟩, ⟨e3, n3⟩, ⟨e5, n5⟩⟩, hhol, hcr, hpr⟩ := id hd
  refine lv_aload_n hx hb dX5_checksum_0 rfl (lv_at hl 0 rfl) ?_
  refine lv_iconst (v := 0) hx hb dX5_checksum_1 rfl ?_
  refine va_put hx hb hts in_X5 tyX5 tyX5_ok nmX5 hown hK hP (va_D_of hD rfl) hS 0 rfl rfl 0 (by decide) (hts _ q1662) (fun _ h => h) rfl rfl rfl rfl (Nat.le_of_ble_eq_true rfl) dX5_checksum_2 (fun H locs hP _ hS => ?_)
  have hP : va_P D clA ((o, .inr (0, [.int 0, .ref a1, .int bl, .int tl, .int ps, .int er, .int ea, .int eo, .ref a8, .ref a9, .ref a10, .int ud, .int ns, .int ne, .int se, .ref a15])) :: (a8, .inl (k 0, 1798, .inl d)) :: wr) H := hP
  refine lv_aload_n hx hb dX5_checksum_5 rfl (lv_at hl 0 rfl) ?_
  refine va_get hx hb hts in_X5 hown hK hP 0 rfl rfl 8 (by decide) (hts _ q1670) (fun _ h => h) rfl dX5_checksum_6 ?_
  refine lv_iconst (v := 3) hx hb dX5_checksum_9 rfl ?_
  refine w_iald hx hb hK hP 1 rfl 3 rfl (Nat.le_of_ble_eq_true rfl) (Nat.le_of_ble_eq_true rfl) dX5_checksum_10 ?_
  refine lv_i2l (v := (d 3).toInt64) hx hb dX5_checksum_11 rfl ?_
  refine lv_lstore_n (lv' := [(1, .long ((d 3).toInt64)), (0, .ref o)]) hx hb dX5_checksum_12 rfl hl (by decide) rfl (fun ls hl => ?_)
  refine lv_iconst (v := 0) hx hb dX5_checksum_13 rfl ?_
  refine lv_istore_n (lv' := [(3, .int 0), (1, .long ((d 3).toInt64)), (0, .ref o)]) hx hb dX5_checksum_14 rfl hl (by decide) rfl (fun ls hl => ?_)
  have loop_15 : ∀ (n : Nat) (j : Nat), (j ≤ dN d 0) → (dN d 0 + 1 ≤ j + n) → ∀ (ls : Array Slot), lv_has ls 4 [(0, .ref o), (1, .long (ck1 d j)), (3, .int (nI j))] → W p l e (Rm 4 86 0 0) s m ([.ref o] : List Value).toArray below meth c H locs 0 0 (MQ below (wQ D (some (.long (ck2 d (dN d 1)))) ((o, .inr (0, [.int 0, .ref a1, .int bl, .int tl, .int ps, .int er, .int ea, .int eo, .ref a8, .ref a9, .ref a10, .int ud, .int ns, .int ne, .int se, .ref a15])) :: (a8, .inl (k 0, 1798, .inl d)) :: wr) A) ([.ref o] : List Value).toArray s 0 0 A) (F0 m 15 ls []) := by
    intro n
    induction n with
    | zero =>
      intro j hj hn
      exact absurd hn (by omega)
    | succ n ih_15 =>
      intro j hj hn ls hl
      refine lv_iload_n hx hb dX5_checksum_15 rfl (lv_at hl 2 rfl) ?_
      refine lv_aload_n hx hb dX5_checksum_16 rfl (lv_at hl 0 rfl) ?_
      refine va_get hx hb hts in_X5 hown hK hP 0 rfl rfl 8 (by decide) (hts _ q1670) (fun _ h => h) rfl dX5_checksum_17 ?_
      refine lv_iconst (v := 0) hx hb dX5_checksum_20 rfl ?_
      refine w_iald hx hb hK hP 1 rfl 0 rfl (Nat.le_of_ble_eq_true rfl) (Nat.le_of_ble_eq_true rfl) dX5_checksum_21 ?_
      refine w_topi (y := nI (dN d 0)) e0 ?_
      refine lv_icmp_ge (tgt := 77) hx hb dX5_checksum_22 (by decide) (fun c_22 => ?_) (fun c_22 => ?_)
      · have g_22 := nI_le' c_22 (by omega) (by omega)
        rw [show j = dN d 0 by omega] at hl
        refine lv_iconst (v := 0) hx hb dX5_checksum_77 rfl ?_
        refine lv_istore_n (lv' := [(3, .int 0), (0, .ref o), (1, .long (ck1 d (dN d 0)))]) hx hb dX5_checksum_78 rfl hl (by decide) rfl (fun ls hl => ?_)
        have loop_79 : ∀ (n : Nat) (j2 : Nat), (j2 ≤ dN d 1) → (dN d 1 + 1 ≤ j2 + n) → ∀ (ls : Array Slot), lv_has ls 4 [(0, .ref o), (1, .long (ck2 d j2)), (3, .int (nI j2))] → W p l e (Rm 4 86 0 0) s m ([.ref o] : List Value).toArray below meth c H locs 0 0 (MQ below (wQ D (some (.long (ck2 d (dN d 1)))) ((o, .inr (0, [.int 0, .ref a1, .int bl, .int tl, .int ps, .int er, .int ea, .int eo, .ref a8, .ref a9, .ref a10, .int ud, .int ns, .int ne, .int se, .ref a15])) :: (a8, .inl (k 0, 1798, .inl d)) :: wr) A) ([.ref o] : List Value).toArray s 0 0 A) (F0 m 79 ls []) := by
          intro n
          induction n with
          | zero =>
            intro j2 hj2 hn2
            exact absurd hn2 (by omega)
          | succ n ih_79 =>
            intro j2 hj2 hn2 ls hl
            refine lv_iload_n hx hb dX5_checksum_79 rfl (lv_at hl 2 rfl) ?_
            refine lv_aload_n hx hb dX5_checksum_80 rfl (lv_at hl 0 rfl) ?_
            refine va_get hx hb hts in_X5 hown hK hP 0 rfl rfl 8 (by decide) (hts _ q1670) (fun _ h => h) rfl dX5_checksum_81 ?_
            refine lv_iconst (v := 1) hx hb dX5_checksum_84 rfl ?_
            refine w_iald hx hb hK hP 1 rfl 1 rfl (Nat.le_of_ble_eq_true rfl) (Nat.le_of_ble_eq_true rfl) dX5_checksum_85 ?_
            refine w_topi (y := nI (dN d 1)) e1 ?_
            refine lv_icmp_ge (tgt := 163) hx hb dX5_checksum_86 (by decide) (fun c_86 => ?_) (fun c_86 => ?_)
            · have g_86 := nI_le' c_86 (by omega) (by omega)
              refine lv_lload_n hx hb dX5_checksum_163 rfl (lv_at hl 1 rfl) ?_
              exact w_lret C (by rw [show j2 = dN d 1 by omega]) hP hS dX5_checksum_164
            · have g_86 := nI_nle' c_86 (by omega) (by omega)
              refine lv_ldc2 (v := 31) hx hb hown (hts _ q2050) dX5_checksum_89 ?_
              refine lv_lload_n hx hb dX5_checksum_92 rfl (lv_at hl 1 rfl) ?_
              refine lv_lmul hx hb dX5_checksum_93 ?_
              refine lv_aload_n hx hb dX5_checksum_94 rfl (lv_at hl 0 rfl) ?_
              refine va_get hx hb hts in_X5 hown hK hP 0 rfl rfl 8 (by decide) (hts _ q1670) (fun _ h => h) rfl dX5_checksum_95 ?_
              refine lv_iload_n hx hb dX5_checksum_98 rfl (lv_at hl 2 rfl) ?_
              refine r_callS (As := [.int (nI j2)]) (rest := [.ref a8, .long (31 * (ck2 d j2))]) C (m_presentationN l D k j2) (va_cwS 1 hts (lw_S q1917 q1918 q76 q1919) rfl rfl rfl (by decide +kernel) ⟨Nat.le_of_ble_eq_true rfl, Nat.le_of_ble_eq_true rfl⟩) hK trivial rfl hl.1 rfl (Nat.le_of_ble_eq_true rfl) dX5_checksum_99 ⟨Nat.le_of_ble_eq_true rfl, Nat.le_of_ble_eq_true rfl⟩ ?_
              refine w_iald hx hb hK hP 1 rfl (154 + 6 * j2) rfl (by omega) (Nat.le_of_ble_eq_true rfl) dX5_checksum_102 ?_
              refine lv_i2l (v := (d (154 + 6 * j2)).toInt64) hx hb dX5_checksum_103 rfl ?_
              refine lv_ladd hx hb dX5_checksum_104 ?_
              refine lv_lstore_n (lv' := [(1, .long ((31 * (ck2 d j2)) + ((d (154 + 6 * j2)).toInt64))), (0, .ref o), (3, .int (nI j2))]) hx hb dX5_checksum_105 rfl hl (by decide) rfl (fun ls hl => ?_)
              refine lv_ldc2 (v := 31) hx hb hown (hts _ q2050) dX5_checksum_106 ?_
              refine lv_lload_n hx hb dX5_checksum_109 rfl (lv_at hl 0 rfl) ?_
              refine lv_lmul hx hb dX5_checksum_110 ?_
              refine lv_aload_n hx hb dX5_checksum_111 rfl (lv_at hl 1 rfl) ?_
              refine va_get hx hb hts in_X5 hown hK hP 0 rfl rfl 8 (by decide) (hts _ q1670) (fun _ h => h) rfl dX5_checksum_112 ?_
              refine lv_iload_n hx hb dX5_checksum_115 rfl (lv_at hl 2 rfl) ?_
              refine r_callS (As := [.int (nI j2)]) (rest := [.ref a8, .long (31 * ((31 * (ck2 d j2)) + ((d (154 + 6 * j2)).toInt64)))]) C (m_presentationN l D k j2) (va_cwS 1 hts (lw_S q1917 q1918 q76 q1919) rfl rfl rfl (by decide +kernel) ⟨Nat.le_of_ble_eq_true rfl, Nat.le_of_ble_eq_true rfl⟩) hK trivial rfl hl.1 rfl (Nat.le_of_ble_eq_true rfl) dX5_checksum_116 ⟨Nat.le_of_ble_eq_true rfl, Nat.le_of_ble_eq_true rfl⟩ ?_
              refine lv_iconst (v := 4) hx hb dX5_checksum_119 rfl ?_
              refine lv_iadd hx hb dX5_checksum_120 ?_
              refine w_topi (y := nI ((154 + 6 * j2) + 4)) (nI_add (154 + 6 * j2) 4) ?_
              refine w_iald hx hb hK hP 1 rfl ((154 + 6 * j2) + 4) rfl (by omega) (Nat.le_of_ble_eq_true rfl) dX5_checksum_121 ?_
              refine lv_i2l (v := (d ((154 + 6 * j2) + 4)).toInt64) hx hb dX5_checksum_122 rfl ?_
              refine lv_ladd hx hb dX5_checksum_123 ?_
              refine lv_lstore_n (lv' := [(1, .long ((31 * ((31 * (ck2 d j2)) + ((d (154 + 6 * j2)).toInt64))) + ((d ((154 + 6 * j2) + 4)).toInt64))), (0, .ref o), (3, .int (nI j2))]) hx hb dX5_checksum_124 rfl hl (by decide) rfl (fun ls hl => ?_)
              refine lv_ldc2 (v := 31) hx hb hown (hts _ q2050) dX5_checksum_125 ?_
              refine lv_lload_n hx hb dX5_checksum_128 rfl (lv_at hl 0 rfl) ?_
              refine lv_lmul hx hb dX5_checksum_129 ?_
              refine lv_aload_n hx hb dX5_checksum_130 rfl (lv_at hl 1 rfl) ?_
              refine va_get hx hb hts in_X5 hown hK hP 0 rfl rfl 8 (by decide) (hts _ q1670) (fun _ h => h) rfl dX5_checksum_131 ?_
              refine lv_iload_n hx hb dX5_checksum_134 rfl (lv_at hl 2 rfl) ?_
              refine r_callS (As := [.int (nI j2)]) (rest := [.ref a8, .long (31 * ((31 * ((31 * (ck2 d j2)) + ((d (154 + 6 * j2)).toInt64))) + ((d ((154 + 6 * j2) + 4)).toInt64)))]) C (m_presentationN l D k j2) (va_cwS 1 hts (lw_S q1917 q1918 q76 q1919) rfl rfl rfl (by decide +kernel) ⟨Nat.le_of_ble_eq_true rfl, Nat.le_of_ble_eq_true rfl⟩) hK trivial rfl hl.1 rfl (Nat.le_of_ble_eq_true rfl) dX5_checksum_135 ⟨Nat.le_of_ble_eq_true rfl, Nat.le_of_ble_eq_true rfl⟩ ?_
              refine lv_iconst (v := 3) hx hb dX5_checksum_138 rfl ?_
              refine lv_iadd hx hb dX5_checksum_139 ?_
              refine w_topi (y := nI ((154 + 6 * j2) + 3)) (nI_add (154 + 6 * j2) 3) ?_
              refine w_iald hx hb hK hP 1 rfl ((154 + 6 * j2) + 3) rfl (by omega) (Nat.le_of_ble_eq_true rfl) dX5_checksum_140 ?_
              refine lv_i2l (v := (d ((154 + 6 * j2) + 3)).toInt64) hx hb dX5_checksum_141 rfl ?_
              refine lv_ladd hx hb dX5_checksum_142 ?_
              refine lv_lstore_n (lv' := [(1, .long ((31 * ((31 * ((31 * (ck2 d j2)) + ((d (154 + 6 * j2)).toInt64))) + ((d ((154 + 6 * j2) + 4)).toInt64))) + ((d ((154 + 6 * j2) + 3)).toInt64))), (0, .ref o), (3, .int (nI j2))]) hx hb dX5_checksum_143 rfl hl (by decide) rfl (fun ls hl => ?_)
              refine lv_ldc2 (v := 31) hx hb hown (hts _ q2050) dX5_checksum_144 ?_
              refine lv_lload_n hx hb dX5_checksum_147 rfl (lv_at hl 0 rfl) ?_
              refine lv_lmul hx hb dX5_checksum_148 ?_
              refine lv_aload_n hx hb dX5_checksum_149 rfl (lv_at hl 1 rfl) ?_
              refine lv_iload_n hx hb dX5_checksum_150 rfl (lv_at hl 2 rfl) ?_
              refine r_callV (As := [.int (nI j2)]) (rest := [.long (31 * ((31 * ((31 * ((31 * (ck2 d j2)) + ((d (154 + 6 * j2)).toInt64))) + ((d ((154 + 6 * j2) + 4)).toInt64))) + ((d ((154 + 6 * j2) + 3)).toInt64)))]) C (m_dueOf l D k o a8 ([.int 0, .ref a1, .int bl, .int tl, .int ps, .int er, .int ea, .int eo, .ref a8, .ref a9, .ref a10, .int ud, .int ns, .int ne, .int se, .ref a15] : List Value) d rfl hd j2 (by omega)) (cwV 1 hts (lw_V q1985 q1987 qs64 q76 q1988) rfl rfl rfl (by decide +kernel) ⟨Nat.le_of_ble_eq_true rfl, Nat.le_of_ble_eq_true rfl⟩) hK (va_recv hK hP (ci := 0) (q0 := 0) rfl rfl) (hP.sub [0, 1] rfl) rfl hl.1 rfl (Nat.le_of_ble_eq_true rfl) dX5_checksum_151 ⟨Nat.le_of_ble_eq_true rfl, Nat.le_of_ble_eq_true rfl⟩ ?_
              refine lv_i2l (v := (due d j2).toInt64) hx hb dX5_checksum_154 rfl ?_
              refine lv_ladd hx hb dX5_checksum_155 ?_
              refine w_topl (y := ck2 d (j2 + 1)) rfl ?_
              refine lv_lstore_n (lv' := [(1, .long (ck2 d (j2 + 1))), (0, .ref o), (3, .int (nI j2))]) hx hb dX5_checksum_156 rfl hl (by decide) rfl (fun ls hl => ?_)
              refine lv_iinc (v := nI (j2 + 1)) (lv' := [(3, .int (nI (j2 + 1))), (1, .long (ck2 d (j2 + 1))), (0, .ref o)]) hx hb dX5_checksum_157 hl (k := 2) rfl (nI_1 j2) (by decide) rfl (fun ls hl => ?_)
              refine lv_goto (tgt := 79) hx hb dX5_checksum_160 (by decide) ?_
              exact ih_79 (j2 + 1) (by omega) (by omega) ls (lv_sub hl [2, 1, 0] rfl)
        exact loop_79 (dN d 1 + 1) 0 (Nat.zero_le _) (by omega) ls (lv_sub hl [1, 2, 0] rfl)
      · have g_22 := nI_nle' c_22 (by omega) (by omega)
        refine lv_ldc2 (v := 31) hx hb hown (hts _ q2050) dX5_checksum_25 ?_
        refine lv_lload_n hx hb dX5_checksum_28 rfl (lv_at hl 1 rfl) ?_
        refine lv_lmul hx hb dX5_checksum_29 ?_
        refine lv_aload_n hx hb dX5_checksum_30 rfl (lv_at hl 0 rfl) ?_
        refine va_get hx hb hts in_X5 hown hK hP 0 rfl rfl 8 (by decide) (hts _ q1670) (fun _ h => h) rfl dX5_checksum_31 ?_
        refine lv_iload_n hx hb dX5_checksum_34 rfl (lv_at hl 2 rfl) ?_
        refine r_callS (As := [.int (nI j)]) (rest := [.ref a8, .long (31 * (ck1 d j))]) C (m_creditN l D k j) (va_cwS 1 hts (lw_S q1788 q1789 q76 q1790) rfl rfl rfl (by decide +kernel) ⟨Nat.le_of_ble_eq_true rfl, Nat.le_of_ble_eq_true rfl⟩) hK trivial rfl hl.1 rfl (Nat.le_of_ble_eq_true rfl) dX5_checksum_35 ⟨Nat.le_of_ble_eq_true rfl, Nat.le_of_ble_eq_true rfl⟩ ?_
        refine lv_bipush (v := 10) hx hb dX5_checksum_38 rfl ?_
        refine lv_iadd hx hb dX5_checksum_40 ?_
        refine w_topi (y := nI ((22 + 11 * j) + 10)) (nI_add (22 + 11 * j) 10) ?_
        refine w_iald hx hb hK hP 1 rfl ((22 + 11 * j) + 10) rfl (by omega) (Nat.le_of_ble_eq_true rfl) dX5_checksum_41 ?_
        refine lv_i2l (v := (d ((22 + 11 * j) + 10)).toInt64) hx hb dX5_checksum_42 rfl ?_
        refine lv_ladd hx hb dX5_checksum_43 ?_
        refine lv_lstore_n (lv' := [(1, .long ((31 * (ck1 d j)) + ((d ((22 + 11 * j) + 10)).toInt64))), (0, .ref o), (3, .int (nI j))]) hx hb dX5_checksum_44 rfl hl (by decide) rfl (fun ls hl => ?_)
        refine lv_ldc2 (v := 31) hx hb hown (hts _ q2050) dX5_checksum_45 ?_
        refine lv_lload_n hx hb dX5_checksum_48 rfl (lv_at hl 0 rfl) ?_
        refine lv_lmul hx hb dX5_checksum_49 ?_
        refine lv_aload_n hx hb dX5_checksum_50 rfl (lv_at hl 1 rfl) ?_
        refine lv_iload_n hx hb dX5_checksum_51 rfl (lv_at hl 2 rfl) ?_
        refine r_callV (As := [.int (nI j)]) (rest := [.long (31 * ((31 * (ck1 d j)) + ((d ((22 + 11 * j) + 10)).toInt64)))]) C (m_drawnOf l D k o a8 ([.int 0, .ref a1, .int bl, .int tl, .int ps, .int er, .int ea, .int eo, .ref a8, .ref a9, .ref a10, .int ud, .int ns, .int ne, .int se, .ref a15] : List Value) d rfl hd (nI j)) (cwV 1 hts (lw_V q1909 q1911 qs55 q76 q1912) rfl rfl rfl (by decide +kernel) ⟨Nat.le_of_ble_eq_true rfl, Nat.le_of_ble_eq_true rfl⟩) hK (va_recv hK hP (ci := 0) (q0 := 0) rfl rfl) (hP.sub [0, 1] rfl) rfl hl.1 rfl (Nat.le_of_ble_eq_true rfl) dX5_checksum_52 ⟨Nat.le_of_ble_eq_true rfl, Nat.le_of_ble_eq_true rfl⟩ ?_
        refine lv_i2l (v := (drawn d (nI j)).toInt64) hx hb dX5_checksum_55 rfl ?_
        refine lv_ladd hx hb dX5_checksum_56 ?_
        refine lv_lstore_n (lv' := [(1, .long ((31 * ((31 * (ck1 d j)) + ((d ((22 + 11 * j) + 10)).toInt64))) + ((drawn d (nI j)).toInt64))), (0, .ref o), (3, .int (nI j))]) hx hb dX5_checksum_57 rfl hl (by decide) rfl (fun ls hl => ?_)
        refine lv_ldc2 (v := 31) hx hb hown (hts _ q2050) dX5_checksum_58 ?_
        refine lv_lload_n hx hb dX5_checksum_61 rfl (lv_at hl 0 rfl) ?_
        refine lv_lmul hx hb dX5_checksum_62 ?_
        refine lv_aload_n hx hb dX5_checksum_63 rfl (lv_at hl 1 rfl) ?_
        refine lv_iload_n hx hb dX5_checksum_64 rfl (lv_at hl 2 rfl) ?_
        refine r_callV (As := [.int (nI j)]) (rest := [.long (31 * ((31 * ((31 * (ck1 d j)) + ((d ((22 + 11 * j) + 10)).toInt64))) + ((drawn d (nI j)).toInt64)))]) C (m_availableOf l D k o a8 ([.int 0, .ref a1, .int bl, .int tl, .int ps, .int er, .int ea, .int eo, .ref a8, .ref a9, .ref a10, .int ud, .int ns, .int ne, .int se, .ref a15] : List Value) d rfl hd j (by omega)) (cwV 1 hts (lw_V q1932 q1934 qs58 q76 q1935) rfl rfl rfl (by decide +kernel) ⟨Nat.le_of_ble_eq_true rfl, Nat.le_of_ble_eq_true rfl⟩) hK (va_recv hK hP (ci := 0) (q0 := 0) rfl rfl) (hP.sub [0, 1] rfl) rfl hl.1 rfl (Nat.le_of_ble_eq_true rfl) dX5_checksum_65 ⟨Nat.le_of_ble_eq_true rfl, Nat.le_of_ble_eq_true rfl⟩ ?_
        refine lv_i2l (v := (avail d j).toInt64) hx hb dX5_checksum_68 rfl ?_
        refine lv_ladd hx hb dX5_checksum_69 ?_
        refine w_topl (y := ck1 d (j + 1)) rfl ?_
        refine lv_lstore_n (lv' := [(1, .long (ck1 d (j + 1))), (0, .ref o), (3, .int (nI j))]) hx hb dX5_checksum_70 rfl hl (by decide) rfl (fun ls hl => ?_)
        refine lv_iinc (v := nI (j + 1)) (lv' := [(3, .int (nI (j + 1))), (1, .long (ck1 d (j + 1))), (0, .ref o)]) hx hb dX5_checksum_71 hl (k := 2) rfl (nI_1 j) (by decide) rfl (fun ls hl => ?_)
        refine lv_goto (tgt := 15) hx hb dX5_checksum_74 (by decide) ?_
        exact ih_15 (j + 1) (by omega) (by omega) ls (lv_sub hl [2, 1, 0] rfl)
  exact loop_15 (dN d 0 + 1) 0 (Nat.zero_le _) (by omega) ls (lv_sub hl [2, 1, 0] rfl)
set_option maxHeartbeats 4000000 in
theorem m_copy (l : Launch) (D : va_G) (k : Nat → ClassId) (x y : Nat) (f g : Nat → Int32) (hD : va_D (fun q => q = x ∨ q = y) [(x, .inl (k 0, 1798, .inl f)), (y, .inl (k 0, 1798, .inl g))]) : wM l D k yX5_copy cX5_copy 3 none 0 0 [.ref x, .ref y] [(x, .inl (k 0, 1798, .inl f)), (y, .inl (k 0, 1798, .inl g))] (none) [(x, .inl (k 0, 1798, .inl f)), (y, .inl (k 0, 1798, .inl f))] (fun q => q = x ∨ q = y) := by
  refine wM_of (by decide) (Nat.le_of_ble_eq_true rfl) ?_
  intro p e s m below meth c ls C hK hP hS hl
  obtain ⟨hx, hb, hr, hml, hown, hts, hlk⟩ := id C
  have hl : lv_has ls 3 [(0, .ref x), (1, .ref y)] := hl
  refine lv_iconst (v := 0) hx hb dX5_copy_0 rfl ?_
  refine lv_istore_n (lv' := [(2, .int 0), (0, .ref x), (1, .ref y)]) hx hb dX5_copy_1 rfl hl (by decide) rfl (fun ls hl => ?_)
  have loop_2 : ∀ (n : Nat) (j : Nat) (g2 : Nat → Int32), (j ≤ 1798) → (1799 ≤ j + n) → (∀ a, a < j → g2 a = f a) → ∀ (H : Heap) (locs : List Loc), va_P D clA [(x, .inl (k 0, 1798, .inl f)), (y, .inl (k 0, 1798, .inl g2))] H → va_S (fun q => q = x ∨ q = y) s.heap H locs → ∀ (ls : Array Slot), lv_has ls 3 [(0, .ref x), (1, .ref y), (2, .int (nI j))] → W p l e (Rm 0 0 0 0) s m ([.ref x, .ref y] : List Value).toArray below meth c H locs 0 0 (MQ below (wQ D (none) [(x, .inl (k 0, 1798, .inl f)), (y, .inl (k 0, 1798, .inl f))] (fun q => q = x ∨ q = y)) ([.ref x, .ref y] : List Value).toArray s 0 0 (fun q => q = x ∨ q = y)) (F0 m 2 ls []) := by
    intro n
    induction n with
    | zero =>
      intro j g2 hj hn hg
      exact absurd hn (by omega)
    | succ n ih_2 =>
      intro j g2 hj hn hg H locs hP hS ls hl
      refine lv_iload_n hx hb dX5_copy_2 rfl (lv_at hl 2 rfl) ?_
      refine lv_sipush (v := 1798) hx hb dX5_copy_3 rfl ?_
      refine lv_icmp_ge (tgt := 21) hx hb dX5_copy_6 (by decide) (fun c_6 => ?_) (fun c_6 => ?_)
      · have g_6 := nI_le' (a := 1798) c_6 (by decide) (by omega)
        exact w_vret C (va_cons (hP 0 _ rfl) (va_cons (va_cgi (hP 1 _ rfl) (fun a ha => hg a (by omega))) va_nil)) hS dX5_copy_21
      · have g_6 := nI_nle' (a := 1798) c_6 (by decide) (by omega)
        refine lv_aload_n hx hb dX5_copy_9 rfl (lv_at hl 1 rfl) ?_
        refine lv_iload_n hx hb dX5_copy_10 rfl (lv_at hl 2 rfl) ?_
        refine lv_aload_n hx hb dX5_copy_11 rfl (lv_at hl 0 rfl) ?_
        refine lv_iload_n hx hb dX5_copy_12 rfl (lv_at hl 2 rfl) ?_
        refine w_iald hx hb hK hP 0 rfl j rfl (by omega) (Nat.le_of_ble_eq_true rfl) dX5_copy_13 ?_
        refine w_iast hx hb hK hP (va_D_of hD rfl) hS 1 rfl j rfl (by omega) (Nat.le_of_ble_eq_true rfl) dX5_copy_14 (fun H locs hP _ hS => ?_)
        have hP : va_P D clA [(x, .inl (k 0, 1798, .inl f)), (y, .inl (k 0, 1798, .inl (upd g2 j (f j))))] H := hP
        refine lv_iinc (v := nI (j + 1)) (lv' := [(2, .int (nI (j + 1))), (0, .ref x), (1, .ref y)]) hx hb dX5_copy_15 hl (k := 2) rfl (nI_1 j) (by decide) rfl (fun ls hl => ?_)
        refine lv_goto (tgt := 2) hx hb dX5_copy_18 (by decide) ?_
        exact ih_2 (j + 1) (upd g2 j (f j)) (by omega) (by omega) (lt_s (fun a ha => by rw [pk_un (by omega)]; exact hg a ha) pk_us) _ _ hP hS ls (lv_sub hl [1, 2, 0] rfl)
  exact loop_2 1799 0 g (Nat.zero_le _) (by omega) lt_0 _ _ hP hS ls (lv_sub hl [1, 2, 0] rfl)
