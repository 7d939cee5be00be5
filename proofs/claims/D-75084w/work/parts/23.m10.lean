/-! the reference, part 10 (printed by gen/m10.py) -/
set_option maxRecDepth 100000
set_option maxHeartbeats 16000000 in
theorem m_readNeeds (l : Launch) (D : va_G) (k : Nat → ClassId) (o a1 a8 a9 a10 a15 : Nat) (t bl eo ud ne se : Int32) (wr : va_W) (d dr fb : Nat → Int32) (L : Nat) (hL : L ≤ 900) (σ : PS) (A : Nat → Prop) (hD : va_D A ((o, .inr (0, [.int t, .ref a1, .int bl, .int (nI L), .int (nI σ.1), .int σ.2.1, .int σ.2.2.1, .int eo, .ref a8, .ref a9, .ref a10, .int ud, .int (nI σ.2.2.2), .int ne, .int se, .ref a15])) :: (a8, .inl (k 0, 1798, .inl d)) :: (a9, .inl (k 0, 1798, .inl dr)) :: (a1, .inl (k 0, 900, .inl fb)) :: wr)) (hok : okS L σ) (q : Nat) (hq : q < 1798) : wM l D k yX5_readNeeds cX5_readNeeds 3 none 3 65 [.ref o, .int (nI q)] ((o, .inr (0, [.int t, .ref a1, .int bl, .int (nI L), .int (nI σ.1), .int σ.2.1, .int σ.2.2.1, .int eo, .ref a8, .ref a9, .ref a10, .int ud, .int (nI σ.2.2.2), .int ne, .int se, .ref a15])) :: (a8, .inl (k 0, 1798, .inl d)) :: (a9, .inl (k 0, 1798, .inl dr)) :: (a1, .inl (k 0, 900, .inl fb)) :: wr) (none) ((o, .inr (0, [.int t, .ref a1, .int bl, .int (nI L), .int (nI (needF fb L (L + 2) σ (dr q)).1.1), .int ((needF fb L (L + 2) σ (dr q)).1.2.1), .int ((needF fb L (L + 2) σ (dr q)).1.2.2.1), .int eo, .ref a8, .ref a9, .ref a10, .int ud, .int (nI (needF fb L (L + 2) σ (dr q)).1.2.2.2), .int ne, .int se, .ref a15])) :: (a8, .inl (k 0, 1798, .inl d)) :: (a9, .inl (k 0, 1798, .inl (upd dr q (needF fb L (L + 2) σ (dr q)).2))) :: (a1, .inl (k 0, 900, .inl fb)) :: wr) A := by
  refine wM_of (by decide) (Nat.le_of_ble_eq_true rfl) ?_
  intro p e s m below meth c ls C hK hP hS hl
  obtain ⟨hx, hb, hr, hml, hown, hts, hlk⟩ := id C
  have hl : lv_has ls 3 [(0, .ref o), (1, .int (nI q))] := hl
  have hP : va_P D clA ((o, .inr (0, [.int t, .ref a1, .int bl, .int (nI L), .int (nI σ.1), .int σ.2.1, .int σ.2.2.1, .int eo, .ref a8, .ref a9, .ref a10, .int ud, .int (nI σ.2.2.2), .int ne, .int se, .ref a15])) :: (a8, .inl (k 0, 1798, .inl d)) :: (a9, .inl (k 0, 1798, .inl (upd dr q (dr q)))) :: (a1, .inl (k 0, 900, .inl fb)) :: wr) s.heap := by rw [upd_self]; exact hP
  have loop_0 : ∀ (n : Nat) (s1 : PS) (b : Int32), (okS L s1) → (needF fb L n s1 b = needF fb L (L + 2) σ (dr q)) → (L - s1.1 + 1 ≤ n) → ∀ (H : Heap) (locs : List Loc), va_P D clA ((o, .inr (0, [.int t, .ref a1, .int bl, .int (nI L), .int (nI s1.1), .int s1.2.1, .int s1.2.2.1, .int eo, .ref a8, .ref a9, .ref a10, .int ud, .int (nI s1.2.2.2), .int ne, .int se, .ref a15])) :: (a8, .inl (k 0, 1798, .inl d)) :: (a9, .inl (k 0, 1798, .inl (upd dr q b))) :: (a1, .inl (k 0, 900, .inl fb)) :: wr) H → va_S A s.heap H locs → ∀ (ls : Array Slot), lv_has ls 3 [(0, .ref o), (1, .int (nI q))] → W p l e (Rm 3 65 0 0) s m ([.ref o, .int (nI q)] : List Value).toArray below meth c H locs 0 0 (MQ below (wQ D (none) ((o, .inr (0, [.int t, .ref a1, .int bl, .int (nI L), .int (nI (needF fb L (L + 2) σ (dr q)).1.1), .int ((needF fb L (L + 2) σ (dr q)).1.2.1), .int ((needF fb L (L + 2) σ (dr q)).1.2.2.1), .int eo, .ref a8, .ref a9, .ref a10, .int ud, .int (nI (needF fb L (L + 2) σ (dr q)).1.2.2.2), .int ne, .int se, .ref a15])) :: (a8, .inl (k 0, 1798, .inl d)) :: (a9, .inl (k 0, 1798, .inl (upd dr q (needF fb L (L + 2) σ (dr q)).2))) :: (a1, .inl (k 0, 900, .inl fb)) :: wr) A) ([.ref o, .int (nI q)] : List Value).toArray s 0 0 A) (F0 m 0 ls []) := by
    intro n
    induction n with
    | zero =>
      intro s1 b ok1 he hn
      exact absurd hn (by omega)
    | succ n ih_0 =>
      intro s1 b ok1 he hn H locs hP hS ls hl
      refine lv_aload_n hx hb dX5_readNeeds_0 rfl (lv_at hl 0 rfl) ?_
      refine lv_iconst (v := 0) hx hb dX5_readNeeds_1 rfl ?_
      refine lv_bipush (v := 7) hx hb dX5_readNeeds_2 rfl ?_
      refine w_callV (As := [.int 0, .int 7]) (rest := []) C (m_number l D k o a1 a8 a9 a10 a15 t bl eo ud ne se wr d (upd dr q b) fb L hL s1 A (va_D_of hD rfl) ok1 0 7) (cwV 2 hts (lw_V q1768 q1770 qs38 q76 q1771) rfl rfl rfl (by decide +kernel) ⟨Nat.le_of_ble_eq_true rfl, Nat.le_of_ble_eq_true rfl⟩) hK (va_recv hK hP (ci := 0) (q0 := 0) rfl rfl) hP hS (fun _ h => h) rfl hl.1 rfl (Nat.le_of_ble_eq_true rfl) dX5_readNeeds_4 ⟨Nat.le_of_ble_eq_true rfl, Nat.le_of_ble_eq_true rfl⟩ (fun H locs hP hS _ _ => ?_)
      have hP : va_P D clA ((o, .inr (0, [.int t, .ref a1, .int bl, .int (nI L), .int (nI (nmS fb L 0 7 s1).2.1), .int ((nmS fb L 0 7 s1).2.2.1), .int ((nmS fb L 0 7 s1).2.2.2.1), .int eo, .ref a8, .ref a9, .ref a10, .int ud, .int (nI (nmS fb L 0 7 s1).2.2.2.2), .int ne, .int se, .ref a15])) :: (a8, .inl (k 0, 1798, .inl d)) :: (a9, .inl (k 0, 1798, .inl (upd dr q b))) :: (a1, .inl (k 0, 900, .inl fb)) :: wr) H := hP
      refine lv_istore_n (lv' := [(2, .int ((nmS fb L 0 7 s1).1)), (0, .ref o), (1, .int (nI q))]) hx hb dX5_readNeeds_7 rfl hl (by decide) rfl (fun ls hl => ?_)
      refine lv_aload_n hx hb dX5_readNeeds_8 rfl (lv_at hl 1 rfl) ?_
      refine r_callV (As := []) (rest := []) C (m_isGood l D k o ((nmS fb L 0 7 s1).2.2.1) ([.int t, .ref a1, .int bl, .int (nI L), .int (nI (nmS fb L 0 7 s1).2.1), .int ((nmS fb L 0 7 s1).2.2.1), .int ((nmS fb L 0 7 s1).2.2.2.1), .int eo, .ref a8, .ref a9, .ref a10, .int ud, .int (nI (nmS fb L 0 7 s1).2.2.2.2), .int ne, .int se, .ref a15] : List Value) rfl) (cwV 0 hts (lw_V q1731 q1733 qs32 q76 q1734) rfl rfl rfl (by decide +kernel) ⟨Nat.le_of_ble_eq_true rfl, Nat.le_of_ble_eq_true rfl⟩) hK (va_recv hK hP (ci := 0) (q0 := 0) rfl rfl) (hP.sub [0] rfl) rfl hl.1 rfl (Nat.le_of_ble_eq_true rfl) dX5_readNeeds_9 ⟨Nat.le_of_ble_eq_true rfl, Nat.le_of_ble_eq_true rfl⟩ ?_
      refine lv_if_eq (tgt := 39) hx hb dX5_readNeeds_12 (by decide) (fun c_12 => ?_) (fun c_12 => ?_)
      · have b_12 := bI_0.mp c_12
        have hP : va_P D clA ((o, .inr (0, [.int t, .ref a1, .int bl, .int (nI L), .int (nI (n2s fb L b s1).1), .int ((n2s fb L b s1).2.1), .int ((n2s fb L b s1).2.2.1), .int eo, .ref a8, .ref a9, .ref a10, .int ud, .int (nI (n2s fb L b s1).2.2.2), .int ne, .int se, .ref a15])) :: (a8, .inl (k 0, 1798, .inl d)) :: (a9, .inl (k 0, 1798, .inl (upd dr q b))) :: (a1, .inl (k 0, 900, .inl fb)) :: wr) H := by simp only [n2s, ifp_f (fun h : (n1s fb L s1).2.1 = 0 ∧ (b >>> (nv fb L s1 &&& 31)) &&& 1 = 1 => b_12 h.1)]; exact hP
        refine lv_aload_n hx hb dX5_readNeeds_39 rfl (lv_at hl 1 rfl) ?_
        refine r_callV (As := []) (rest := []) C (m_isGood l D k o ((n2s fb L b s1).2.1) ([.int t, .ref a1, .int bl, .int (nI L), .int (nI (n2s fb L b s1).1), .int ((n2s fb L b s1).2.1), .int ((n2s fb L b s1).2.2.1), .int eo, .ref a8, .ref a9, .ref a10, .int ud, .int (nI (n2s fb L b s1).2.2.2), .int ne, .int se, .ref a15] : List Value) rfl) (cwV 0 hts (lw_V q1731 q1733 qs32 q76 q1734) rfl rfl rfl (by decide +kernel) ⟨Nat.le_of_ble_eq_true rfl, Nat.le_of_ble_eq_true rfl⟩) hK (va_recv hK hP (ci := 0) (q0 := 0) rfl rfl) (hP.sub [0] rfl) rfl hl.1 rfl (Nat.le_of_ble_eq_true rfl) dX5_readNeeds_40 ⟨Nat.le_of_ble_eq_true rfl, Nat.le_of_ble_eq_true rfl⟩ ?_
        refine lv_if_ne (tgt := 47) hx hb dX5_readNeeds_43 (by decide) (fun c_43 => ?_) (fun c_43 => ?_)
        · have b_43 := bI_nz c_43
          obtain ⟨e1, e2, e3, e4, e5⟩ := n2_good ok1 b_43
          have ok3 := okS_n2 (fb := fb) (b := b) hL ok1
          have hp := ok3.1 b_43
          have hs := sk_in (fb := fb) hp
          have hfw : s1.1 < (n2s fb L b s1).1 := by rw [e1]; exact e4
          refine lv_aload_n hx hb dX5_readNeeds_47 rfl (lv_at hl 1 rfl) ?_
          refine va_get hx hb hts in_X5 hown hK hP 0 rfl rfl 9 (by decide) (hts _ q1671) (fun _ h => h) rfl dX5_readNeeds_48 ?_
          refine lv_iload_n hx hb dX5_readNeeds_51 rfl (lv_at hl 2 rfl) ?_
          refine lv_dup2_11 hx hb dX5_readNeeds_52 rfl rfl ?_
          refine w_iald hx hb hK hP 2 rfl q rfl (by omega) (Nat.le_of_ble_eq_true rfl) dX5_readNeeds_53 ?_
          refine w_topi (y := b) pk_us ?_
          refine lv_iconst (v := 1) hx hb dX5_readNeeds_54 rfl ?_
          refine lv_iload_n hx hb dX5_readNeeds_55 rfl (lv_at hl 0 rfl) ?_
          refine lv_ishl hx hb dX5_readNeeds_56 ?_
          refine lv_ior hx hb dX5_readNeeds_57 ?_
          refine w_iast hx hb hK hP (va_D_of hD rfl) hS 2 rfl q rfl (by omega) (Nat.le_of_ble_eq_true rfl) dX5_readNeeds_58 (fun H locs hP _ hS => ?_)
          have hP : va_P D clA ((o, .inr (0, [.int t, .ref a1, .int bl, .int (nI L), .int (nI (n2s fb L b s1).1), .int ((n2s fb L b s1).2.1), .int ((n2s fb L b s1).2.2.1), .int eo, .ref a8, .ref a9, .ref a10, .int ud, .int (nI (n2s fb L b s1).2.2.2), .int ne, .int se, .ref a15])) :: (a8, .inl (k 0, 1798, .inl d)) :: (a9, .inl (k 0, 1798, .inl (upd (upd dr q b) q (b ||| ((1 : Int32) <<< (((nmS fb L 0 7 s1).1) &&& 31)))))) :: (a1, .inl (k 0, 900, .inl fb)) :: wr) H := hP
          have hP : va_P D clA ((o, .inr (0, [.int t, .ref a1, .int bl, .int (nI L), .int (nI (n2s fb L b s1).1), .int ((n2s fb L b s1).2.1), .int ((n2s fb L b s1).2.2.1), .int eo, .ref a8, .ref a9, .ref a10, .int ud, .int (nI (n2s fb L b s1).2.2.2), .int ne, .int se, .ref a15])) :: (a8, .inl (k 0, 1798, .inl d)) :: (a9, .inl (k 0, 1798, .inl (upd dr q (b ||| ((1 : Int32) <<< (nv fb L s1 &&& 31)))))) :: (a1, .inl (k 0, 900, .inl fb)) :: wr) H := by rw [← upd_upd]; exact hP
          refine lv_aload_n hx hb dX5_readNeeds_59 rfl (lv_at hl 1 rfl) ?_
          refine w_callV (As := []) (rest := []) C (m_next l D k o a1 a8 a9 a10 a15 t bl ((n2s fb L b s1).2.1) ((n2s fb L b s1).2.2.1) eo ud (nI (n2s fb L b s1).2.2.2) ne se wr d (upd dr q (b ||| ((1 : Int32) <<< (nv fb L s1 &&& 31)))) fb L hL ((n2s fb L b s1).1) A (va_D_of hD rfl) hp) (cwV 0 hts (lw_V q1735 q1737 qs33 q76 q1738) rfl rfl rfl (by decide +kernel) ⟨Nat.le_of_ble_eq_true rfl, Nat.le_of_ble_eq_true rfl⟩) hK (va_recv hK hP (ci := 0) (q0 := 0) rfl rfl) hP hS (fun _ h => h) rfl hl.1 rfl (Nat.le_of_ble_eq_true rfl) dX5_readNeeds_60 ⟨Nat.le_of_ble_eq_true rfl, Nat.le_of_ble_eq_true rfl⟩ (fun H locs hP hS _ _ => ?_)
          have hP : va_P D clA ((o, .inr (0, [.int t, .ref a1, .int bl, .int (nI L), .int (nI (sk fb L ((n2s fb L b s1).1))), .int ((n2s fb L b s1).2.1), .int ((n2s fb L b s1).2.2.1), .int eo, .ref a8, .ref a9, .ref a10, .int ud, .int (nI (n2s fb L b s1).2.2.2), .int ne, .int se, .ref a15])) :: (a8, .inl (k 0, 1798, .inl d)) :: (a9, .inl (k 0, 1798, .inl (upd dr q (b ||| ((1 : Int32) <<< (nv fb L s1 &&& 31)))))) :: (a1, .inl (k 0, 900, .inl fb)) :: wr) H := hP
          refine r_callS (As := [.int (byt fb L (sk fb L ((n2s fb L b s1).1)))]) (rest := []) C (m_isDigit l D k (byt fb L (sk fb L ((n2s fb L b s1).1)))) (va_cwS 1 hts (lw_S q1772 q1773 q76 q1774) rfl rfl rfl (by decide +kernel) ⟨Nat.le_of_ble_eq_true rfl, Nat.le_of_ble_eq_true rfl⟩) hK trivial rfl hl.1 rfl (Nat.le_of_ble_eq_true rfl) dX5_readNeeds_63 ⟨Nat.le_of_ble_eq_true rfl, Nat.le_of_ble_eq_true rfl⟩ ?_
          refine lv_if_ne (tgt := 0) hx hb dX5_readNeeds_66 (by decide) (fun c_66 => ?_) (fun c_66 => ?_)
          · have b_66 := bI_nz c_66
            have ok4 : okS L (sk fb L (n2s fb L b s1).1, (n2s fb L b s1).2) := ⟨fun _ => hs.2, show sk fb L (n2s fb L b s1).1 ≤ 2000 by omega, ok3.2.2⟩
            have he2 : needF fb L n (sk fb L (n2s fb L b s1).1, (n2s fb L b s1).2) (b ||| ((1 : Int32) <<< (nv fb L s1 &&& 31))) = needF fb L (L + 2) σ (dr q) := by rw [← he]; simp only [needF, ifp_t b_43, ifp_t (show dig _ from b_66)]
            exact ih_0 (sk fb L (n2s fb L b s1).1, (n2s fb L b s1).2) (b ||| ((1 : Int32) <<< (nv fb L s1 &&& 31))) ok4 he2 (by show L - sk fb L (n2s fb L b s1).1 + 1 ≤ n; omega) _ _ hP hS ls (lv_sub hl [1, 2] rfl)
          · have b_66 := bI_0.mp c_66
            exact w_vret C (by rw [← he]; simp only [needF, ifp_t b_43, ifp_f (show ¬ dig _ from b_66)]; exact hP) hS dX5_readNeeds_69
        · have b_43 := bI_0.mp c_43
          exact w_vret C (by rw [← he]; simp only [needF, ifp_f b_43]; exact hP) hS dX5_readNeeds_46
      · have b_12 := bI_nz c_12
        refine lv_aload_n hx hb dX5_readNeeds_15 rfl (lv_at hl 1 rfl) ?_
        refine va_get hx hb hts in_X5 hown hK hP 0 rfl rfl 9 (by decide) (hts _ q1671) (fun _ h => h) rfl dX5_readNeeds_16 ?_
        refine lv_iload_n hx hb dX5_readNeeds_19 rfl (lv_at hl 2 rfl) ?_
        refine w_iald hx hb hK hP 2 rfl q rfl (by omega) (Nat.le_of_ble_eq_true rfl) dX5_readNeeds_20 ?_
        refine w_topi (y := b) pk_us ?_
        refine lv_iload_n hx hb dX5_readNeeds_21 rfl (lv_at hl 0 rfl) ?_
        refine lv_ishr hx hb dX5_readNeeds_22 ?_
        refine lv_iconst (v := 1) hx hb dX5_readNeeds_23 rfl ?_
        refine lv_iand hx hb dX5_readNeeds_24 ?_
        refine lv_iconst (v := 1) hx hb dX5_readNeeds_25 rfl ?_
        refine lv_icmp_ne (tgt := 39) hx hb dX5_readNeeds_26 (by decide) (fun c_26 => ?_) (fun c_26 => ?_)
        · have hP : va_P D clA ((o, .inr (0, [.int t, .ref a1, .int bl, .int (nI L), .int (nI (n2s fb L b s1).1), .int ((n2s fb L b s1).2.1), .int ((n2s fb L b s1).2.2.1), .int eo, .ref a8, .ref a9, .ref a10, .int ud, .int (nI (n2s fb L b s1).2.2.2), .int ne, .int se, .ref a15])) :: (a8, .inl (k 0, 1798, .inl d)) :: (a9, .inl (k 0, 1798, .inl (upd dr q b))) :: (a1, .inl (k 0, 900, .inl fb)) :: wr) H := by simp only [n2s, ifp_f (fun h : (n1s fb L s1).2.1 = 0 ∧ (b >>> (nv fb L s1 &&& 31)) &&& 1 = 1 => c_26 h.2)]; exact hP
          refine lv_aload_n hx hb dX5_readNeeds_39 rfl (lv_at hl 1 rfl) ?_
          refine r_callV (As := []) (rest := []) C (m_isGood l D k o ((n2s fb L b s1).2.1) ([.int t, .ref a1, .int bl, .int (nI L), .int (nI (n2s fb L b s1).1), .int ((n2s fb L b s1).2.1), .int ((n2s fb L b s1).2.2.1), .int eo, .ref a8, .ref a9, .ref a10, .int ud, .int (nI (n2s fb L b s1).2.2.2), .int ne, .int se, .ref a15] : List Value) rfl) (cwV 0 hts (lw_V q1731 q1733 qs32 q76 q1734) rfl rfl rfl (by decide +kernel) ⟨Nat.le_of_ble_eq_true rfl, Nat.le_of_ble_eq_true rfl⟩) hK (va_recv hK hP (ci := 0) (q0 := 0) rfl rfl) (hP.sub [0] rfl) rfl hl.1 rfl (Nat.le_of_ble_eq_true rfl) dX5_readNeeds_40 ⟨Nat.le_of_ble_eq_true rfl, Nat.le_of_ble_eq_true rfl⟩ ?_
          refine lv_if_ne (tgt := 47) hx hb dX5_readNeeds_43 (by decide) (fun c_43 => ?_) (fun c_43 => ?_)
          · have b_43 := bI_nz c_43
            obtain ⟨e1, e2, e3, e4, e5⟩ := n2_good ok1 b_43
            have ok3 := okS_n2 (fb := fb) (b := b) hL ok1
            have hp := ok3.1 b_43
            have hs := sk_in (fb := fb) hp
            have hfw : s1.1 < (n2s fb L b s1).1 := by rw [e1]; exact e4
            refine lv_aload_n hx hb dX5_readNeeds_47 rfl (lv_at hl 1 rfl) ?_
            refine va_get hx hb hts in_X5 hown hK hP 0 rfl rfl 9 (by decide) (hts _ q1671) (fun _ h => h) rfl dX5_readNeeds_48 ?_
            refine lv_iload_n hx hb dX5_readNeeds_51 rfl (lv_at hl 2 rfl) ?_
            refine lv_dup2_11 hx hb dX5_readNeeds_52 rfl rfl ?_
            refine w_iald hx hb hK hP 2 rfl q rfl (by omega) (Nat.le_of_ble_eq_true rfl) dX5_readNeeds_53 ?_
            refine w_topi (y := b) pk_us ?_
            refine lv_iconst (v := 1) hx hb dX5_readNeeds_54 rfl ?_
            refine lv_iload_n hx hb dX5_readNeeds_55 rfl (lv_at hl 0 rfl) ?_
            refine lv_ishl hx hb dX5_readNeeds_56 ?_
            refine lv_ior hx hb dX5_readNeeds_57 ?_
            refine w_iast hx hb hK hP (va_D_of hD rfl) hS 2 rfl q rfl (by omega) (Nat.le_of_ble_eq_true rfl) dX5_readNeeds_58 (fun H locs hP _ hS => ?_)
            have hP : va_P D clA ((o, .inr (0, [.int t, .ref a1, .int bl, .int (nI L), .int (nI (n2s fb L b s1).1), .int ((n2s fb L b s1).2.1), .int ((n2s fb L b s1).2.2.1), .int eo, .ref a8, .ref a9, .ref a10, .int ud, .int (nI (n2s fb L b s1).2.2.2), .int ne, .int se, .ref a15])) :: (a8, .inl (k 0, 1798, .inl d)) :: (a9, .inl (k 0, 1798, .inl (upd (upd dr q b) q (b ||| ((1 : Int32) <<< (((nmS fb L 0 7 s1).1) &&& 31)))))) :: (a1, .inl (k 0, 900, .inl fb)) :: wr) H := hP
            have hP : va_P D clA ((o, .inr (0, [.int t, .ref a1, .int bl, .int (nI L), .int (nI (n2s fb L b s1).1), .int ((n2s fb L b s1).2.1), .int ((n2s fb L b s1).2.2.1), .int eo, .ref a8, .ref a9, .ref a10, .int ud, .int (nI (n2s fb L b s1).2.2.2), .int ne, .int se, .ref a15])) :: (a8, .inl (k 0, 1798, .inl d)) :: (a9, .inl (k 0, 1798, .inl (upd dr q (b ||| ((1 : Int32) <<< (nv fb L s1 &&& 31)))))) :: (a1, .inl (k 0, 900, .inl fb)) :: wr) H := by rw [← upd_upd]; exact hP
            refine lv_aload_n hx hb dX5_readNeeds_59 rfl (lv_at hl 1 rfl) ?_
            refine w_callV (As := []) (rest := []) C (m_next l D k o a1 a8 a9 a10 a15 t bl ((n2s fb L b s1).2.1) ((n2s fb L b s1).2.2.1) eo ud (nI (n2s fb L b s1).2.2.2) ne se wr d (upd dr q (b ||| ((1 : Int32) <<< (nv fb L s1 &&& 31)))) fb L hL ((n2s fb L b s1).1) A (va_D_of hD rfl) hp) (cwV 0 hts (lw_V q1735 q1737 qs33 q76 q1738) rfl rfl rfl (by decide +kernel) ⟨Nat.le_of_ble_eq_true rfl, Nat.le_of_ble_eq_true rfl⟩) hK (va_recv hK hP (ci := 0) (q0 := 0) rfl rfl) hP hS (fun _ h => h) rfl hl.1 rfl (Nat.le_of_ble_eq_true rfl) dX5_readNeeds_60 ⟨Nat.le_of_ble_eq_true rfl, Nat.le_of_ble_eq_true rfl⟩ (fun H locs hP hS _ _ => ?_)
            have hP : va_P D clA ((o, .inr (0, [.int t, .ref a1, .int bl, .int (nI L), .int (nI (sk fb L ((n2s fb L b s1).1))), .int ((n2s fb L b s1).2.1), .int ((n2s fb L b s1).2.2.1), .int eo, .ref a8, .ref a9, .ref a10, .int ud, .int (nI (n2s fb L b s1).2.2.2), .int ne, .int se, .ref a15])) :: (a8, .inl (k 0, 1798, .inl d)) :: (a9, .inl (k 0, 1798, .inl (upd dr q (b ||| ((1 : Int32) <<< (nv fb L s1 &&& 31)))))) :: (a1, .inl (k 0, 900, .inl fb)) :: wr) H := hP
            refine r_callS (As := [.int (byt fb L (sk fb L ((n2s fb L b s1).1)))]) (rest := []) C (m_isDigit l D k (byt fb L (sk fb L ((n2s fb L b s1).1)))) (va_cwS 1 hts (lw_S q1772 q1773 q76 q1774) rfl rfl rfl (by decide +kernel) ⟨Nat.le_of_ble_eq_true rfl, Nat.le_of_ble_eq_true rfl⟩) hK trivial rfl hl.1 rfl (Nat.le_of_ble_eq_true rfl) dX5_readNeeds_63 ⟨Nat.le_of_ble_eq_true rfl, Nat.le_of_ble_eq_true rfl⟩ ?_
            refine lv_if_ne (tgt := 0) hx hb dX5_readNeeds_66 (by decide) (fun c_66 => ?_) (fun c_66 => ?_)
            · have b_66 := bI_nz c_66
              have ok4 : okS L (sk fb L (n2s fb L b s1).1, (n2s fb L b s1).2) := ⟨fun _ => hs.2, show sk fb L (n2s fb L b s1).1 ≤ 2000 by omega, ok3.2.2⟩
              have he2 : needF fb L n (sk fb L (n2s fb L b s1).1, (n2s fb L b s1).2) (b ||| ((1 : Int32) <<< (nv fb L s1 &&& 31))) = needF fb L (L + 2) σ (dr q) := by rw [← he]; simp only [needF, ifp_t b_43, ifp_t (show dig _ from b_66)]
              exact ih_0 (sk fb L (n2s fb L b s1).1, (n2s fb L b s1).2) (b ||| ((1 : Int32) <<< (nv fb L s1 &&& 31))) ok4 he2 (by show L - sk fb L (n2s fb L b s1).1 + 1 ≤ n; omega) _ _ hP hS ls (lv_sub hl [1, 2] rfl)
            · have b_66 := bI_0.mp c_66
              exact w_vret C (by rw [← he]; simp only [needF, ifp_t b_43, ifp_f (show ¬ dig _ from b_66)]; exact hP) hS dX5_readNeeds_69
          · have b_43 := bI_0.mp c_43
            exact w_vret C (by rw [← he]; simp only [needF, ifp_f b_43]; exact hP) hS dX5_readNeeds_46
        · refine lv_aload_n hx hb dX5_readNeeds_29 rfl (lv_at hl 1 rfl) ?_
          refine lv_bipush (v := (-3)) hx hb dX5_readNeeds_30 rfl ?_
          refine lv_aload_n hx hb dX5_readNeeds_32 rfl (lv_at hl 1 rfl) ?_
          refine va_get hx hb hts in_X5 hown hK hP 0 rfl rfl 12 (by decide) (hts _ q1674) (fun _ h => h) rfl dX5_readNeeds_33 ?_
          refine w_callV (As := [.int (-3), .int (nI (nmS fb L 0 7 s1).2.2.2.2)]) (rest := []) C (m_report l D k o a1 a8 a9 a10 a15 t bl eo ud ne se wr d (upd dr q b) fb L A ((nmS fb L 0 7 s1).2) (va_D_of hD rfl) (-3) (nI (nmS fb L 0 7 s1).2.2.2.2)) (cwV 2 hts (lw_V q1775 q1777 qs39 q76 q1778) rfl rfl rfl (by decide +kernel) ⟨Nat.le_of_ble_eq_true rfl, Nat.le_of_ble_eq_true rfl⟩) hK (va_recv hK hP (ci := 0) (q0 := 0) rfl rfl) hP hS (fun _ h => h) rfl hl.1 rfl (Nat.le_of_ble_eq_true rfl) dX5_readNeeds_36 ⟨Nat.le_of_ble_eq_true rfl, Nat.le_of_ble_eq_true rfl⟩ (fun H locs hP hS _ _ => ?_)
          have hP : va_P D clA ((o, .inr (0, [.int t, .ref a1, .int bl, .int (nI L), .int (nI (rpS (-3) (nI (nmS fb L 0 7 s1).2.2.2.2) ((nmS fb L 0 7 s1).2)).1), .int ((rpS (-3) (nI (nmS fb L 0 7 s1).2.2.2.2) ((nmS fb L 0 7 s1).2)).2.1), .int ((rpS (-3) (nI (nmS fb L 0 7 s1).2.2.2.2) ((nmS fb L 0 7 s1).2)).2.2.1), .int eo, .ref a8, .ref a9, .ref a10, .int ud, .int (nI (rpS (-3) (nI (nmS fb L 0 7 s1).2.2.2.2) ((nmS fb L 0 7 s1).2)).2.2.2), .int ne, .int se, .ref a15])) :: (a8, .inl (k 0, 1798, .inl d)) :: (a9, .inl (k 0, 1798, .inl (upd dr q b))) :: (a1, .inl (k 0, 900, .inl fb)) :: wr) H := hP
          have hP : va_P D clA ((o, .inr (0, [.int t, .ref a1, .int bl, .int (nI L), .int (nI (n2s fb L b s1).1), .int ((n2s fb L b s1).2.1), .int ((n2s fb L b s1).2.2.1), .int eo, .ref a8, .ref a9, .ref a10, .int ud, .int (nI (n2s fb L b s1).2.2.2), .int ne, .int se, .ref a15])) :: (a8, .inl (k 0, 1798, .inl d)) :: (a9, .inl (k 0, 1798, .inl (upd dr q b))) :: (a1, .inl (k 0, 900, .inl fb)) :: wr) H := by simp only [n2s, ifp_t (show (n1s fb L s1).2.1 = 0 ∧ (b >>> (nv fb L s1 &&& 31)) &&& 1 = 1 from ⟨b_12, c_26⟩)]; exact hP
          refine lv_aload_n hx hb dX5_readNeeds_39 rfl (lv_at hl 1 rfl) ?_
          refine r_callV (As := []) (rest := []) C (m_isGood l D k o ((n2s fb L b s1).2.1) ([.int t, .ref a1, .int bl, .int (nI L), .int (nI (n2s fb L b s1).1), .int ((n2s fb L b s1).2.1), .int ((n2s fb L b s1).2.2.1), .int eo, .ref a8, .ref a9, .ref a10, .int ud, .int (nI (n2s fb L b s1).2.2.2), .int ne, .int se, .ref a15] : List Value) rfl) (cwV 0 hts (lw_V q1731 q1733 qs32 q76 q1734) rfl rfl rfl (by decide +kernel) ⟨Nat.le_of_ble_eq_true rfl, Nat.le_of_ble_eq_true rfl⟩) hK (va_recv hK hP (ci := 0) (q0 := 0) rfl rfl) (hP.sub [0] rfl) rfl hl.1 rfl (Nat.le_of_ble_eq_true rfl) dX5_readNeeds_40 ⟨Nat.le_of_ble_eq_true rfl, Nat.le_of_ble_eq_true rfl⟩ ?_
          refine lv_if_ne (tgt := 47) hx hb dX5_readNeeds_43 (by decide) (fun c_43 => ?_) (fun c_43 => ?_)
          · have b_43 := bI_nz c_43
            obtain ⟨e1, e2, e3, e4, e5⟩ := n2_good ok1 b_43
            have ok3 := okS_n2 (fb := fb) (b := b) hL ok1
            have hp := ok3.1 b_43
            have hs := sk_in (fb := fb) hp
            have hfw : s1.1 < (n2s fb L b s1).1 := by rw [e1]; exact e4
            refine lv_aload_n hx hb dX5_readNeeds_47 rfl (lv_at hl 1 rfl) ?_
            refine va_get hx hb hts in_X5 hown hK hP 0 rfl rfl 9 (by decide) (hts _ q1671) (fun _ h => h) rfl dX5_readNeeds_48 ?_
            refine lv_iload_n hx hb dX5_readNeeds_51 rfl (lv_at hl 2 rfl) ?_
            refine lv_dup2_11 hx hb dX5_readNeeds_52 rfl rfl ?_
            refine w_iald hx hb hK hP 2 rfl q rfl (by omega) (Nat.le_of_ble_eq_true rfl) dX5_readNeeds_53 ?_
            refine w_topi (y := b) pk_us ?_
            refine lv_iconst (v := 1) hx hb dX5_readNeeds_54 rfl ?_
            refine lv_iload_n hx hb dX5_readNeeds_55 rfl (lv_at hl 0 rfl) ?_
            refine lv_ishl hx hb dX5_readNeeds_56 ?_
            refine lv_ior hx hb dX5_readNeeds_57 ?_
            refine w_iast hx hb hK hP (va_D_of hD rfl) hS 2 rfl q rfl (by omega) (Nat.le_of_ble_eq_true rfl) dX5_readNeeds_58 (fun H locs hP _ hS => ?_)
            have hP : va_P D clA ((o, .inr (0, [.int t, .ref a1, .int bl, .int (nI L), .int (nI (n2s fb L b s1).1), .int ((n2s fb L b s1).2.1), .int ((n2s fb L b s1).2.2.1), .int eo, .ref a8, .ref a9, .ref a10, .int ud, .int (nI (n2s fb L b s1).2.2.2), .int ne, .int se, .ref a15])) :: (a8, .inl (k 0, 1798, .inl d)) :: (a9, .inl (k 0, 1798, .inl (upd (upd dr q b) q (b ||| ((1 : Int32) <<< (((nmS fb L 0 7 s1).1) &&& 31)))))) :: (a1, .inl (k 0, 900, .inl fb)) :: wr) H := hP
            have hP : va_P D clA ((o, .inr (0, [.int t, .ref a1, .int bl, .int (nI L), .int (nI (n2s fb L b s1).1), .int ((n2s fb L b s1).2.1), .int ((n2s fb L b s1).2.2.1), .int eo, .ref a8, .ref a9, .ref a10, .int ud, .int (nI (n2s fb L b s1).2.2.2), .int ne, .int se, .ref a15])) :: (a8, .inl (k 0, 1798, .inl d)) :: (a9, .inl (k 0, 1798, .inl (upd dr q (b ||| ((1 : Int32) <<< (nv fb L s1 &&& 31)))))) :: (a1, .inl (k 0, 900, .inl fb)) :: wr) H := by rw [← upd_upd]; exact hP
            refine lv_aload_n hx hb dX5_readNeeds_59 rfl (lv_at hl 1 rfl) ?_
            refine w_callV (As := []) (rest := []) C (m_next l D k o a1 a8 a9 a10 a15 t bl ((n2s fb L b s1).2.1) ((n2s fb L b s1).2.2.1) eo ud (nI (n2s fb L b s1).2.2.2) ne se wr d (upd dr q (b ||| ((1 : Int32) <<< (nv fb L s1 &&& 31)))) fb L hL ((n2s fb L b s1).1) A (va_D_of hD rfl) hp) (cwV 0 hts (lw_V q1735 q1737 qs33 q76 q1738) rfl rfl rfl (by decide +kernel) ⟨Nat.le_of_ble_eq_true rfl, Nat.le_of_ble_eq_true rfl⟩) hK (va_recv hK hP (ci := 0) (q0 := 0) rfl rfl) hP hS (fun _ h => h) rfl hl.1 rfl (Nat.le_of_ble_eq_true rfl) dX5_readNeeds_60 ⟨Nat.le_of_ble_eq_true rfl, Nat.le_of_ble_eq_true rfl⟩ (fun H locs hP hS _ _ => ?_)
            have hP : va_P D clA ((o, .inr (0, [.int t, .ref a1, .int bl, .int (nI L), .int (nI (sk fb L ((n2s fb L b s1).1))), .int ((n2s fb L b s1).2.1), .int ((n2s fb L b s1).2.2.1), .int eo, .ref a8, .ref a9, .ref a10, .int ud, .int (nI (n2s fb L b s1).2.2.2), .int ne, .int se, .ref a15])) :: (a8, .inl (k 0, 1798, .inl d)) :: (a9, .inl (k 0, 1798, .inl (upd dr q (b ||| ((1 : Int32) <<< (nv fb L s1 &&& 31)))))) :: (a1, .inl (k 0, 900, .inl fb)) :: wr) H := hP
            refine r_callS (As := [.int (byt fb L (sk fb L ((n2s fb L b s1).1)))]) (rest := []) C (m_isDigit l D k (byt fb L (sk fb L ((n2s fb L b s1).1)))) (va_cwS 1 hts (lw_S q1772 q1773 q76 q1774) rfl rfl rfl (by decide +kernel) ⟨Nat.le_of_ble_eq_true rfl, Nat.le_of_ble_eq_true rfl⟩) hK trivial rfl hl.1 rfl (Nat.le_of_ble_eq_true rfl) dX5_readNeeds_63 ⟨Nat.le_of_ble_eq_true rfl, Nat.le_of_ble_eq_true rfl⟩ ?_
            refine lv_if_ne (tgt := 0) hx hb dX5_readNeeds_66 (by decide) (fun c_66 => ?_) (fun c_66 => ?_)
            · have b_66 := bI_nz c_66
              have ok4 : okS L (sk fb L (n2s fb L b s1).1, (n2s fb L b s1).2) := ⟨fun _ => hs.2, show sk fb L (n2s fb L b s1).1 ≤ 2000 by omega, ok3.2.2⟩
              have he2 : needF fb L n (sk fb L (n2s fb L b s1).1, (n2s fb L b s1).2) (b ||| ((1 : Int32) <<< (nv fb L s1 &&& 31))) = needF fb L (L + 2) σ (dr q) := by rw [← he]; simp only [needF, ifp_t b_43, ifp_t (show dig _ from b_66)]
              exact ih_0 (sk fb L (n2s fb L b s1).1, (n2s fb L b s1).2) (b ||| ((1 : Int32) <<< (nv fb L s1 &&& 31))) ok4 he2 (by show L - sk fb L (n2s fb L b s1).1 + 1 ≤ n; omega) _ _ hP hS ls (lv_sub hl [1, 2] rfl)
            · have b_66 := bI_0.mp c_66
              exact w_vret C (by rw [← he]; simp only [needF, ifp_t b_43, ifp_f (show ¬ dig _ from b_66)]; exact hP) hS dX5_readNeeds_69
          · have b_43 := bI_0.mp c_43
            exact w_vret C (by rw [← he]; simp only [needF, ifp_f b_43]; exact hP) hS dX5_readNeeds_46
  exact loop_0 (L + 2) σ (dr q) hok rfl (by omega) _ _ hP hS ls (lv_sub hl [0, 1] rfl)
