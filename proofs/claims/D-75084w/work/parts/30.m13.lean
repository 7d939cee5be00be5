/-! the reference: expressions (printed by gen/m13.py) -/
set_option maxRecDepth 100000
theorem m_takeWordM (l : Launch) (D : va_G) (k : Nat → ClassId) (o a1 a8 a9 a10 a15 : Nat) (t bl eo ud ne se : Int32) (wr : va_W) (d dr fb : Nat → Int32) (L : Nat) (hL : L ≤ 900) (σ : PS) (A : Nat → Prop) (hD : va_D A ((o, .inr (0, [.int t, .ref a1, .int bl, .int (nI L), .int (nI σ.1), .int σ.2.1, .int σ.2.2.1, .int eo, .ref a8, .ref a9, .ref a10, .int ud, .int (nI σ.2.2.2), .int ne, .int se, .ref a15])) :: (a8, .inl (k 0, 1798, .inl d)) :: (a9, .inl (k 0, 1798, .inl dr)) :: (a1, .inl (k 0, 900, .inl fb)) :: wr)) (hok : okS L σ) (sA sV : Nat → Nat) (i : Nat) (hi : i < 9) : xM l D k yX5_takeWord cX5_takeWord 3 (some .boolean) 4 85 [.ref o, .ref (sA i)] ((o, .inr (0, [.int t, .ref a1, .int bl, .int (nI L), .int (nI σ.1), .int σ.2.1, .int σ.2.2.1, .int eo, .ref a8, .ref a9, .ref a10, .int ud, .int (nI σ.2.2.2), .int ne, .int se, .ref a15])) :: (a8, .inl (k 0, 1798, .inl d)) :: (a9, .inl (k 0, 1798, .inl dr)) :: (a1, .inl (k 0, 900, .inl fb)) :: wr) (MS A sA sV) (some (.int (bI (TW fb L i σ)))) ((o, .inr (0, [.int t, .ref a1, .int bl, .int (nI L), .int (nI (TS fb L i σ).1), .int ((TS fb L i σ).2.1), .int ((TS fb L i σ).2.2.1), .int eo, .ref a8, .ref a9, .ref a10, .int ud, .int (nI (TS fb L i σ).2.2.2), .int ne, .int se, .ref a15])) :: (a8, .inl (k 0, 1798, .inl d)) :: (a9, .inl (k 0, 1798, .inl dr)) :: (a1, .inl (k 0, 900, .inl fb)) :: wr) A :=
  Met_pre (m_takeWord l D k o a1 a8 a9 a10 a15 t bl eo ud ne se wr d dr fb L hL σ A hD hok (sA i) (sV i) (mLen i) (fun j => (mBy i).getD j 0) (by have := mLen_le i; omega)) (fun a U h => ⟨h.1, ⟨h.2.1.1, h.2.1.2.1, (h.2.1.2.2 i hi).2⟩, h.2.2⟩)
set_option maxHeartbeats 4000000 in
theorem m_factorE (l : Launch) (D : va_G) (k : Nat → ClassId) (o a1 a8 a9 a10 a15 : Nat) (t bl eo ud ne se : Int32) (wr : va_W) (d dr fb : Nat → Int32) (L : Nat) (hL : L ≤ 900) (σ : PS) (A : Nat → Prop) (hD : va_D A ((o, .inr (0, [.int t, .ref a1, .int bl, .int (nI L), .int (nI σ.1), .int σ.2.1, .int σ.2.2.1, .int eo, .ref a8, .ref a9, .ref a10, .int ud, .int (nI σ.2.2.2), .int ne, .int se, .ref a15])) :: (a8, .inl (k 0, 1798, .inl d)) :: (a9, .inl (k 0, 1798, .inl dr)) :: (a1, .inl (k 0, 900, .inl fb)) :: wr)) (hok : okS L σ) (hbad : ¬ σ.2.1 = 0) : wM l D k yX5_factor cX5_factor 4 none 1 20 [.ref o] ((o, .inr (0, [.int t, .ref a1, .int bl, .int (nI L), .int (nI σ.1), .int σ.2.1, .int σ.2.2.1, .int eo, .ref a8, .ref a9, .ref a10, .int ud, .int (nI σ.2.2.2), .int ne, .int se, .ref a15])) :: (a8, .inl (k 0, 1798, .inl d)) :: (a9, .inl (k 0, 1798, .inl dr)) :: (a1, .inl (k 0, 900, .inl fb)) :: wr) (none) ((o, .inr (0, [.int t, .ref a1, .int bl, .int (nI L), .int (nI σ.1), .int σ.2.1, .int σ.2.2.1, .int eo, .ref a8, .ref a9, .ref a10, .int ud, .int (nI σ.2.2.2), .int ne, .int se, .ref a15])) :: (a8, .inl (k 0, 1798, .inl d)) :: (a9, .inl (k 0, 1798, .inl dr)) :: (a1, .inl (k 0, 900, .inl fb)) :: wr) A := by
  refine wM_of (by decide) (Nat.le_of_ble_eq_true rfl) ?_
  intro p e s m below meth c ls C hK hP hS hl
  obtain ⟨hx, hb, hr, hml, hown, hts, hlk⟩ := id C
  have hl : lv_has ls 4 [(0, .ref o)] := hl
  refine lv_aload_n hx hb dX5_factor_0 rfl (lv_at hl 0 rfl) ?_
  refine r_callV (As := []) (rest := []) C (m_isGood l D k o σ.2.1 ([.int t, .ref a1, .int bl, .int (nI L), .int (nI σ.1), .int σ.2.1, .int σ.2.2.1, .int eo, .ref a8, .ref a9, .ref a10, .int ud, .int (nI σ.2.2.2), .int ne, .int se, .ref a15] : List Value) rfl) (cwV 0 hts (lw_V q1731 q1733 qs32 q76 q1734) rfl rfl rfl (by decide +kernel) ⟨Nat.le_of_ble_eq_true rfl, Nat.le_of_ble_eq_true rfl⟩) hK (va_recv hK hP (ci := 0) (q0 := 0) rfl rfl) (hP.sub [0] rfl) rfl hl.1 rfl (Nat.le_of_ble_eq_true rfl) dX5_factor_1 ⟨Nat.le_of_ble_eq_true rfl, Nat.le_of_ble_eq_true rfl⟩ ?_
  refine lv_if_ne (tgt := 8) hx hb dX5_factor_4 (by decide) (fun c_4 => ?_) (fun c_4 => ?_)
  · exact absurd (bI_nz c_4) hbad
  · have b_4 := bI_0.mp c_4
    exact w_vret C hP hS dX5_factor_7
set_option maxHeartbeats 4000000 in
theorem m_termE (l : Launch) (D : va_G) (k : Nat → ClassId) (o a1 a8 a9 a10 a15 : Nat) (t bl eo ud ne se : Int32) (wr : va_W) (d dr fb : Nat → Int32) (L : Nat) (hL : L ≤ 900) (σ : PS) (A : Nat → Prop) (hD : va_D A ((o, .inr (0, [.int t, .ref a1, .int bl, .int (nI L), .int (nI σ.1), .int σ.2.1, .int σ.2.2.1, .int eo, .ref a8, .ref a9, .ref a10, .int ud, .int (nI σ.2.2.2), .int ne, .int se, .ref a15])) :: (a8, .inl (k 0, 1798, .inl d)) :: (a9, .inl (k 0, 1798, .inl dr)) :: (a1, .inl (k 0, 900, .inl fb)) :: wr)) (hok : okS L σ) (hbad : ¬ σ.2.1 = 0) : wM l D k yX5_term cX5_term 2 none 2 43 [.ref o] ((o, .inr (0, [.int t, .ref a1, .int bl, .int (nI L), .int (nI σ.1), .int σ.2.1, .int σ.2.2.1, .int eo, .ref a8, .ref a9, .ref a10, .int ud, .int (nI σ.2.2.2), .int ne, .int se, .ref a15])) :: (a8, .inl (k 0, 1798, .inl d)) :: (a9, .inl (k 0, 1798, .inl dr)) :: (a1, .inl (k 0, 900, .inl fb)) :: wr) (none) ((o, .inr (0, [.int t, .ref a1, .int bl, .int (nI L), .int (nI σ.1), .int σ.2.1, .int σ.2.2.1, .int eo, .ref a8, .ref a9, .ref a10, .int ud, .int (nI σ.2.2.2), .int ne, .int se, .ref a15])) :: (a8, .inl (k 0, 1798, .inl d)) :: (a9, .inl (k 0, 1798, .inl dr)) :: (a1, .inl (k 0, 900, .inl fb)) :: wr) A := by
  refine wM_of (by decide) (Nat.le_of_ble_eq_true rfl) ?_
  intro p e s m below meth c ls C hK hP hS hl
  obtain ⟨hx, hb, hr, hml, hown, hts, hlk⟩ := id C
  have hl : lv_has ls 2 [(0, .ref o)] := hl
  refine lv_aload_n hx hb dX5_term_0 rfl (lv_at hl 0 rfl) ?_
  refine w_callV (As := []) (rest := []) C (m_factorE l D k o a1 a8 a9 a10 a15 t bl eo ud ne se wr d dr fb L hL σ A (va_D_of hD rfl) hok hbad) (cwV 0 hts (lw_V q1812 q1814 qs45 q76 q1815) rfl rfl rfl (by decide +kernel) ⟨Nat.le_of_ble_eq_true rfl, Nat.le_of_ble_eq_true rfl⟩) hK (va_recv hK hP (ci := 0) (q0 := 0) rfl rfl) hP hS (fun _ h => h) rfl hl.1 rfl (Nat.le_of_ble_eq_true rfl) dX5_term_1 ⟨Nat.le_of_ble_eq_true rfl, Nat.le_of_ble_eq_true rfl⟩ (fun H locs hP hS _ _ => ?_)
  have hP : va_P D clA ((o, .inr (0, [.int t, .ref a1, .int bl, .int (nI L), .int (nI σ.1), .int σ.2.1, .int σ.2.2.1, .int eo, .ref a8, .ref a9, .ref a10, .int ud, .int (nI σ.2.2.2), .int ne, .int se, .ref a15])) :: (a8, .inl (k 0, 1798, .inl d)) :: (a9, .inl (k 0, 1798, .inl dr)) :: (a1, .inl (k 0, 900, .inl fb)) :: wr) H := hP
  refine lv_aload_n hx hb dX5_term_4 rfl (lv_at hl 0 rfl) ?_
  refine r_callV (As := []) (rest := []) C (m_isGood l D k o σ.2.1 ([.int t, .ref a1, .int bl, .int (nI L), .int (nI σ.1), .int σ.2.1, .int σ.2.2.1, .int eo, .ref a8, .ref a9, .ref a10, .int ud, .int (nI σ.2.2.2), .int ne, .int se, .ref a15] : List Value) rfl) (cwV 0 hts (lw_V q1731 q1733 qs32 q76 q1734) rfl rfl rfl (by decide +kernel) ⟨Nat.le_of_ble_eq_true rfl, Nat.le_of_ble_eq_true rfl⟩) hK (va_recv hK hP (ci := 0) (q0 := 0) rfl rfl) (hP.sub [0] rfl) rfl hl.1 rfl (Nat.le_of_ble_eq_true rfl) dX5_term_5 ⟨Nat.le_of_ble_eq_true rfl, Nat.le_of_ble_eq_true rfl⟩ ?_
  refine lv_if_eq (tgt := 74) hx hb dX5_term_8 (by decide) (fun c_8 => ?_) (fun c_8 => ?_)
  · have b_8 := bI_0.mp c_8
    exact w_vret C hP hS dX5_term_74
  · exact absurd (bI_nz c_8) hbad
set_option maxHeartbeats 4000000 in
theorem m_sumE (l : Launch) (D : va_G) (k : Nat → ClassId) (o a1 a8 a9 a10 a15 : Nat) (t bl eo ud ne se : Int32) (wr : va_W) (d dr fb : Nat → Int32) (L : Nat) (hL : L ≤ 900) (σ : PS) (A : Nat → Prop) (hD : va_D A ((o, .inr (0, [.int t, .ref a1, .int bl, .int (nI L), .int (nI σ.1), .int σ.2.1, .int σ.2.2.1, .int eo, .ref a8, .ref a9, .ref a10, .int ud, .int (nI σ.2.2.2), .int ne, .int se, .ref a15])) :: (a8, .inl (k 0, 1798, .inl d)) :: (a9, .inl (k 0, 1798, .inl dr)) :: (a1, .inl (k 0, 900, .inl fb)) :: wr)) (hok : okS L σ) (hbad : ¬ σ.2.1 = 0) : wM l D k yX5_sum cX5_sum 2 none 3 64 [.ref o] ((o, .inr (0, [.int t, .ref a1, .int bl, .int (nI L), .int (nI σ.1), .int σ.2.1, .int σ.2.2.1, .int eo, .ref a8, .ref a9, .ref a10, .int ud, .int (nI σ.2.2.2), .int ne, .int se, .ref a15])) :: (a8, .inl (k 0, 1798, .inl d)) :: (a9, .inl (k 0, 1798, .inl dr)) :: (a1, .inl (k 0, 900, .inl fb)) :: wr) (none) ((o, .inr (0, [.int t, .ref a1, .int bl, .int (nI L), .int (nI σ.1), .int σ.2.1, .int σ.2.2.1, .int eo, .ref a8, .ref a9, .ref a10, .int ud, .int (nI σ.2.2.2), .int ne, .int se, .ref a15])) :: (a8, .inl (k 0, 1798, .inl d)) :: (a9, .inl (k 0, 1798, .inl dr)) :: (a1, .inl (k 0, 900, .inl fb)) :: wr) A := by
  refine wM_of (by decide) (Nat.le_of_ble_eq_true rfl) ?_
  intro p e s m below meth c ls C hK hP hS hl
  obtain ⟨hx, hb, hr, hml, hown, hts, hlk⟩ := id C
  have hl : lv_has ls 2 [(0, .ref o)] := hl
  refine lv_aload_n hx hb dX5_sum_0 rfl (lv_at hl 0 rfl) ?_
  refine w_callV (As := []) (rest := []) C (m_termE l D k o a1 a8 a9 a10 a15 t bl eo ud ne se wr d dr fb L hL σ A (va_D_of hD rfl) hok hbad) (cwV 0 hts (lw_V q1808 q1810 qs44 q76 q1811) rfl rfl rfl (by decide +kernel) ⟨Nat.le_of_ble_eq_true rfl, Nat.le_of_ble_eq_true rfl⟩) hK (va_recv hK hP (ci := 0) (q0 := 0) rfl rfl) hP hS (fun _ h => h) rfl hl.1 rfl (Nat.le_of_ble_eq_true rfl) dX5_sum_1 ⟨Nat.le_of_ble_eq_true rfl, Nat.le_of_ble_eq_true rfl⟩ (fun H locs hP hS _ _ => ?_)
  have hP : va_P D clA ((o, .inr (0, [.int t, .ref a1, .int bl, .int (nI L), .int (nI σ.1), .int σ.2.1, .int σ.2.2.1, .int eo, .ref a8, .ref a9, .ref a10, .int ud, .int (nI σ.2.2.2), .int ne, .int se, .ref a15])) :: (a8, .inl (k 0, 1798, .inl d)) :: (a9, .inl (k 0, 1798, .inl dr)) :: (a1, .inl (k 0, 900, .inl fb)) :: wr) H := hP
  refine lv_aload_n hx hb dX5_sum_4 rfl (lv_at hl 0 rfl) ?_
  refine r_callV (As := []) (rest := []) C (m_isGood l D k o σ.2.1 ([.int t, .ref a1, .int bl, .int (nI L), .int (nI σ.1), .int σ.2.1, .int σ.2.2.1, .int eo, .ref a8, .ref a9, .ref a10, .int ud, .int (nI σ.2.2.2), .int ne, .int se, .ref a15] : List Value) rfl) (cwV 0 hts (lw_V q1731 q1733 qs32 q76 q1734) rfl rfl rfl (by decide +kernel) ⟨Nat.le_of_ble_eq_true rfl, Nat.le_of_ble_eq_true rfl⟩) hK (va_recv hK hP (ci := 0) (q0 := 0) rfl rfl) (hP.sub [0] rfl) rfl hl.1 rfl (Nat.le_of_ble_eq_true rfl) dX5_sum_5 ⟨Nat.le_of_ble_eq_true rfl, Nat.le_of_ble_eq_true rfl⟩ ?_
  refine lv_if_eq (tgt := 74) hx hb dX5_sum_8 (by decide) (fun c_8 => ?_) (fun c_8 => ?_)
  · have b_8 := bI_0.mp c_8
    exact w_vret C hP hS dX5_sum_74
  · exact absurd (bI_nz c_8) hbad
set_option maxHeartbeats 16000000 in
theorem m_factor_4 (l : Launch) (D : va_G) (k : Nat → ClassId) (o a1 a8 a9 a10 a15 : Nat) (t bl eo ud se : Int32) (wr : va_W) (d dr fb : Nat → Int32) (L : Nat) (hL : L ≤ 900) (σ : PS) (A : Nat → Prop) (hD : va_D A ((o, .inr (0, [.int t, .ref a1, .int bl, .int (nI L), .int (nI σ.1), .int σ.2.1, .int σ.2.2.1, .int eo, .ref a8, .ref a9, .ref a10, .int ud, .int (nI σ.2.2.2), .int 4, .int se, .ref a15])) :: (a8, .inl (k 0, 1798, .inl d)) :: (a9, .inl (k 0, 1798, .inl dr)) :: (a1, .inl (k 0, 900, .inl fb)) :: wr)) (hok : okS L σ) (sA sV : Nat → Nat) (f : Nat) (hf : σ.2.1 = 0 → nee 0 (L - σ.1) ≤ f) (h5 : σ.2.1 = 0 → dr 5 = nI (dN dr 5) ∧ 2 * dN dr 5 + 3 * (L - σ.1) + 1 ≤ 3000) : xM l D k yX5_factor cX5_factor 4 none 5 107 [.ref o] ((o, .inr (0, [.int t, .ref a1, .int bl, .int (nI L), .int (nI σ.1), .int σ.2.1, .int σ.2.2.1, .int eo, .ref a8, .ref a9, .ref a10, .int ud, .int (nI σ.2.2.2), .int 4, .int se, .ref a15])) :: (a8, .inl (k 0, 1798, .inl d)) :: (a9, .inl (k 0, 1798, .inl dr)) :: (a1, .inl (k 0, 900, .inl fb)) :: wr) (MS A sA sV) (none) ((o, .inr (0, [.int t, .ref a1, .int bl, .int (nI L), .int (nI (px fb L f 0 4 σ).1.1), .int ((px fb L f 0 4 σ).1.2.1), .int ((px fb L f 0 4 σ).1.2.2.1), .int eo, .ref a8, .ref a9, .ref a10, .int ud, .int (nI (px fb L f 0 4 σ).1.2.2.2), .int 4, .int se, .ref a15])) :: (a8, .inl (k 0, 1798, .inl d)) :: (a9, .inl (k 0, 1798, .inl (emL dr (px fb L f 0 4 σ).2))) :: (a1, .inl (k 0, 900, .inl fb)) :: wr) A := by
  refine xM_of (by decide) (Nat.le_of_ble_eq_true rfl) ?_
  intro p e s m below meth c ls C hK hX hP hS hl
  obtain ⟨hE, hT⟩ := id hX
  obtain ⟨hx, hb, hr, hml, hown, hts, hlk⟩ := id C
  have hl : lv_has ls 4 [(0, .ref o)] := hl
  refine lv_aload_n hx hb dX5_factor_0 rfl (lv_at hl 0 rfl) ?_
  refine r_callV (As := []) (rest := []) C (m_isGood l D k o σ.2.1 ([.int t, .ref a1, .int bl, .int (nI L), .int (nI σ.1), .int σ.2.1, .int σ.2.2.1, .int eo, .ref a8, .ref a9, .ref a10, .int ud, .int (nI σ.2.2.2), .int 4, .int se, .ref a15] : List Value) rfl) (cwV 0 hts (lw_V q1731 q1733 qs32 q76 q1734) rfl rfl rfl (by decide +kernel) ⟨Nat.le_of_ble_eq_true rfl, Nat.le_of_ble_eq_true rfl⟩) hK (va_recv hK hP (ci := 0) (q0 := 0) rfl rfl) (hP.sub [0] rfl) rfl hl.1 rfl (Nat.le_of_ble_eq_true rfl) dX5_factor_1 ⟨Nat.le_of_ble_eq_true rfl, Nat.le_of_ble_eq_true rfl⟩ ?_
  refine lv_if_ne (tgt := 8) hx hb dX5_factor_4 (by decide) (fun c_4 => ?_) (fun c_4 => ?_)
  · have b_4 := bI_nz c_4
    have hp := hok.1 b_4
    have hs := sk_in (fb := fb) hp
    have hf := hf b_4
    obtain ⟨c1, c2⟩ := h5 b_4
    obtain ⟨f, rfl⟩ : ∃ g, f = g + 1 := ⟨f - 1, by unfold nee at hf; rw [if_neg (by decide), if_neg (by decide)] at hf; omega⟩
    have hf : 3 * (L - σ.1) + 1 ≤ f + 1 := hf
    have hoks := okS_sk (fb := fb) hL hok b_4
    have hss : sk fb L (sk fb L σ.1) = sk fb L σ.1 := sk_sk hp
    refine lv_aload_n hx hb dX5_factor_8 rfl (lv_at hl 0 rfl) ?_
    refine w_callV (As := []) (rest := []) C (m_next l D k o a1 a8 a9 a10 a15 t bl σ.2.1 σ.2.2.1 eo ud (nI σ.2.2.2) 4 se wr d dr fb L hL σ.1 A (va_D_of hD rfl) hp) (cwV 0 hts (lw_V q1735 q1737 qs33 q76 q1738) rfl rfl rfl (by decide +kernel) ⟨Nat.le_of_ble_eq_true rfl, Nat.le_of_ble_eq_true rfl⟩) hK (va_recv hK hP (ci := 0) (q0 := 0) rfl rfl) hP hS (fun _ h => h) rfl hl.1 rfl (Nat.le_of_ble_eq_true rfl) dX5_factor_9 ⟨Nat.le_of_ble_eq_true rfl, Nat.le_of_ble_eq_true rfl⟩ (fun H locs hP hS _ _ => ?_)
    have hP : va_P D clA ((o, .inr (0, [.int t, .ref a1, .int bl, .int (nI L), .int (nI (sk fb L σ.1)), .int σ.2.1, .int σ.2.2.1, .int eo, .ref a8, .ref a9, .ref a10, .int ud, .int (nI σ.2.2.2), .int 4, .int se, .ref a15])) :: (a8, .inl (k 0, 1798, .inl d)) :: (a9, .inl (k 0, 1798, .inl dr)) :: (a1, .inl (k 0, 900, .inl fb)) :: wr) H := hP
    refine lv_istore_n (lv' := [(1, .int (byt fb L (sk fb L σ.1))), (0, .ref o)]) hx hb dX5_factor_12 rfl hl (by decide) rfl (fun ls hl => ?_)
    refine lv_iload_n hx hb dX5_factor_13 rfl (lv_at hl 0 rfl) ?_
    refine lv_bipush (v := 40) hx hb dX5_factor_14 rfl ?_
    refine lv_icmp_ne (tgt := 78) hx hb dX5_factor_16 (by decide) (fun c_16 => ?_) (fun c_16 => ?_)
    · refine lv_iload_n hx hb dX5_factor_78 rfl (lv_at hl 0 rfl) ?_
      refine r_callS (As := [.int (byt fb L (sk fb L σ.1))]) (rest := []) C (m_isDigit l D k (byt fb L (sk fb L σ.1))) (va_cwS 1 hts (lw_S q1772 q1773 q76 q1774) rfl rfl rfl (by decide +kernel) ⟨Nat.le_of_ble_eq_true rfl, Nat.le_of_ble_eq_true rfl⟩) hK trivial rfl hl.1 rfl (Nat.le_of_ble_eq_true rfl) dX5_factor_79 ⟨Nat.le_of_ble_eq_true rfl, Nat.le_of_ble_eq_true rfl⟩ ?_
      refine lv_if_eq (tgt := 89) hx hb dX5_factor_82 (by decide) (fun c_82 => ?_) (fun c_82 => ?_)
      · have b_82 := bI_0.mp c_82
        refine lv_aload_n hx hb dX5_factor_89 rfl (lv_at hl 1 rfl) ?_
        refine va_ldcS hx hb hown (index := 101) (hX.2 0 (by decide)).1 dX5_factor_90 ?_
        refine x_callV (As := [.ref (sA 0)]) (rest := []) C (m_takeWordM l D k o a1 a8 a9 a10 a15 t bl eo ud 4 se wr d dr fb L hL ((sk fb L σ.1), σ.2) A (va_D_of hD rfl) hoks sA sV 0 (by decide)) (cwV 1 hts (lw_V q1748 q1750 qs36 q76 q1751) rfl rfl rfl (by decide +kernel) ⟨Nat.le_of_ble_eq_true rfl, Nat.le_of_ble_eq_true rfl⟩) hK (va_recv hK hP (ci := 0) (q0 := 0) rfl rfl) mv2_MS hP (fun U hU hW => MS_to hX hS (fun _ h => h) U hU hW) hS (fun _ h => h) rfl hl.1 rfl (Nat.le_of_ble_eq_true rfl) dX5_factor_92 ⟨Nat.le_of_ble_eq_true rfl, Nat.le_of_ble_eq_true rfl⟩ (fun H locs hP hS _ _ => ?_)
        have hP : va_P D clA ((o, .inr (0, [.int t, .ref a1, .int bl, .int (nI L), .int (nI (TS fb L 0 ((sk fb L σ.1), σ.2)).1), .int ((TS fb L 0 ((sk fb L σ.1), σ.2)).2.1), .int ((TS fb L 0 ((sk fb L σ.1), σ.2)).2.2.1), .int eo, .ref a8, .ref a9, .ref a10, .int ud, .int (nI (TS fb L 0 ((sk fb L σ.1), σ.2)).2.2.2), .int 4, .int se, .ref a15])) :: (a8, .inl (k 0, 1798, .inl d)) :: (a9, .inl (k 0, 1798, .inl dr)) :: (a1, .inl (k 0, 900, .inl fb)) :: wr) H := hP
        refine lv_if_eq (tgt := 102) hx hb dX5_factor_95 (by decide) (fun c_95 => ?_) (fun c_95 => ?_)
        · have b_95 := bI_0.mp c_95
          rw [TS_no (σ := (sk fb L σ.1, σ.2)) b_4 b_95, hss] at hP
          refine lv_aload_n hx hb dX5_factor_102 rfl (lv_at hl 1 rfl) ?_
          refine va_ldcS hx hb hown (index := 107) (hX.2 1 (by decide)).1 dX5_factor_103 ?_
          refine x_callV (As := [.ref (sA 1)]) (rest := []) C (m_takeWordM l D k o a1 a8 a9 a10 a15 t bl eo ud 4 se wr d dr fb L hL ((sk fb L σ.1), σ.2) A (va_D_of hD rfl) hoks sA sV 1 (by decide)) (cwV 1 hts (lw_V q1748 q1750 qs36 q76 q1751) rfl rfl rfl (by decide +kernel) ⟨Nat.le_of_ble_eq_true rfl, Nat.le_of_ble_eq_true rfl⟩) hK (va_recv hK hP (ci := 0) (q0 := 0) rfl rfl) mv2_MS hP (fun U hU hW => MS_to hX hS (fun _ h => h) U hU hW) hS (fun _ h => h) rfl hl.1 rfl (Nat.le_of_ble_eq_true rfl) dX5_factor_105 ⟨Nat.le_of_ble_eq_true rfl, Nat.le_of_ble_eq_true rfl⟩ (fun H locs hP hS _ _ => ?_)
          have hP : va_P D clA ((o, .inr (0, [.int t, .ref a1, .int bl, .int (nI L), .int (nI (TS fb L 1 ((sk fb L σ.1), σ.2)).1), .int ((TS fb L 1 ((sk fb L σ.1), σ.2)).2.1), .int ((TS fb L 1 ((sk fb L σ.1), σ.2)).2.2.1), .int eo, .ref a8, .ref a9, .ref a10, .int ud, .int (nI (TS fb L 1 ((sk fb L σ.1), σ.2)).2.2.2), .int 4, .int se, .ref a15])) :: (a8, .inl (k 0, 1798, .inl d)) :: (a9, .inl (k 0, 1798, .inl dr)) :: (a1, .inl (k 0, 900, .inl fb)) :: wr) H := hP
          refine lv_if_eq (tgt := 115) hx hb dX5_factor_108 (by decide) (fun c_108 => ?_) (fun c_108 => ?_)
          · have b_108 := bI_0.mp c_108
            rw [TS_no (σ := (sk fb L σ.1, σ.2)) b_4 b_108, hss] at hP
            refine lv_aload_n hx hb dX5_factor_115 rfl (lv_at hl 1 rfl) ?_
            refine va_ldcS hx hb hown (index := 109) (hX.2 2 (by decide)).1 dX5_factor_116 ?_
            refine x_callV (As := [.ref (sA 2)]) (rest := []) C (m_takeWordM l D k o a1 a8 a9 a10 a15 t bl eo ud 4 se wr d dr fb L hL ((sk fb L σ.1), σ.2) A (va_D_of hD rfl) hoks sA sV 2 (by decide)) (cwV 1 hts (lw_V q1748 q1750 qs36 q76 q1751) rfl rfl rfl (by decide +kernel) ⟨Nat.le_of_ble_eq_true rfl, Nat.le_of_ble_eq_true rfl⟩) hK (va_recv hK hP (ci := 0) (q0 := 0) rfl rfl) mv2_MS hP (fun U hU hW => MS_to hX hS (fun _ h => h) U hU hW) hS (fun _ h => h) rfl hl.1 rfl (Nat.le_of_ble_eq_true rfl) dX5_factor_118 ⟨Nat.le_of_ble_eq_true rfl, Nat.le_of_ble_eq_true rfl⟩ (fun H locs hP hS _ _ => ?_)
            have hP : va_P D clA ((o, .inr (0, [.int t, .ref a1, .int bl, .int (nI L), .int (nI (TS fb L 2 ((sk fb L σ.1), σ.2)).1), .int ((TS fb L 2 ((sk fb L σ.1), σ.2)).2.1), .int ((TS fb L 2 ((sk fb L σ.1), σ.2)).2.2.1), .int eo, .ref a8, .ref a9, .ref a10, .int ud, .int (nI (TS fb L 2 ((sk fb L σ.1), σ.2)).2.2.2), .int 4, .int se, .ref a15])) :: (a8, .inl (k 0, 1798, .inl d)) :: (a9, .inl (k 0, 1798, .inl dr)) :: (a1, .inl (k 0, 900, .inl fb)) :: wr) H := hP
            refine lv_if_eq (tgt := 128) hx hb dX5_factor_121 (by decide) (fun c_121 => ?_) (fun c_121 => ?_)
            · have b_121 := bI_0.mp c_121
              rw [TS_no (σ := (sk fb L σ.1, σ.2)) b_4 b_121, hss] at hP
              refine lv_iconst (v := (-1)) hx hb dX5_factor_128 rfl ?_
              refine lv_istore_n (lv' := [(2, .int (-1)), (1, .int (byt fb L (sk fb L σ.1))), (0, .ref o)]) hx hb dX5_factor_129 rfl hl (by decide) rfl (fun ls hl => ?_)
              refine lv_iload_n hx hb dX5_factor_130 rfl (lv_at hl 0 rfl) ?_
              refine lv_if_ge (tgt := 145) hx hb dX5_factor_131 (by decide) (fun c_131 => ?_) (fun c_131 => ?_)
              · exact absurd c_131 (by decide)
              · refine lv_aload_n hx hb dX5_factor_134 rfl (lv_at hl 2 rfl) ?_
                refine lv_iconst (v := 0) hx hb dX5_factor_135 rfl ?_
                refine lv_sipush (v := 9999) hx hb dX5_factor_136 rfl ?_
                refine w_callV (As := [.int 0, .int 9999]) (rest := []) C (m_number l D k o a1 a8 a9 a10 a15 t bl eo ud 4 se wr d dr fb L hL ((sk fb L σ.1), σ.2) A (va_D_of hD rfl) hoks 0 9999) (cwV 2 hts (lw_V q1768 q1770 qs38 q76 q1771) rfl rfl rfl (by decide +kernel) ⟨Nat.le_of_ble_eq_true rfl, Nat.le_of_ble_eq_true rfl⟩) hK (va_recv hK hP (ci := 0) (q0 := 0) rfl rfl) hP hS (fun _ h => h) rfl hl.1 rfl (Nat.le_of_ble_eq_true rfl) dX5_factor_139 ⟨Nat.le_of_ble_eq_true rfl, Nat.le_of_ble_eq_true rfl⟩ (fun H locs hP hS _ _ => ?_)
                have hP : va_P D clA ((o, .inr (0, [.int t, .ref a1, .int bl, .int (nI L), .int (nI (nmS fb L 0 9999 ((sk fb L σ.1), σ.2)).2.1), .int ((nmS fb L 0 9999 ((sk fb L σ.1), σ.2)).2.2.1), .int ((nmS fb L 0 9999 ((sk fb L σ.1), σ.2)).2.2.2.1), .int eo, .ref a8, .ref a9, .ref a10, .int ud, .int (nI (nmS fb L 0 9999 ((sk fb L σ.1), σ.2)).2.2.2.2), .int 4, .int se, .ref a15])) :: (a8, .inl (k 0, 1798, .inl d)) :: (a9, .inl (k 0, 1798, .inl dr)) :: (a1, .inl (k 0, 900, .inl fb)) :: wr) H := hP
                refine lv_goto (tgt := 146) hx hb dX5_factor_142 (by decide) ?_
                refine lv_istore_n (lv' := [(3, .int ((nmS fb L 0 9999 ((sk fb L σ.1), σ.2)).1)), (2, .int (-1)), (1, .int (byt fb L (sk fb L σ.1))), (0, .ref o)]) hx hb dX5_factor_146 rfl hl (by decide) rfl (fun ls hl => ?_)
                refine lv_aload_n hx hb dX5_factor_147 rfl (lv_at hl 3 rfl) ?_
                refine lv_iload_n hx hb dX5_factor_148 rfl (lv_at hl 1 rfl) ?_
                refine lv_if_ge (tgt := 156) hx hb dX5_factor_149 (by decide) (fun c_149 => ?_) (fun c_149 => ?_)
                · exact absurd c_149 (by decide)
                · refine lv_iconst (v := 0) hx hb dX5_factor_152 rfl ?_
                  refine lv_goto (tgt := 157) hx hb dX5_factor_153 (by decide) ?_
                  refine w_callV (As := [.int 0]) (rest := []) C (m_emit l D k o a1 a8 a9 a10 a15 t bl eo ud 4 se wr d dr fb L hL ((nmS fb L 0 9999 ((sk fb L σ.1), σ.2)).2) A (va_D_of hD rfl) (okS_nm hL hoks) 0 (fun z => ⟨c1, by omega⟩)) (cwV 1 hts (lw_V q1823 q1825 qs47 q76 q1826) rfl rfl rfl (by decide +kernel) ⟨Nat.le_of_ble_eq_true rfl, Nat.le_of_ble_eq_true rfl⟩) hK (va_recv hK hP (ci := 0) (q0 := 0) rfl rfl) hP hS (fun _ h => h) rfl hl.1 rfl (Nat.le_of_ble_eq_true rfl) dX5_factor_157 ⟨Nat.le_of_ble_eq_true rfl, Nat.le_of_ble_eq_true rfl⟩ (fun H locs hP hS _ _ => ?_)
                  have hP : va_P D clA ((o, .inr (0, [.int t, .ref a1, .int bl, .int (nI L), .int (nI (nmS fb L 0 9999 ((sk fb L σ.1), σ.2)).2.1), .int ((nmS fb L 0 9999 ((sk fb L σ.1), σ.2)).2.2.1), .int ((nmS fb L 0 9999 ((sk fb L σ.1), σ.2)).2.2.2.1), .int eo, .ref a8, .ref a9, .ref a10, .int ud, .int (nI (nmS fb L 0 9999 ((sk fb L σ.1), σ.2)).2.2.2.2), .int 4, .int se, .ref a15])) :: (a8, .inl (k 0, 1798, .inl d)) :: (a9, .inl (k 0, 1798, .inl (emS dr 0 ((nmS fb L 0 9999 ((sk fb L σ.1), σ.2)).2)))) :: (a1, .inl (k 0, 900, .inl fb)) :: wr) H := hP
                  refine lv_aload_n hx hb dX5_factor_160 rfl (lv_at hl 3 rfl) ?_
                  refine lv_iload_n hx hb dX5_factor_161 rfl (lv_at hl 0 rfl) ?_
                  refine w_callV (As := [.int ((nmS fb L 0 9999 ((sk fb L σ.1), σ.2)).1)]) (rest := []) C (m_emit l D k o a1 a8 a9 a10 a15 t bl eo ud 4 se wr d (emS dr 0 ((nmS fb L 0 9999 ((sk fb L σ.1), σ.2)).2)) fb L hL ((nmS fb L 0 9999 ((sk fb L σ.1), σ.2)).2) A (va_D_of hD rfl) (okS_nm hL hoks) ((nmS fb L 0 9999 ((sk fb L σ.1), σ.2)).1) (fun z => by simp only [emS, ifp_t z]; have g1 := (nm_fwd hoks z).2.1; have g2 := (okS_nm (fb := fb) (lo := 0) (hi := 9999) hL hoks).1 z; have g1 : sk fb L σ.1 < _ := g1; exact ⟨(em1_n (by omega)).1, by rw [(em1_n (dr := dr) (v := 0) (by omega)).2]; omega⟩)) (cwV 1 hts (lw_V q1823 q1825 qs47 q76 q1826) rfl rfl rfl (by decide +kernel) ⟨Nat.le_of_ble_eq_true rfl, Nat.le_of_ble_eq_true rfl⟩) hK (va_recv hK hP (ci := 0) (q0 := 0) rfl rfl) hP hS (fun _ h => h) rfl hl.1 rfl (Nat.le_of_ble_eq_true rfl) dX5_factor_162 ⟨Nat.le_of_ble_eq_true rfl, Nat.le_of_ble_eq_true rfl⟩ (fun H locs hP hS _ _ => ?_)
                  have hP : va_P D clA ((o, .inr (0, [.int t, .ref a1, .int bl, .int (nI L), .int (nI (nmS fb L 0 9999 ((sk fb L σ.1), σ.2)).2.1), .int ((nmS fb L 0 9999 ((sk fb L σ.1), σ.2)).2.2.1), .int ((nmS fb L 0 9999 ((sk fb L σ.1), σ.2)).2.2.2.1), .int eo, .ref a8, .ref a9, .ref a10, .int ud, .int (nI (nmS fb L 0 9999 ((sk fb L σ.1), σ.2)).2.2.2.2), .int 4, .int se, .ref a15])) :: (a8, .inl (k 0, 1798, .inl d)) :: (a9, .inl (k 0, 1798, .inl (emS (emS dr 0 ((nmS fb L 0 9999 ((sk fb L σ.1), σ.2)).2)) ((nmS fb L 0 9999 ((sk fb L σ.1), σ.2)).1) ((nmS fb L 0 9999 ((sk fb L σ.1), σ.2)).2)))) :: (a1, .inl (k 0, 900, .inl fb)) :: wr) H := hP
                  exact w_vret C (by first | (simp only [px, ifp_t b_4, ifp_f c_16, ifp_t (show dig _ from b_82)]; rw [← lit_em]; exact hP) | (simp only [px, ifp_t b_4, ifp_f c_16, ifp_f (show ¬ dig _ from b_82), ifp_f b_95, ifp_f b_108, ifp_f b_121]; rw [← lit_em]; exact hP)) hS dX5_factor_165
            · have b_121 := bI_nz c_121
              have hw := (okS_TS (fb := fb) (i := 2) hL hoks).1 (by rw [TS_er]; exact b_4)
              rw [TS_yes b_121] at hw
              have hw : sk fb L (sk fb L σ.1) + 6 ≤ L := hw
              refine lv_iconst (v := 2) hx hb dX5_factor_124 rfl ?_
              refine lv_goto (tgt := 129) hx hb dX5_factor_125 (by decide) ?_
              refine lv_istore_n (lv' := [(2, .int 2), (1, .int (byt fb L (sk fb L σ.1))), (0, .ref o)]) hx hb dX5_factor_129 rfl hl (by decide) rfl (fun ls hl => ?_)
              refine lv_iload_n hx hb dX5_factor_130 rfl (lv_at hl 0 rfl) ?_
              refine lv_if_ge (tgt := 145) hx hb dX5_factor_131 (by decide) (fun c_131 => ?_) (fun c_131 => ?_)
              · refine lv_iload_n hx hb dX5_factor_145 rfl (lv_at hl 0 rfl) ?_
                refine lv_istore_n (lv' := [(3, .int 2), (2, .int 2), (1, .int (byt fb L (sk fb L σ.1))), (0, .ref o)]) hx hb dX5_factor_146 rfl hl (by decide) rfl (fun ls hl => ?_)
                refine lv_aload_n hx hb dX5_factor_147 rfl (lv_at hl 3 rfl) ?_
                refine lv_iload_n hx hb dX5_factor_148 rfl (lv_at hl 1 rfl) ?_
                refine lv_if_ge (tgt := 156) hx hb dX5_factor_149 (by decide) (fun c_149 => ?_) (fun c_149 => ?_)
                · refine lv_iconst (v := 1) hx hb dX5_factor_156 rfl ?_
                  refine w_callV (As := [.int 1]) (rest := []) C (m_emit l D k o a1 a8 a9 a10 a15 t bl eo ud 4 se wr d dr fb L hL (TS fb L 2 ((sk fb L σ.1), σ.2)) A (va_D_of hD rfl) (okS_TS hL hoks) 1 (fun _ => ⟨c1, by omega⟩)) (cwV 1 hts (lw_V q1823 q1825 qs47 q76 q1826) rfl rfl rfl (by decide +kernel) ⟨Nat.le_of_ble_eq_true rfl, Nat.le_of_ble_eq_true rfl⟩) hK (va_recv hK hP (ci := 0) (q0 := 0) rfl rfl) hP hS (fun _ h => h) rfl hl.1 rfl (Nat.le_of_ble_eq_true rfl) dX5_factor_157 ⟨Nat.le_of_ble_eq_true rfl, Nat.le_of_ble_eq_true rfl⟩ (fun H locs hP hS _ _ => ?_)
                  have hP : va_P D clA ((o, .inr (0, [.int t, .ref a1, .int bl, .int (nI L), .int (nI (TS fb L 2 ((sk fb L σ.1), σ.2)).1), .int ((TS fb L 2 ((sk fb L σ.1), σ.2)).2.1), .int ((TS fb L 2 ((sk fb L σ.1), σ.2)).2.2.1), .int eo, .ref a8, .ref a9, .ref a10, .int ud, .int (nI (TS fb L 2 ((sk fb L σ.1), σ.2)).2.2.2), .int 4, .int se, .ref a15])) :: (a8, .inl (k 0, 1798, .inl d)) :: (a9, .inl (k 0, 1798, .inl (emS dr 1 (TS fb L 2 ((sk fb L σ.1), σ.2))))) :: (a1, .inl (k 0, 900, .inl fb)) :: wr) H := hP
                  refine lv_aload_n hx hb dX5_factor_160 rfl (lv_at hl 3 rfl) ?_
                  refine lv_iload_n hx hb dX5_factor_161 rfl (lv_at hl 0 rfl) ?_
                  refine w_callV (As := [.int 2]) (rest := []) C (m_emit l D k o a1 a8 a9 a10 a15 t bl eo ud 4 se wr d (emS dr 1 (TS fb L 2 ((sk fb L σ.1), σ.2))) fb L hL (TS fb L 2 ((sk fb L σ.1), σ.2)) A (va_D_of hD rfl) (okS_TS hL hoks) 2 (fun z => by simp only [emS, ifp_t z]; exact ⟨(em1_n (by omega)).1, by rw [(em1_n (dr := dr) (v := 1) (by omega)).2]; omega⟩)) (cwV 1 hts (lw_V q1823 q1825 qs47 q76 q1826) rfl rfl rfl (by decide +kernel) ⟨Nat.le_of_ble_eq_true rfl, Nat.le_of_ble_eq_true rfl⟩) hK (va_recv hK hP (ci := 0) (q0 := 0) rfl rfl) hP hS (fun _ h => h) rfl hl.1 rfl (Nat.le_of_ble_eq_true rfl) dX5_factor_162 ⟨Nat.le_of_ble_eq_true rfl, Nat.le_of_ble_eq_true rfl⟩ (fun H locs hP hS _ _ => ?_)
                  have hP : va_P D clA ((o, .inr (0, [.int t, .ref a1, .int bl, .int (nI L), .int (nI (TS fb L 2 ((sk fb L σ.1), σ.2)).1), .int ((TS fb L 2 ((sk fb L σ.1), σ.2)).2.1), .int ((TS fb L 2 ((sk fb L σ.1), σ.2)).2.2.1), .int eo, .ref a8, .ref a9, .ref a10, .int ud, .int (nI (TS fb L 2 ((sk fb L σ.1), σ.2)).2.2.2), .int 4, .int se, .ref a15])) :: (a8, .inl (k 0, 1798, .inl d)) :: (a9, .inl (k 0, 1798, .inl (emS (emS dr 1 (TS fb L 2 ((sk fb L σ.1), σ.2))) 2 (TS fb L 2 ((sk fb L σ.1), σ.2))))) :: (a1, .inl (k 0, 900, .inl fb)) :: wr) H := hP
                  exact w_vret C (by simp only [px, ifp_t b_4, ifp_f c_16, ifp_f (show ¬ dig _ from b_82), ifp_f b_95, ifp_f b_108, ifp_t b_121]; simp only [emS, ifp_t (show (TS fb L 2 (sk fb L σ.1, σ.2)).2.1 = 0 by rw [TS_er]; exact b_4)] at hP; exact hP) hS dX5_factor_165
                · exact absurd c_149 (by decide)
              · exact absurd c_131 (by decide)
          · have b_108 := bI_nz c_108
            have hw := (okS_TS (fb := fb) (i := 1) hL hoks).1 (by rw [TS_er]; exact b_4)
            rw [TS_yes b_108] at hw
            have hw : sk fb L (sk fb L σ.1) + 4 ≤ L := hw
            refine lv_iconst (v := 1) hx hb dX5_factor_111 rfl ?_
            refine lv_goto (tgt := 129) hx hb dX5_factor_112 (by decide) ?_
            refine lv_istore_n (lv' := [(2, .int 1), (1, .int (byt fb L (sk fb L σ.1))), (0, .ref o)]) hx hb dX5_factor_129 rfl hl (by decide) rfl (fun ls hl => ?_)
            refine lv_iload_n hx hb dX5_factor_130 rfl (lv_at hl 0 rfl) ?_
            refine lv_if_ge (tgt := 145) hx hb dX5_factor_131 (by decide) (fun c_131 => ?_) (fun c_131 => ?_)
            · refine lv_iload_n hx hb dX5_factor_145 rfl (lv_at hl 0 rfl) ?_
              refine lv_istore_n (lv' := [(3, .int 1), (2, .int 1), (1, .int (byt fb L (sk fb L σ.1))), (0, .ref o)]) hx hb dX5_factor_146 rfl hl (by decide) rfl (fun ls hl => ?_)
              refine lv_aload_n hx hb dX5_factor_147 rfl (lv_at hl 3 rfl) ?_
              refine lv_iload_n hx hb dX5_factor_148 rfl (lv_at hl 1 rfl) ?_
              refine lv_if_ge (tgt := 156) hx hb dX5_factor_149 (by decide) (fun c_149 => ?_) (fun c_149 => ?_)
              · refine lv_iconst (v := 1) hx hb dX5_factor_156 rfl ?_
                refine w_callV (As := [.int 1]) (rest := []) C (m_emit l D k o a1 a8 a9 a10 a15 t bl eo ud 4 se wr d dr fb L hL (TS fb L 1 ((sk fb L σ.1), σ.2)) A (va_D_of hD rfl) (okS_TS hL hoks) 1 (fun _ => ⟨c1, by omega⟩)) (cwV 1 hts (lw_V q1823 q1825 qs47 q76 q1826) rfl rfl rfl (by decide +kernel) ⟨Nat.le_of_ble_eq_true rfl, Nat.le_of_ble_eq_true rfl⟩) hK (va_recv hK hP (ci := 0) (q0 := 0) rfl rfl) hP hS (fun _ h => h) rfl hl.1 rfl (Nat.le_of_ble_eq_true rfl) dX5_factor_157 ⟨Nat.le_of_ble_eq_true rfl, Nat.le_of_ble_eq_true rfl⟩ (fun H locs hP hS _ _ => ?_)
                have hP : va_P D clA ((o, .inr (0, [.int t, .ref a1, .int bl, .int (nI L), .int (nI (TS fb L 1 ((sk fb L σ.1), σ.2)).1), .int ((TS fb L 1 ((sk fb L σ.1), σ.2)).2.1), .int ((TS fb L 1 ((sk fb L σ.1), σ.2)).2.2.1), .int eo, .ref a8, .ref a9, .ref a10, .int ud, .int (nI (TS fb L 1 ((sk fb L σ.1), σ.2)).2.2.2), .int 4, .int se, .ref a15])) :: (a8, .inl (k 0, 1798, .inl d)) :: (a9, .inl (k 0, 1798, .inl (emS dr 1 (TS fb L 1 ((sk fb L σ.1), σ.2))))) :: (a1, .inl (k 0, 900, .inl fb)) :: wr) H := hP
                refine lv_aload_n hx hb dX5_factor_160 rfl (lv_at hl 3 rfl) ?_
                refine lv_iload_n hx hb dX5_factor_161 rfl (lv_at hl 0 rfl) ?_
                refine w_callV (As := [.int 1]) (rest := []) C (m_emit l D k o a1 a8 a9 a10 a15 t bl eo ud 4 se wr d (emS dr 1 (TS fb L 1 ((sk fb L σ.1), σ.2))) fb L hL (TS fb L 1 ((sk fb L σ.1), σ.2)) A (va_D_of hD rfl) (okS_TS hL hoks) 1 (fun z => by simp only [emS, ifp_t z]; exact ⟨(em1_n (by omega)).1, by rw [(em1_n (dr := dr) (v := 1) (by omega)).2]; omega⟩)) (cwV 1 hts (lw_V q1823 q1825 qs47 q76 q1826) rfl rfl rfl (by decide +kernel) ⟨Nat.le_of_ble_eq_true rfl, Nat.le_of_ble_eq_true rfl⟩) hK (va_recv hK hP (ci := 0) (q0 := 0) rfl rfl) hP hS (fun _ h => h) rfl hl.1 rfl (Nat.le_of_ble_eq_true rfl) dX5_factor_162 ⟨Nat.le_of_ble_eq_true rfl, Nat.le_of_ble_eq_true rfl⟩ (fun H locs hP hS _ _ => ?_)
                have hP : va_P D clA ((o, .inr (0, [.int t, .ref a1, .int bl, .int (nI L), .int (nI (TS fb L 1 ((sk fb L σ.1), σ.2)).1), .int ((TS fb L 1 ((sk fb L σ.1), σ.2)).2.1), .int ((TS fb L 1 ((sk fb L σ.1), σ.2)).2.2.1), .int eo, .ref a8, .ref a9, .ref a10, .int ud, .int (nI (TS fb L 1 ((sk fb L σ.1), σ.2)).2.2.2), .int 4, .int se, .ref a15])) :: (a8, .inl (k 0, 1798, .inl d)) :: (a9, .inl (k 0, 1798, .inl (emS (emS dr 1 (TS fb L 1 ((sk fb L σ.1), σ.2))) 1 (TS fb L 1 ((sk fb L σ.1), σ.2))))) :: (a1, .inl (k 0, 900, .inl fb)) :: wr) H := hP
                exact w_vret C (by simp only [px, ifp_t b_4, ifp_f c_16, ifp_f (show ¬ dig _ from b_82), ifp_f b_95, ifp_t b_108]; simp only [emS, ifp_t (show (TS fb L 1 (sk fb L σ.1, σ.2)).2.1 = 0 by rw [TS_er]; exact b_4)] at hP; exact hP) hS dX5_factor_165
              · exact absurd c_149 (by decide)
            · exact absurd c_131 (by decide)
        · have b_95 := bI_nz c_95
          have hw := (okS_TS (fb := fb) (i := 0) hL hoks).1 (by rw [TS_er]; exact b_4)
          rw [TS_yes b_95] at hw
          have hw : sk fb L (sk fb L σ.1) + 6 ≤ L := hw
          refine lv_iconst (v := 0) hx hb dX5_factor_98 rfl ?_
          refine lv_goto (tgt := 129) hx hb dX5_factor_99 (by decide) ?_
          refine lv_istore_n (lv' := [(2, .int 0), (1, .int (byt fb L (sk fb L σ.1))), (0, .ref o)]) hx hb dX5_factor_129 rfl hl (by decide) rfl (fun ls hl => ?_)
          refine lv_iload_n hx hb dX5_factor_130 rfl (lv_at hl 0 rfl) ?_
          refine lv_if_ge (tgt := 145) hx hb dX5_factor_131 (by decide) (fun c_131 => ?_) (fun c_131 => ?_)
          · refine lv_iload_n hx hb dX5_factor_145 rfl (lv_at hl 0 rfl) ?_
            refine lv_istore_n (lv' := [(3, .int 0), (2, .int 0), (1, .int (byt fb L (sk fb L σ.1))), (0, .ref o)]) hx hb dX5_factor_146 rfl hl (by decide) rfl (fun ls hl => ?_)
            refine lv_aload_n hx hb dX5_factor_147 rfl (lv_at hl 3 rfl) ?_
            refine lv_iload_n hx hb dX5_factor_148 rfl (lv_at hl 1 rfl) ?_
            refine lv_if_ge (tgt := 156) hx hb dX5_factor_149 (by decide) (fun c_149 => ?_) (fun c_149 => ?_)
            · refine lv_iconst (v := 1) hx hb dX5_factor_156 rfl ?_
              refine w_callV (As := [.int 1]) (rest := []) C (m_emit l D k o a1 a8 a9 a10 a15 t bl eo ud 4 se wr d dr fb L hL (TS fb L 0 ((sk fb L σ.1), σ.2)) A (va_D_of hD rfl) (okS_TS hL hoks) 1 (fun _ => ⟨c1, by omega⟩)) (cwV 1 hts (lw_V q1823 q1825 qs47 q76 q1826) rfl rfl rfl (by decide +kernel) ⟨Nat.le_of_ble_eq_true rfl, Nat.le_of_ble_eq_true rfl⟩) hK (va_recv hK hP (ci := 0) (q0 := 0) rfl rfl) hP hS (fun _ h => h) rfl hl.1 rfl (Nat.le_of_ble_eq_true rfl) dX5_factor_157 ⟨Nat.le_of_ble_eq_true rfl, Nat.le_of_ble_eq_true rfl⟩ (fun H locs hP hS _ _ => ?_)
              have hP : va_P D clA ((o, .inr (0, [.int t, .ref a1, .int bl, .int (nI L), .int (nI (TS fb L 0 ((sk fb L σ.1), σ.2)).1), .int ((TS fb L 0 ((sk fb L σ.1), σ.2)).2.1), .int ((TS fb L 0 ((sk fb L σ.1), σ.2)).2.2.1), .int eo, .ref a8, .ref a9, .ref a10, .int ud, .int (nI (TS fb L 0 ((sk fb L σ.1), σ.2)).2.2.2), .int 4, .int se, .ref a15])) :: (a8, .inl (k 0, 1798, .inl d)) :: (a9, .inl (k 0, 1798, .inl (emS dr 1 (TS fb L 0 ((sk fb L σ.1), σ.2))))) :: (a1, .inl (k 0, 900, .inl fb)) :: wr) H := hP
              refine lv_aload_n hx hb dX5_factor_160 rfl (lv_at hl 3 rfl) ?_
              refine lv_iload_n hx hb dX5_factor_161 rfl (lv_at hl 0 rfl) ?_
              refine w_callV (As := [.int 0]) (rest := []) C (m_emit l D k o a1 a8 a9 a10 a15 t bl eo ud 4 se wr d (emS dr 1 (TS fb L 0 ((sk fb L σ.1), σ.2))) fb L hL (TS fb L 0 ((sk fb L σ.1), σ.2)) A (va_D_of hD rfl) (okS_TS hL hoks) 0 (fun z => by simp only [emS, ifp_t z]; exact ⟨(em1_n (by omega)).1, by rw [(em1_n (dr := dr) (v := 1) (by omega)).2]; omega⟩)) (cwV 1 hts (lw_V q1823 q1825 qs47 q76 q1826) rfl rfl rfl (by decide +kernel) ⟨Nat.le_of_ble_eq_true rfl, Nat.le_of_ble_eq_true rfl⟩) hK (va_recv hK hP (ci := 0) (q0 := 0) rfl rfl) hP hS (fun _ h => h) rfl hl.1 rfl (Nat.le_of_ble_eq_true rfl) dX5_factor_162 ⟨Nat.le_of_ble_eq_true rfl, Nat.le_of_ble_eq_true rfl⟩ (fun H locs hP hS _ _ => ?_)
              have hP : va_P D clA ((o, .inr (0, [.int t, .ref a1, .int bl, .int (nI L), .int (nI (TS fb L 0 ((sk fb L σ.1), σ.2)).1), .int ((TS fb L 0 ((sk fb L σ.1), σ.2)).2.1), .int ((TS fb L 0 ((sk fb L σ.1), σ.2)).2.2.1), .int eo, .ref a8, .ref a9, .ref a10, .int ud, .int (nI (TS fb L 0 ((sk fb L σ.1), σ.2)).2.2.2), .int 4, .int se, .ref a15])) :: (a8, .inl (k 0, 1798, .inl d)) :: (a9, .inl (k 0, 1798, .inl (emS (emS dr 1 (TS fb L 0 ((sk fb L σ.1), σ.2))) 0 (TS fb L 0 ((sk fb L σ.1), σ.2))))) :: (a1, .inl (k 0, 900, .inl fb)) :: wr) H := hP
              exact w_vret C (by simp only [px, ifp_t b_4, ifp_f c_16, ifp_f (show ¬ dig _ from b_82), ifp_t b_95]; simp only [emS, ifp_t (show (TS fb L 0 (sk fb L σ.1, σ.2)).2.1 = 0 by rw [TS_er]; exact b_4)] at hP; exact hP) hS dX5_factor_165
            · exact absurd c_149 (by decide)
          · exact absurd c_131 (by decide)
      · have b_82 := bI_nz c_82
        refine lv_iconst (v := (-1)) hx hb dX5_factor_85 rfl ?_
        refine lv_goto (tgt := 129) hx hb dX5_factor_86 (by decide) ?_
        refine lv_istore_n (lv' := [(2, .int (-1)), (1, .int (byt fb L (sk fb L σ.1))), (0, .ref o)]) hx hb dX5_factor_129 rfl hl (by decide) rfl (fun ls hl => ?_)
        refine lv_iload_n hx hb dX5_factor_130 rfl (lv_at hl 0 rfl) ?_
        refine lv_if_ge (tgt := 145) hx hb dX5_factor_131 (by decide) (fun c_131 => ?_) (fun c_131 => ?_)
        · exact absurd c_131 (by decide)
        · refine lv_aload_n hx hb dX5_factor_134 rfl (lv_at hl 2 rfl) ?_
          refine lv_iconst (v := 0) hx hb dX5_factor_135 rfl ?_
          refine lv_sipush (v := 9999) hx hb dX5_factor_136 rfl ?_
          refine w_callV (As := [.int 0, .int 9999]) (rest := []) C (m_number l D k o a1 a8 a9 a10 a15 t bl eo ud 4 se wr d dr fb L hL ((sk fb L σ.1), σ.2) A (va_D_of hD rfl) hoks 0 9999) (cwV 2 hts (lw_V q1768 q1770 qs38 q76 q1771) rfl rfl rfl (by decide +kernel) ⟨Nat.le_of_ble_eq_true rfl, Nat.le_of_ble_eq_true rfl⟩) hK (va_recv hK hP (ci := 0) (q0 := 0) rfl rfl) hP hS (fun _ h => h) rfl hl.1 rfl (Nat.le_of_ble_eq_true rfl) dX5_factor_139 ⟨Nat.le_of_ble_eq_true rfl, Nat.le_of_ble_eq_true rfl⟩ (fun H locs hP hS _ _ => ?_)
          have hP : va_P D clA ((o, .inr (0, [.int t, .ref a1, .int bl, .int (nI L), .int (nI (nmS fb L 0 9999 ((sk fb L σ.1), σ.2)).2.1), .int ((nmS fb L 0 9999 ((sk fb L σ.1), σ.2)).2.2.1), .int ((nmS fb L 0 9999 ((sk fb L σ.1), σ.2)).2.2.2.1), .int eo, .ref a8, .ref a9, .ref a10, .int ud, .int (nI (nmS fb L 0 9999 ((sk fb L σ.1), σ.2)).2.2.2.2), .int 4, .int se, .ref a15])) :: (a8, .inl (k 0, 1798, .inl d)) :: (a9, .inl (k 0, 1798, .inl dr)) :: (a1, .inl (k 0, 900, .inl fb)) :: wr) H := hP
          refine lv_goto (tgt := 146) hx hb dX5_factor_142 (by decide) ?_
          refine lv_istore_n (lv' := [(3, .int ((nmS fb L 0 9999 ((sk fb L σ.1), σ.2)).1)), (2, .int (-1)), (1, .int (byt fb L (sk fb L σ.1))), (0, .ref o)]) hx hb dX5_factor_146 rfl hl (by decide) rfl (fun ls hl => ?_)
          refine lv_aload_n hx hb dX5_factor_147 rfl (lv_at hl 3 rfl) ?_
          refine lv_iload_n hx hb dX5_factor_148 rfl (lv_at hl 1 rfl) ?_
          refine lv_if_ge (tgt := 156) hx hb dX5_factor_149 (by decide) (fun c_149 => ?_) (fun c_149 => ?_)
          · exact absurd c_149 (by decide)
          · refine lv_iconst (v := 0) hx hb dX5_factor_152 rfl ?_
            refine lv_goto (tgt := 157) hx hb dX5_factor_153 (by decide) ?_
            refine w_callV (As := [.int 0]) (rest := []) C (m_emit l D k o a1 a8 a9 a10 a15 t bl eo ud 4 se wr d dr fb L hL ((nmS fb L 0 9999 ((sk fb L σ.1), σ.2)).2) A (va_D_of hD rfl) (okS_nm hL hoks) 0 (fun z => ⟨c1, by omega⟩)) (cwV 1 hts (lw_V q1823 q1825 qs47 q76 q1826) rfl rfl rfl (by decide +kernel) ⟨Nat.le_of_ble_eq_true rfl, Nat.le_of_ble_eq_true rfl⟩) hK (va_recv hK hP (ci := 0) (q0 := 0) rfl rfl) hP hS (fun _ h => h) rfl hl.1 rfl (Nat.le_of_ble_eq_true rfl) dX5_factor_157 ⟨Nat.le_of_ble_eq_true rfl, Nat.le_of_ble_eq_true rfl⟩ (fun H locs hP hS _ _ => ?_)
            have hP : va_P D clA ((o, .inr (0, [.int t, .ref a1, .int bl, .int (nI L), .int (nI (nmS fb L 0 9999 ((sk fb L σ.1), σ.2)).2.1), .int ((nmS fb L 0 9999 ((sk fb L σ.1), σ.2)).2.2.1), .int ((nmS fb L 0 9999 ((sk fb L σ.1), σ.2)).2.2.2.1), .int eo, .ref a8, .ref a9, .ref a10, .int ud, .int (nI (nmS fb L 0 9999 ((sk fb L σ.1), σ.2)).2.2.2.2), .int 4, .int se, .ref a15])) :: (a8, .inl (k 0, 1798, .inl d)) :: (a9, .inl (k 0, 1798, .inl (emS dr 0 ((nmS fb L 0 9999 ((sk fb L σ.1), σ.2)).2)))) :: (a1, .inl (k 0, 900, .inl fb)) :: wr) H := hP
            refine lv_aload_n hx hb dX5_factor_160 rfl (lv_at hl 3 rfl) ?_
            refine lv_iload_n hx hb dX5_factor_161 rfl (lv_at hl 0 rfl) ?_
            refine w_callV (As := [.int ((nmS fb L 0 9999 ((sk fb L σ.1), σ.2)).1)]) (rest := []) C (m_emit l D k o a1 a8 a9 a10 a15 t bl eo ud 4 se wr d (emS dr 0 ((nmS fb L 0 9999 ((sk fb L σ.1), σ.2)).2)) fb L hL ((nmS fb L 0 9999 ((sk fb L σ.1), σ.2)).2) A (va_D_of hD rfl) (okS_nm hL hoks) ((nmS fb L 0 9999 ((sk fb L σ.1), σ.2)).1) (fun z => by simp only [emS, ifp_t z]; have g1 := (nm_fwd hoks z).2.1; have g2 := (okS_nm (fb := fb) (lo := 0) (hi := 9999) hL hoks).1 z; have g1 : sk fb L σ.1 < _ := g1; exact ⟨(em1_n (by omega)).1, by rw [(em1_n (dr := dr) (v := 0) (by omega)).2]; omega⟩)) (cwV 1 hts (lw_V q1823 q1825 qs47 q76 q1826) rfl rfl rfl (by decide +kernel) ⟨Nat.le_of_ble_eq_true rfl, Nat.le_of_ble_eq_true rfl⟩) hK (va_recv hK hP (ci := 0) (q0 := 0) rfl rfl) hP hS (fun _ h => h) rfl hl.1 rfl (Nat.le_of_ble_eq_true rfl) dX5_factor_162 ⟨Nat.le_of_ble_eq_true rfl, Nat.le_of_ble_eq_true rfl⟩ (fun H locs hP hS _ _ => ?_)
            have hP : va_P D clA ((o, .inr (0, [.int t, .ref a1, .int bl, .int (nI L), .int (nI (nmS fb L 0 9999 ((sk fb L σ.1), σ.2)).2.1), .int ((nmS fb L 0 9999 ((sk fb L σ.1), σ.2)).2.2.1), .int ((nmS fb L 0 9999 ((sk fb L σ.1), σ.2)).2.2.2.1), .int eo, .ref a8, .ref a9, .ref a10, .int ud, .int (nI (nmS fb L 0 9999 ((sk fb L σ.1), σ.2)).2.2.2.2), .int 4, .int se, .ref a15])) :: (a8, .inl (k 0, 1798, .inl d)) :: (a9, .inl (k 0, 1798, .inl (emS (emS dr 0 ((nmS fb L 0 9999 ((sk fb L σ.1), σ.2)).2)) ((nmS fb L 0 9999 ((sk fb L σ.1), σ.2)).1) ((nmS fb L 0 9999 ((sk fb L σ.1), σ.2)).2)))) :: (a1, .inl (k 0, 900, .inl fb)) :: wr) H := hP
            exact w_vret C (by first | (simp only [px, ifp_t b_4, ifp_f c_16, ifp_t (show dig _ from b_82)]; rw [← lit_em]; exact hP) | (simp only [px, ifp_t b_4, ifp_f c_16, ifp_f (show ¬ dig _ from b_82), ifp_f b_95, ifp_f b_108, ifp_f b_121]; rw [← lit_em]; exact hP)) hS dX5_factor_165
    · have hlt := byt_lt c_16 (by decide)
      refine lv_aload_n hx hb dX5_factor_19 rfl (lv_at hl 1 rfl) ?_
      refine va_get hx hb hts in_X5 hown hK hP 0 rfl rfl 13 (by decide) (hts _ q1675) (fun _ h => h) rfl dX5_factor_20 ?_
      refine lv_iconst (v := 4) hx hb dX5_factor_23 rfl ?_
      refine lv_icmp_ne (tgt := 37) hx hb dX5_factor_24 (by decide) (fun c_24 => ?_) (fun c_24 => ?_)
      · exact absurd c_24 (by decide)
      · refine lv_aload_n hx hb dX5_factor_27 rfl (lv_at hl 1 rfl) ?_
        refine lv_bipush (v := (-5)) hx hb dX5_factor_28 rfl ?_
        refine lv_aload_n hx hb dX5_factor_30 rfl (lv_at hl 1 rfl) ?_
        refine va_get hx hb hts in_X5 hown hK hP 0 rfl rfl 4 (by decide) (hts _ q1666) (fun _ h => h) rfl dX5_factor_31 ?_
        refine w_callV (As := [.int (-5), .int (nI (sk fb L σ.1))]) (rest := []) C (m_report l D k o a1 a8 a9 a10 a15 t bl eo ud 4 se wr d dr fb L A ((sk fb L σ.1), σ.2) (va_D_of hD rfl) (-5) (nI (sk fb L σ.1))) (cwV 2 hts (lw_V q1775 q1777 qs39 q76 q1778) rfl rfl rfl (by decide +kernel) ⟨Nat.le_of_ble_eq_true rfl, Nat.le_of_ble_eq_true rfl⟩) hK (va_recv hK hP (ci := 0) (q0 := 0) rfl rfl) hP hS (fun _ h => h) rfl hl.1 rfl (Nat.le_of_ble_eq_true rfl) dX5_factor_34 ⟨Nat.le_of_ble_eq_true rfl, Nat.le_of_ble_eq_true rfl⟩ (fun H locs hP hS _ _ => ?_)
        have hP : va_P D clA ((o, .inr (0, [.int t, .ref a1, .int bl, .int (nI L), .int (nI (rpS (-5) (nI (sk fb L σ.1)) ((sk fb L σ.1), σ.2)).1), .int ((rpS (-5) (nI (sk fb L σ.1)) ((sk fb L σ.1), σ.2)).2.1), .int ((rpS (-5) (nI (sk fb L σ.1)) ((sk fb L σ.1), σ.2)).2.2.1), .int eo, .ref a8, .ref a9, .ref a10, .int ud, .int (nI (rpS (-5) (nI (sk fb L σ.1)) ((sk fb L σ.1), σ.2)).2.2.2), .int 4, .int se, .ref a15])) :: (a8, .inl (k 0, 1798, .inl d)) :: (a9, .inl (k 0, 1798, .inl dr)) :: (a1, .inl (k 0, 900, .inl fb)) :: wr) H := hP
        refine lv_aload_n hx hb dX5_factor_37 rfl (lv_at hl 1 rfl) ?_
        refine lv_dup hx hb dX5_factor_38 rfl ?_
        refine va_get hx hb hts in_X5 hown hK hP 0 rfl rfl 4 (by decide) (hts _ q1666) (fun _ h => h) rfl dX5_factor_39 ?_
        refine lv_iconst (v := 1) hx hb dX5_factor_42 rfl ?_
        refine lv_iadd hx hb dX5_factor_43 ?_
        refine w_topi (y := nI (((rpS (-5) (nI (sk fb L σ.1)) ((sk fb L σ.1), σ.2)).1) + 1)) (nI_add ((rpS (-5) (nI (sk fb L σ.1)) ((sk fb L σ.1), σ.2)).1) 1) ?_
        refine va_put hx hb hts in_X5 tyX5 tyX5_ok nmX5 hown hK hP (va_D_of hD rfl) hS 0 rfl rfl 4 (by decide) (hts _ q1666) (fun _ h => h) rfl rfl rfl rfl (Nat.le_of_ble_eq_true rfl) dX5_factor_44 (fun H locs hP _ hS => ?_)
        have hP : va_P D clA ((o, .inr (0, [.int t, .ref a1, .int bl, .int (nI L), .int (nI (((rpS (-5) (nI (sk fb L σ.1)) ((sk fb L σ.1), σ.2)).1) + 1)), .int ((rpS (-5) (nI (sk fb L σ.1)) ((sk fb L σ.1), σ.2)).2.1), .int ((rpS (-5) (nI (sk fb L σ.1)) ((sk fb L σ.1), σ.2)).2.2.1), .int eo, .ref a8, .ref a9, .ref a10, .int ud, .int (nI (rpS (-5) (nI (sk fb L σ.1)) ((sk fb L σ.1), σ.2)).2.2.2), .int 4, .int se, .ref a15])) :: (a8, .inl (k 0, 1798, .inl d)) :: (a9, .inl (k 0, 1798, .inl dr)) :: (a1, .inl (k 0, 900, .inl fb)) :: wr) H := hP
        refine lv_aload_n hx hb dX5_factor_47 rfl (lv_at hl 1 rfl) ?_
        refine lv_dup hx hb dX5_factor_48 rfl ?_
        refine va_get hx hb hts in_X5 hown hK hP 0 rfl rfl 13 (by decide) (hts _ q1675) (fun _ h => h) rfl dX5_factor_49 ?_
        refine lv_iconst (v := 1) hx hb dX5_factor_52 rfl ?_
        refine lv_iadd hx hb dX5_factor_53 ?_
        refine w_topi (y := 5) (by decide) ?_
        refine va_put hx hb hts in_X5 tyX5 tyX5_ok nmX5 hown hK hP (va_D_of hD rfl) hS 0 rfl rfl 13 (by decide) (hts _ q1675) (fun _ h => h) rfl rfl rfl rfl (Nat.le_of_ble_eq_true rfl) dX5_factor_54 (fun H locs hP _ hS => ?_)
        have hP : va_P D clA ((o, .inr (0, [.int t, .ref a1, .int bl, .int (nI L), .int (nI (((rpS (-5) (nI (sk fb L σ.1)) ((sk fb L σ.1), σ.2)).1) + 1)), .int ((rpS (-5) (nI (sk fb L σ.1)) ((sk fb L σ.1), σ.2)).2.1), .int ((rpS (-5) (nI (sk fb L σ.1)) ((sk fb L σ.1), σ.2)).2.2.1), .int eo, .ref a8, .ref a9, .ref a10, .int ud, .int (nI (rpS (-5) (nI (sk fb L σ.1)) ((sk fb L σ.1), σ.2)).2.2.2), .int 5, .int se, .ref a15])) :: (a8, .inl (k 0, 1798, .inl d)) :: (a9, .inl (k 0, 1798, .inl dr)) :: (a1, .inl (k 0, 900, .inl fb)) :: wr) H := hP
        refine lv_aload_n hx hb dX5_factor_57 rfl (lv_at hl 1 rfl) ?_
        refine w_callV (As := []) (rest := []) C (m_sumE l D k o a1 a8 a9 a10 a15 t bl eo ud 5 se wr d dr fb L hL ((((rpS (-5) (nI (sk fb L σ.1)) ((sk fb L σ.1), σ.2)).1) + 1), (rpS (-5) (nI (sk fb L σ.1)) ((sk fb L σ.1), σ.2)).2) A (va_D_of hD rfl) ⟨fun h => absurd h (rp_err (by decide)), by show (rpS (-5) (nI (sk fb L σ.1)) ((sk fb L σ.1), σ.2)).1 + 1 ≤ 2000; rw [rp_ps.1]; show sk fb L σ.1 + 1 ≤ 2000; omega, by show (rpS (-5) (nI (sk fb L σ.1)) ((sk fb L σ.1), σ.2)).2.2.2 ≤ 2000; rw [rp_ps.2]; exact hok.2.2⟩ (rp_err (by decide))) (cwV 0 hts (lw_V q1804 q1806 qs43 q76 q1807) rfl rfl rfl (by decide +kernel) ⟨Nat.le_of_ble_eq_true rfl, Nat.le_of_ble_eq_true rfl⟩) hK (va_recv hK hP (ci := 0) (q0 := 0) rfl rfl) hP hS (fun _ h => h) rfl hl.1 rfl (Nat.le_of_ble_eq_true rfl) dX5_factor_58 ⟨Nat.le_of_ble_eq_true rfl, Nat.le_of_ble_eq_true rfl⟩ (fun H locs hP hS _ _ => ?_)
        have hP : va_P D clA ((o, .inr (0, [.int t, .ref a1, .int bl, .int (nI L), .int (nI (((rpS (-5) (nI (sk fb L σ.1)) ((sk fb L σ.1), σ.2)).1) + 1)), .int ((rpS (-5) (nI (sk fb L σ.1)) ((sk fb L σ.1), σ.2)).2.1), .int ((rpS (-5) (nI (sk fb L σ.1)) ((sk fb L σ.1), σ.2)).2.2.1), .int eo, .ref a8, .ref a9, .ref a10, .int ud, .int (nI (rpS (-5) (nI (sk fb L σ.1)) ((sk fb L σ.1), σ.2)).2.2.2), .int 5, .int se, .ref a15])) :: (a8, .inl (k 0, 1798, .inl d)) :: (a9, .inl (k 0, 1798, .inl dr)) :: (a1, .inl (k 0, 900, .inl fb)) :: wr) H := hP
        refine lv_aload_n hx hb dX5_factor_61 rfl (lv_at hl 1 rfl) ?_
        refine lv_bipush (v := 41) hx hb dX5_factor_62 rfl ?_
        refine w_callV (As := [.int 41]) (rest := []) C (m_expect l D k o a1 a8 a9 a10 a15 t bl eo ud 5 se wr d dr fb L hL ((((rpS (-5) (nI (sk fb L σ.1)) ((sk fb L σ.1), σ.2)).1) + 1), (rpS (-5) (nI (sk fb L σ.1)) ((sk fb L σ.1), σ.2)).2) A (va_D_of hD rfl) ⟨fun h => absurd h (rp_err (by decide)), by show (rpS (-5) (nI (sk fb L σ.1)) ((sk fb L σ.1), σ.2)).1 + 1 ≤ 2000; rw [rp_ps.1]; show sk fb L σ.1 + 1 ≤ 2000; omega, by show (rpS (-5) (nI (sk fb L σ.1)) ((sk fb L σ.1), σ.2)).2.2.2 ≤ 2000; rw [rp_ps.2]; exact hok.2.2⟩ 41) (cwV 1 hts (lw_V q1816 q1818 qs46 q76 q1819) rfl rfl rfl (by decide +kernel) ⟨Nat.le_of_ble_eq_true rfl, Nat.le_of_ble_eq_true rfl⟩) hK (va_recv hK hP (ci := 0) (q0 := 0) rfl rfl) hP hS (fun _ h => h) rfl hl.1 rfl (Nat.le_of_ble_eq_true rfl) dX5_factor_64 ⟨Nat.le_of_ble_eq_true rfl, Nat.le_of_ble_eq_true rfl⟩ (fun H locs hP hS _ _ => ?_)
        have hP : va_P D clA ((o, .inr (0, [.int t, .ref a1, .int bl, .int (nI L), .int (nI (exS fb L 41 ((((rpS (-5) (nI (sk fb L σ.1)) ((sk fb L σ.1), σ.2)).1) + 1), (rpS (-5) (nI (sk fb L σ.1)) ((sk fb L σ.1), σ.2)).2)).1), .int ((exS fb L 41 ((((rpS (-5) (nI (sk fb L σ.1)) ((sk fb L σ.1), σ.2)).1) + 1), (rpS (-5) (nI (sk fb L σ.1)) ((sk fb L σ.1), σ.2)).2)).2.1), .int ((exS fb L 41 ((((rpS (-5) (nI (sk fb L σ.1)) ((sk fb L σ.1), σ.2)).1) + 1), (rpS (-5) (nI (sk fb L σ.1)) ((sk fb L σ.1), σ.2)).2)).2.2.1), .int eo, .ref a8, .ref a9, .ref a10, .int ud, .int (nI (exS fb L 41 ((((rpS (-5) (nI (sk fb L σ.1)) ((sk fb L σ.1), σ.2)).1) + 1), (rpS (-5) (nI (sk fb L σ.1)) ((sk fb L σ.1), σ.2)).2)).2.2.2), .int 5, .int se, .ref a15])) :: (a8, .inl (k 0, 1798, .inl d)) :: (a9, .inl (k 0, 1798, .inl dr)) :: (a1, .inl (k 0, 900, .inl fb)) :: wr) H := hP
        refine lv_aload_n hx hb dX5_factor_67 rfl (lv_at hl 1 rfl) ?_
        refine lv_dup hx hb dX5_factor_68 rfl ?_
        refine va_get hx hb hts in_X5 hown hK hP 0 rfl rfl 13 (by decide) (hts _ q1675) (fun _ h => h) rfl dX5_factor_69 ?_
        refine lv_iconst (v := 1) hx hb dX5_factor_72 rfl ?_
        refine lv_isub hx hb dX5_factor_73 ?_
        refine w_topi (y := 4) (by decide) ?_
        refine va_put hx hb hts in_X5 tyX5 tyX5_ok nmX5 hown hK hP (va_D_of hD rfl) hS 0 rfl rfl 13 (by decide) (hts _ q1675) (fun _ h => h) rfl rfl rfl rfl (Nat.le_of_ble_eq_true rfl) dX5_factor_74 (fun H locs hP _ hS => ?_)
        have hP : va_P D clA ((o, .inr (0, [.int t, .ref a1, .int bl, .int (nI L), .int (nI (exS fb L 41 ((((rpS (-5) (nI (sk fb L σ.1)) ((sk fb L σ.1), σ.2)).1) + 1), (rpS (-5) (nI (sk fb L σ.1)) ((sk fb L σ.1), σ.2)).2)).1), .int ((exS fb L 41 ((((rpS (-5) (nI (sk fb L σ.1)) ((sk fb L σ.1), σ.2)).1) + 1), (rpS (-5) (nI (sk fb L σ.1)) ((sk fb L σ.1), σ.2)).2)).2.1), .int ((exS fb L 41 ((((rpS (-5) (nI (sk fb L σ.1)) ((sk fb L σ.1), σ.2)).1) + 1), (rpS (-5) (nI (sk fb L σ.1)) ((sk fb L σ.1), σ.2)).2)).2.2.1), .int eo, .ref a8, .ref a9, .ref a10, .int ud, .int (nI (exS fb L 41 ((((rpS (-5) (nI (sk fb L σ.1)) ((sk fb L σ.1), σ.2)).1) + 1), (rpS (-5) (nI (sk fb L σ.1)) ((sk fb L σ.1), σ.2)).2)).2.2.2), .int 4, .int se, .ref a15])) :: (a8, .inl (k 0, 1798, .inl d)) :: (a9, .inl (k 0, 1798, .inl dr)) :: (a1, .inl (k 0, 900, .inl fb)) :: wr) H := hP
        exact w_vret C (by simp only [px, ifp_t b_4, ifp_t c_16, ifp_T]; simp only [exS, ifp_f (show ¬ (rpS (-5) (nI (sk fb L σ.1)) ((sk fb L σ.1), σ.2)).2.1 = 0 from rp_err (by decide))] at hP; simp only [rpS, ifp_t b_4] at hP; exact hP) hS dX5_factor_77
  · have b_4 := bI_0.mp c_4
    exact w_vret C (by rw [px_bad b_4]; exact hP) hS dX5_factor_7
set_option maxHeartbeats 16000000 in
theorem m_term_4 (l : Launch) (D : va_G) (k : Nat → ClassId) (o a1 a8 a9 a10 a15 : Nat) (t bl eo ud se : Int32) (wr : va_W) (d dr fb : Nat → Int32) (L : Nat) (hL : L ≤ 900) (σ : PS) (A : Nat → Prop) (hD : va_D A ((o, .inr (0, [.int t, .ref a1, .int bl, .int (nI L), .int (nI σ.1), .int σ.2.1, .int σ.2.2.1, .int eo, .ref a8, .ref a9, .ref a10, .int ud, .int (nI σ.2.2.2), .int 4, .int se, .ref a15])) :: (a8, .inl (k 0, 1798, .inl d)) :: (a9, .inl (k 0, 1798, .inl dr)) :: (a1, .inl (k 0, 900, .inl fb)) :: wr)) (hok : okS L σ) (sA sV : Nat → Nat) (f : Nat) (hf : σ.2.1 = 0 → nee 1 (L - σ.1) ≤ f) (h5 : σ.2.1 = 0 → dr 5 = nI (dN dr 5) ∧ 2 * dN dr 5 + 3 * (L - σ.1) + 1 ≤ 3000) : xM l D k yX5_term cX5_term 2 none 6 130 [.ref o] ((o, .inr (0, [.int t, .ref a1, .int bl, .int (nI L), .int (nI σ.1), .int σ.2.1, .int σ.2.2.1, .int eo, .ref a8, .ref a9, .ref a10, .int ud, .int (nI σ.2.2.2), .int 4, .int se, .ref a15])) :: (a8, .inl (k 0, 1798, .inl d)) :: (a9, .inl (k 0, 1798, .inl dr)) :: (a1, .inl (k 0, 900, .inl fb)) :: wr) (MS A sA sV) (none) ((o, .inr (0, [.int t, .ref a1, .int bl, .int (nI L), .int (nI (px fb L f 1 4 σ).1.1), .int ((px fb L f 1 4 σ).1.2.1), .int ((px fb L f 1 4 σ).1.2.2.1), .int eo, .ref a8, .ref a9, .ref a10, .int ud, .int (nI (px fb L f 1 4 σ).1.2.2.2), .int 4, .int se, .ref a15])) :: (a8, .inl (k 0, 1798, .inl d)) :: (a9, .inl (k 0, 1798, .inl (emL dr (px fb L f 1 4 σ).2))) :: (a1, .inl (k 0, 900, .inl fb)) :: wr) A := by
  refine xM_of (by decide) (Nat.le_of_ble_eq_true rfl) ?_
  intro p e s m below meth c ls C hK hX hP hS hl
  obtain ⟨hE, hT⟩ := id hX
  obtain ⟨hx, hb, hr, hml, hown, hts, hlk⟩ := id C
  have hl : lv_has ls 2 [(0, .ref o)] := hl
  rcases Classical.em (σ.2.1 = 0) with hg0 | hg0
  · have hp0 := hok.1 hg0
    have hf := hf hg0
    obtain ⟨c1, c2⟩ := h5 hg0
    obtain ⟨f, rfl⟩ : ∃ g, f = g + 1 := ⟨f - 1, by have hf : 3 * (L - σ.1) + 2 ≤ f := hf; omega⟩
    have hf : 3 * (L - σ.1) + 2 ≤ f + 1 := hf
    have q0 := px_ok (fb := fb) hL f 0 4 σ hok (fun _ => by show 3 * (L - σ.1) + 1 ≤ f; omega)
    refine lv_aload_n hx hb dX5_term_0 rfl (lv_at hl 0 rfl) ?_
    refine x_callV (As := []) (rest := []) C (m_factor_4 l D k o a1 a8 a9 a10 a15 t bl eo ud se wr d dr fb L hL σ A (va_D_of hD rfl) hok sA sV f (fun _ => by show 3 * (L - σ.1) + 1 ≤ f; omega) h5) (cwV 0 hts (lw_V q1812 q1814 qs45 q76 q1815) rfl rfl rfl (by decide +kernel) ⟨Nat.le_of_ble_eq_true rfl, Nat.le_of_ble_eq_true rfl⟩) hK (va_recv hK hP (ci := 0) (q0 := 0) rfl rfl) mv2_MS hP (fun U hU hW => MS_to hX hS (fun _ h => h) U hU hW) hS (fun _ h => h) rfl hl.1 rfl (Nat.le_of_ble_eq_true rfl) dX5_term_1 ⟨Nat.le_of_ble_eq_true rfl, Nat.le_of_ble_eq_true rfl⟩ (fun H locs hP hS _ _ => ?_)
    have hP : va_P D clA ((o, .inr (0, [.int t, .ref a1, .int bl, .int (nI L), .int (nI (px fb L f 0 4 σ).1.1), .int ((px fb L f 0 4 σ).1.2.1), .int ((px fb L f 0 4 σ).1.2.2.1), .int eo, .ref a8, .ref a9, .ref a10, .int ud, .int (nI (px fb L f 0 4 σ).1.2.2.2), .int 4, .int se, .ref a15])) :: (a8, .inl (k 0, 1798, .inl d)) :: (a9, .inl (k 0, 1798, .inl (emL dr (px fb L f 0 4 σ).2))) :: (a1, .inl (k 0, 900, .inl fb)) :: wr) H := hP
    have loop_4 : ∀ (n : Nat) (τ : PS) (cs : List Int32), (okS L τ) → (τ.2.1 = 0 → 3 * (L - τ.1) + 1 ≤ n) → (τ.2.1 = 0 → 2 * (dN dr 5 + cs.length) + 3 * (L - τ.1) ≤ 3000) → ((px fb L n 3 4 τ).1 = (px fb L (f + 1) 1 4 σ).1) → (cs ++ (px fb L n 3 4 τ).2 = (px fb L (f + 1) 1 4 σ).2) → (1 ≤ n) → ∀ (H : Heap) (locs : List Loc), va_P D clA ((o, .inr (0, [.int t, .ref a1, .int bl, .int (nI L), .int (nI τ.1), .int τ.2.1, .int τ.2.2.1, .int eo, .ref a8, .ref a9, .ref a10, .int ud, .int (nI τ.2.2.2), .int 4, .int se, .ref a15])) :: (a8, .inl (k 0, 1798, .inl d)) :: (a9, .inl (k 0, 1798, .inl (emL dr cs))) :: (a1, .inl (k 0, 900, .inl fb)) :: wr) H → va_S A s.heap H locs → ∀ (ls : Array Slot), lv_has ls 2 [(0, .ref o)] → W p l e (Rm 6 130 0 0) s m ([.ref o] : List Value).toArray below meth c H locs 0 0 (MQ below (wQ D (none) ((o, .inr (0, [.int t, .ref a1, .int bl, .int (nI L), .int (nI (px fb L (f + 1) 1 4 σ).1.1), .int ((px fb L (f + 1) 1 4 σ).1.2.1), .int ((px fb L (f + 1) 1 4 σ).1.2.2.1), .int eo, .ref a8, .ref a9, .ref a10, .int ud, .int (nI (px fb L (f + 1) 1 4 σ).1.2.2.2), .int 4, .int se, .ref a15])) :: (a8, .inl (k 0, 1798, .inl d)) :: (a9, .inl (k 0, 1798, .inl (emL dr (px fb L (f + 1) 1 4 σ).2))) :: (a1, .inl (k 0, 900, .inl fb)) :: wr) A) ([.ref o] : List Value).toArray s 0 0 A) (F0 m 4 ls []) := by
      intro n
      induction n with
      | zero =>
        intro τ cs ok2 hf2 hr2 he1 he2 hn
        exact absurd hn (by omega)
      | succ n ih_4 =>
        intro τ cs ok2 hf2 hr2 he1 he2 hn H locs hP hS ls hl
        refine lv_aload_n hx hb dX5_term_4 rfl (lv_at hl 0 rfl) ?_
        refine r_callV (As := []) (rest := []) C (m_isGood l D k o τ.2.1 ([.int t, .ref a1, .int bl, .int (nI L), .int (nI τ.1), .int τ.2.1, .int τ.2.2.1, .int eo, .ref a8, .ref a9, .ref a10, .int ud, .int (nI τ.2.2.2), .int 4, .int se, .ref a15] : List Value) rfl) (cwV 0 hts (lw_V q1731 q1733 qs32 q76 q1734) rfl rfl rfl (by decide +kernel) ⟨Nat.le_of_ble_eq_true rfl, Nat.le_of_ble_eq_true rfl⟩) hK (va_recv hK hP (ci := 0) (q0 := 0) rfl rfl) (hP.sub [0] rfl) rfl hl.1 rfl (Nat.le_of_ble_eq_true rfl) dX5_term_5 ⟨Nat.le_of_ble_eq_true rfl, Nat.le_of_ble_eq_true rfl⟩ ?_
        refine lv_if_eq (tgt := 74) hx hb dX5_term_8 (by decide) (fun c_8 => ?_) (fun c_8 => ?_)
        · have b_8 := bI_0.mp c_8
          exact w_vret C (by rw [px_bad b_8] at he1 he2; rw [List.append_nil] at he2; rw [← he1, ← he2]; exact hP) hS dX5_term_74
        · have b_8 := bI_nz c_8
          have hp := ok2.1 b_8
          have hs := sk_in (fb := fb) hp
          have hf2 := hf2 b_8
          have hr2 := hr2 b_8
          obtain ⟨d1, d2⟩ := room5 c1 hr2
          have hss : sk fb L (sk fb L τ.1) = sk fb L τ.1 := sk_sk hp
          refine lv_aload_n hx hb dX5_term_11 rfl (lv_at hl 0 rfl) ?_
          refine w_callV (As := []) (rest := []) C (m_next l D k o a1 a8 a9 a10 a15 t bl τ.2.1 τ.2.2.1 eo ud (nI τ.2.2.2) 4 se wr d (emL dr cs) fb L hL τ.1 A (va_D_of hD rfl) hp) (cwV 0 hts (lw_V q1735 q1737 qs33 q76 q1738) rfl rfl rfl (by decide +kernel) ⟨Nat.le_of_ble_eq_true rfl, Nat.le_of_ble_eq_true rfl⟩) hK (va_recv hK hP (ci := 0) (q0 := 0) rfl rfl) hP hS (fun _ h => h) rfl hl.1 rfl (Nat.le_of_ble_eq_true rfl) dX5_term_12 ⟨Nat.le_of_ble_eq_true rfl, Nat.le_of_ble_eq_true rfl⟩ (fun H locs hP hS _ _ => ?_)
          have hP : va_P D clA ((o, .inr (0, [.int t, .ref a1, .int bl, .int (nI L), .int (nI (sk fb L τ.1)), .int τ.2.1, .int τ.2.2.1, .int eo, .ref a8, .ref a9, .ref a10, .int ud, .int (nI τ.2.2.2), .int 4, .int se, .ref a15])) :: (a8, .inl (k 0, 1798, .inl d)) :: (a9, .inl (k 0, 1798, .inl (emL dr cs))) :: (a1, .inl (k 0, 900, .inl fb)) :: wr) H := hP
          refine lv_bipush (v := 42) hx hb dX5_term_15 rfl ?_
          refine lv_icmp_eq (tgt := 29) hx hb dX5_term_17 (by decide) (fun c_17 => ?_) (fun c_17 => ?_)
          · have ho : byt fb L (sk fb L τ.1) = 42 ∨ byt fb L (sk fb L τ.1) = 47 := Or.inl c_17
            have hlt : sk fb L τ.1 < L := ho.elim (fun e => byt_lt e (by decide)) (fun e => byt_lt e (by decide))
            have ok3 : okS L (sk fb L τ.1 + 1, τ.2) := ho.elim (fun e => okS_s1 hL ok2 e (by decide)) (fun e => okS_s1 hL ok2 e (by decide))
            have q := px_ok (fb := fb) hL n 0 4 (sk fb L τ.1 + 1, τ.2) ok3 (fun _ => by show 3 * (L - (sk fb L τ.1 + 1)) + 1 ≤ n; omega)
            refine lv_aload_n hx hb dX5_term_29 rfl (lv_at hl 0 rfl) ?_
            refine w_callV (As := []) (rest := []) C (m_next l D k o a1 a8 a9 a10 a15 t bl τ.2.1 τ.2.2.1 eo ud (nI τ.2.2.2) 4 se wr d (emL dr cs) fb L hL (sk fb L τ.1) A (va_D_of hD rfl) hs.2) (cwV 0 hts (lw_V q1735 q1737 qs33 q76 q1738) rfl rfl rfl (by decide +kernel) ⟨Nat.le_of_ble_eq_true rfl, Nat.le_of_ble_eq_true rfl⟩) hK (va_recv hK hP (ci := 0) (q0 := 0) rfl rfl) hP hS (fun _ h => h) rfl hl.1 rfl (Nat.le_of_ble_eq_true rfl) dX5_term_30 ⟨Nat.le_of_ble_eq_true rfl, Nat.le_of_ble_eq_true rfl⟩ (fun H locs hP hS _ _ => ?_)
            rw [hss] at hP
            rw [hss]
            have hP : va_P D clA ((o, .inr (0, [.int t, .ref a1, .int bl, .int (nI L), .int (nI (sk fb L τ.1)), .int τ.2.1, .int τ.2.2.1, .int eo, .ref a8, .ref a9, .ref a10, .int ud, .int (nI τ.2.2.2), .int 4, .int se, .ref a15])) :: (a8, .inl (k 0, 1798, .inl d)) :: (a9, .inl (k 0, 1798, .inl (emL dr cs))) :: (a1, .inl (k 0, 900, .inl fb)) :: wr) H := hP
            refine lv_bipush (v := 42) hx hb dX5_term_33 rfl ?_
            refine lv_icmp_ne (tgt := 42) hx hb dX5_term_35 (by decide) (fun c_35 => ?_) (fun c_35 => ?_)
            · exact absurd c_17 c_35
            · refine lv_iconst (v := 1) hx hb dX5_term_38 rfl ?_
              refine lv_goto (tgt := 43) hx hb dX5_term_39 (by decide) ?_
              refine lv_istore_n (lv' := [(1, .int 1), (0, .ref o)]) hx hb dX5_term_43 rfl hl (by decide) rfl (fun ls hl => ?_)
              refine lv_aload_n hx hb dX5_term_44 rfl (lv_at hl 1 rfl) ?_
              refine lv_dup hx hb dX5_term_45 rfl ?_
              refine va_get hx hb hts in_X5 hown hK hP 0 rfl rfl 4 (by decide) (hts _ q1666) (fun _ h => h) rfl dX5_term_46 ?_
              refine lv_iconst (v := 1) hx hb dX5_term_49 rfl ?_
              refine lv_iadd hx hb dX5_term_50 ?_
              refine w_topi (y := nI ((sk fb L τ.1) + 1)) (nI_add (sk fb L τ.1) 1) ?_
              refine va_put hx hb hts in_X5 tyX5 tyX5_ok nmX5 hown hK hP (va_D_of hD rfl) hS 0 rfl rfl 4 (by decide) (hts _ q1666) (fun _ h => h) rfl rfl rfl rfl (Nat.le_of_ble_eq_true rfl) dX5_term_51 (fun H locs hP _ hS => ?_)
              have hP : va_P D clA ((o, .inr (0, [.int t, .ref a1, .int bl, .int (nI L), .int (nI ((sk fb L τ.1) + 1)), .int τ.2.1, .int τ.2.2.1, .int eo, .ref a8, .ref a9, .ref a10, .int ud, .int (nI τ.2.2.2), .int 4, .int se, .ref a15])) :: (a8, .inl (k 0, 1798, .inl d)) :: (a9, .inl (k 0, 1798, .inl (emL dr cs))) :: (a1, .inl (k 0, 900, .inl fb)) :: wr) H := hP
              refine lv_aload_n hx hb dX5_term_54 rfl (lv_at hl 1 rfl) ?_
              refine x_callV (As := []) (rest := []) C (m_factor_4 l D k o a1 a8 a9 a10 a15 t bl eo ud se wr d (emL dr cs) fb L hL (((sk fb L τ.1) + 1), τ.2) A (va_D_of hD rfl) ok3 sA sV n (fun _ => by show 3 * (L - (sk fb L τ.1 + 1)) + 1 ≤ n; omega) (fun _ => ⟨d1, by show 2 * dN (emL dr cs) 5 + 3 * (L - (sk fb L τ.1 + 1)) + 1 ≤ 3000; omega⟩)) (cwV 0 hts (lw_V q1812 q1814 qs45 q76 q1815) rfl rfl rfl (by decide +kernel) ⟨Nat.le_of_ble_eq_true rfl, Nat.le_of_ble_eq_true rfl⟩) hK (va_recv hK hP (ci := 0) (q0 := 0) rfl rfl) mv2_MS hP (fun U hU hW => MS_to hX hS (fun _ h => h) U hU hW) hS (fun _ h => h) rfl hl.1 rfl (Nat.le_of_ble_eq_true rfl) dX5_term_55 ⟨Nat.le_of_ble_eq_true rfl, Nat.le_of_ble_eq_true rfl⟩ (fun H locs hP hS _ _ => ?_)
              have hP : va_P D clA ((o, .inr (0, [.int t, .ref a1, .int bl, .int (nI L), .int (nI (px fb L n 0 4 (((sk fb L τ.1) + 1), τ.2)).1.1), .int ((px fb L n 0 4 (((sk fb L τ.1) + 1), τ.2)).1.2.1), .int ((px fb L n 0 4 (((sk fb L τ.1) + 1), τ.2)).1.2.2.1), .int eo, .ref a8, .ref a9, .ref a10, .int ud, .int (nI (px fb L n 0 4 (((sk fb L τ.1) + 1), τ.2)).1.2.2.2), .int 4, .int se, .ref a15])) :: (a8, .inl (k 0, 1798, .inl d)) :: (a9, .inl (k 0, 1798, .inl (emL (emL dr cs) (px fb L n 0 4 (((sk fb L τ.1) + 1), τ.2)).2))) :: (a1, .inl (k 0, 900, .inl fb)) :: wr) H := hP
              refine lv_aload_n hx hb dX5_term_58 rfl (lv_at hl 1 rfl) ?_
              refine lv_iload_n hx hb dX5_term_59 rfl (lv_at hl 0 rfl) ?_
              refine lv_if_eq (tgt := 67) hx hb dX5_term_60 (by decide) (fun c_60 => ?_) (fun c_60 => ?_)
              · exact absurd c_60 (by decide)
              · refine lv_iconst (v := 4) hx hb dX5_term_63 rfl ?_
                refine lv_goto (tgt := 68) hx hb dX5_term_64 (by decide) ?_
                refine w_callV (As := [.int 4]) (rest := []) C (m_emit l D k o a1 a8 a9 a10 a15 t bl eo ud 4 se wr d (emL (emL dr cs) (px fb L n 0 4 (((sk fb L τ.1) + 1), τ.2)).2) fb L hL ((px fb L n 0 4 (((sk fb L τ.1) + 1), τ.2)).1) A (va_D_of hD rfl) q.1 4 (fun z => by obtain ⟨-, z2, z3, z4⟩ := q.2 z; have z2 : sk fb L τ.1 + 1 + 1 ≤ _ := z2; have z4 : _ ≤ 3 * (L - (sk fb L τ.1 + 1)) + 1 := z4; obtain ⟨y1, y2⟩ := emL_n (dr := emL dr cs) (px fb L n 0 4 (sk fb L τ.1 + 1, τ.2)).2 d1 (by omega); exact ⟨y1, by omega⟩)) (cwV 1 hts (lw_V q1823 q1825 qs47 q76 q1826) rfl rfl rfl (by decide +kernel) ⟨Nat.le_of_ble_eq_true rfl, Nat.le_of_ble_eq_true rfl⟩) hK (va_recv hK hP (ci := 0) (q0 := 0) rfl rfl) hP hS (fun _ h => h) rfl hl.1 rfl (Nat.le_of_ble_eq_true rfl) dX5_term_68 ⟨Nat.le_of_ble_eq_true rfl, Nat.le_of_ble_eq_true rfl⟩ (fun H locs hP hS _ _ => ?_)
                have hP : va_P D clA ((o, .inr (0, [.int t, .ref a1, .int bl, .int (nI L), .int (nI (px fb L n 0 4 (((sk fb L τ.1) + 1), τ.2)).1.1), .int ((px fb L n 0 4 (((sk fb L τ.1) + 1), τ.2)).1.2.1), .int ((px fb L n 0 4 (((sk fb L τ.1) + 1), τ.2)).1.2.2.1), .int eo, .ref a8, .ref a9, .ref a10, .int ud, .int (nI (px fb L n 0 4 (((sk fb L τ.1) + 1), τ.2)).1.2.2.2), .int 4, .int se, .ref a15])) :: (a8, .inl (k 0, 1798, .inl d)) :: (a9, .inl (k 0, 1798, .inl (emS (emL (emL dr cs) (px fb L n 0 4 (((sk fb L τ.1) + 1), τ.2)).2) 4 ((px fb L n 0 4 (((sk fb L τ.1) + 1), τ.2)).1)))) :: (a1, .inl (k 0, 900, .inl fb)) :: wr) H := hP
                refine lv_goto (tgt := 4) hx hb dX5_term_71 (by decide) ?_
                have hP : va_P D clA ((o, .inr (0, [.int t, .ref a1, .int bl, .int (nI L), .int (nI (px fb L n 0 4 (((sk fb L τ.1) + 1), τ.2)).1.1), .int ((px fb L n 0 4 (((sk fb L τ.1) + 1), τ.2)).1.2.1), .int ((px fb L n 0 4 (((sk fb L τ.1) + 1), τ.2)).1.2.2.1), .int eo, .ref a8, .ref a9, .ref a10, .int ud, .int (nI (px fb L n 0 4 (((sk fb L τ.1) + 1), τ.2)).1.2.2.2), .int 4, .int se, .ref a15])) :: (a8, .inl (k 0, 1798, .inl d)) :: (a9, .inl (k 0, 1798, .inl (emL dr (cs ++ ((px fb L n 0 4 (sk fb L τ.1 + 1, τ.2)).2 ++ ifp ((px fb L n 0 4 (sk fb L τ.1 + 1, τ.2)).1.2.1 = 0) [4] []))))) :: (a1, .inl (k 0, 900, .inl fb)) :: wr) H := by rw [emL_app, emL_app, ← emS_L]; exact hP
                simp only [px, ifp_t b_8, ifp_t ho, ifp_t c_17] at he1 he2
                exact ih_4 (px fb L n 0 4 (sk fb L τ.1 + 1, τ.2)).1 (cs ++ ((px fb L n 0 4 (sk fb L τ.1 + 1, τ.2)).2 ++ ifp ((px fb L n 0 4 (sk fb L τ.1 + 1, τ.2)).1.2.1 = 0) [4] [])) q.1 (fun z => by have z2 : sk fb L τ.1 + 1 + 1 ≤ _ := (q.2 z).2.1; show 3 * (L - (px fb L n 0 4 (sk fb L τ.1 + 1, τ.2)).1.1) + 1 ≤ n; omega) (fun z => by obtain ⟨-, z2, z3, z4⟩ := q.2 z; have z2 : sk fb L τ.1 + 1 + 1 ≤ _ := z2; have z4 : _ ≤ 3 * (L - (sk fb L τ.1 + 1)) + 1 := z4; rw [ifp_t z, List.length_append, List.length_append]; simp only [List.length_cons, List.length_nil]; omega) he1 (by rw [List.append_assoc]; exact he2) (by omega) _ _ hP hS ls (lv_sub hl [1] rfl)
          · refine lv_aload_n hx hb dX5_term_20 rfl (lv_at hl 0 rfl) ?_
            refine w_callV (As := []) (rest := []) C (m_next l D k o a1 a8 a9 a10 a15 t bl τ.2.1 τ.2.2.1 eo ud (nI τ.2.2.2) 4 se wr d (emL dr cs) fb L hL (sk fb L τ.1) A (va_D_of hD rfl) hs.2) (cwV 0 hts (lw_V q1735 q1737 qs33 q76 q1738) rfl rfl rfl (by decide +kernel) ⟨Nat.le_of_ble_eq_true rfl, Nat.le_of_ble_eq_true rfl⟩) hK (va_recv hK hP (ci := 0) (q0 := 0) rfl rfl) hP hS (fun _ h => h) rfl hl.1 rfl (Nat.le_of_ble_eq_true rfl) dX5_term_21 ⟨Nat.le_of_ble_eq_true rfl, Nat.le_of_ble_eq_true rfl⟩ (fun H locs hP hS _ _ => ?_)
            rw [hss] at hP
            rw [hss]
            have hP : va_P D clA ((o, .inr (0, [.int t, .ref a1, .int bl, .int (nI L), .int (nI (sk fb L τ.1)), .int τ.2.1, .int τ.2.2.1, .int eo, .ref a8, .ref a9, .ref a10, .int ud, .int (nI τ.2.2.2), .int 4, .int se, .ref a15])) :: (a8, .inl (k 0, 1798, .inl d)) :: (a9, .inl (k 0, 1798, .inl (emL dr cs))) :: (a1, .inl (k 0, 900, .inl fb)) :: wr) H := hP
            refine lv_bipush (v := 47) hx hb dX5_term_24 rfl ?_
            refine lv_icmp_ne (tgt := 74) hx hb dX5_term_26 (by decide) (fun c_26 => ?_) (fun c_26 => ?_)
            · exact w_vret C (by simp only [px, ifp_t b_8, ifp_f (show ¬ (byt fb L (sk fb L τ.1) = 42 ∨ byt fb L (sk fb L τ.1) = 47) from fun h => h.elim c_17 c_26)] at he1 he2; rw [List.append_nil] at he2; have e1 : (sk fb L τ.1, τ.2) = (px fb L (f + 1) 1 4 σ).1 := he1; have e2 : cs = (px fb L (f + 1) 1 4 σ).2 := he2; rw [← e1, ← e2]; exact hP) hS dX5_term_74
            · have ho : byt fb L (sk fb L τ.1) = 42 ∨ byt fb L (sk fb L τ.1) = 47 := Or.inr c_26
              have hlt : sk fb L τ.1 < L := ho.elim (fun e => byt_lt e (by decide)) (fun e => byt_lt e (by decide))
              have ok3 : okS L (sk fb L τ.1 + 1, τ.2) := ho.elim (fun e => okS_s1 hL ok2 e (by decide)) (fun e => okS_s1 hL ok2 e (by decide))
              have q := px_ok (fb := fb) hL n 0 4 (sk fb L τ.1 + 1, τ.2) ok3 (fun _ => by show 3 * (L - (sk fb L τ.1 + 1)) + 1 ≤ n; omega)
              refine lv_aload_n hx hb dX5_term_29 rfl (lv_at hl 0 rfl) ?_
              refine w_callV (As := []) (rest := []) C (m_next l D k o a1 a8 a9 a10 a15 t bl τ.2.1 τ.2.2.1 eo ud (nI τ.2.2.2) 4 se wr d (emL dr cs) fb L hL (sk fb L τ.1) A (va_D_of hD rfl) hs.2) (cwV 0 hts (lw_V q1735 q1737 qs33 q76 q1738) rfl rfl rfl (by decide +kernel) ⟨Nat.le_of_ble_eq_true rfl, Nat.le_of_ble_eq_true rfl⟩) hK (va_recv hK hP (ci := 0) (q0 := 0) rfl rfl) hP hS (fun _ h => h) rfl hl.1 rfl (Nat.le_of_ble_eq_true rfl) dX5_term_30 ⟨Nat.le_of_ble_eq_true rfl, Nat.le_of_ble_eq_true rfl⟩ (fun H locs hP hS _ _ => ?_)
              rw [hss] at hP
              rw [hss]
              have hP : va_P D clA ((o, .inr (0, [.int t, .ref a1, .int bl, .int (nI L), .int (nI (sk fb L τ.1)), .int τ.2.1, .int τ.2.2.1, .int eo, .ref a8, .ref a9, .ref a10, .int ud, .int (nI τ.2.2.2), .int 4, .int se, .ref a15])) :: (a8, .inl (k 0, 1798, .inl d)) :: (a9, .inl (k 0, 1798, .inl (emL dr cs))) :: (a1, .inl (k 0, 900, .inl fb)) :: wr) H := hP
              refine lv_bipush (v := 42) hx hb dX5_term_33 rfl ?_
              refine lv_icmp_ne (tgt := 42) hx hb dX5_term_35 (by decide) (fun c_35 => ?_) (fun c_35 => ?_)
              · refine lv_iconst (v := 0) hx hb dX5_term_42 rfl ?_
                refine lv_istore_n (lv' := [(1, .int 0), (0, .ref o)]) hx hb dX5_term_43 rfl hl (by decide) rfl (fun ls hl => ?_)
                refine lv_aload_n hx hb dX5_term_44 rfl (lv_at hl 1 rfl) ?_
                refine lv_dup hx hb dX5_term_45 rfl ?_
                refine va_get hx hb hts in_X5 hown hK hP 0 rfl rfl 4 (by decide) (hts _ q1666) (fun _ h => h) rfl dX5_term_46 ?_
                refine lv_iconst (v := 1) hx hb dX5_term_49 rfl ?_
                refine lv_iadd hx hb dX5_term_50 ?_
                refine w_topi (y := nI ((sk fb L τ.1) + 1)) (nI_add (sk fb L τ.1) 1) ?_
                refine va_put hx hb hts in_X5 tyX5 tyX5_ok nmX5 hown hK hP (va_D_of hD rfl) hS 0 rfl rfl 4 (by decide) (hts _ q1666) (fun _ h => h) rfl rfl rfl rfl (Nat.le_of_ble_eq_true rfl) dX5_term_51 (fun H locs hP _ hS => ?_)
                have hP : va_P D clA ((o, .inr (0, [.int t, .ref a1, .int bl, .int (nI L), .int (nI ((sk fb L τ.1) + 1)), .int τ.2.1, .int τ.2.2.1, .int eo, .ref a8, .ref a9, .ref a10, .int ud, .int (nI τ.2.2.2), .int 4, .int se, .ref a15])) :: (a8, .inl (k 0, 1798, .inl d)) :: (a9, .inl (k 0, 1798, .inl (emL dr cs))) :: (a1, .inl (k 0, 900, .inl fb)) :: wr) H := hP
                refine lv_aload_n hx hb dX5_term_54 rfl (lv_at hl 1 rfl) ?_
                refine x_callV (As := []) (rest := []) C (m_factor_4 l D k o a1 a8 a9 a10 a15 t bl eo ud se wr d (emL dr cs) fb L hL (((sk fb L τ.1) + 1), τ.2) A (va_D_of hD rfl) ok3 sA sV n (fun _ => by show 3 * (L - (sk fb L τ.1 + 1)) + 1 ≤ n; omega) (fun _ => ⟨d1, by show 2 * dN (emL dr cs) 5 + 3 * (L - (sk fb L τ.1 + 1)) + 1 ≤ 3000; omega⟩)) (cwV 0 hts (lw_V q1812 q1814 qs45 q76 q1815) rfl rfl rfl (by decide +kernel) ⟨Nat.le_of_ble_eq_true rfl, Nat.le_of_ble_eq_true rfl⟩) hK (va_recv hK hP (ci := 0) (q0 := 0) rfl rfl) mv2_MS hP (fun U hU hW => MS_to hX hS (fun _ h => h) U hU hW) hS (fun _ h => h) rfl hl.1 rfl (Nat.le_of_ble_eq_true rfl) dX5_term_55 ⟨Nat.le_of_ble_eq_true rfl, Nat.le_of_ble_eq_true rfl⟩ (fun H locs hP hS _ _ => ?_)
                have hP : va_P D clA ((o, .inr (0, [.int t, .ref a1, .int bl, .int (nI L), .int (nI (px fb L n 0 4 (((sk fb L τ.1) + 1), τ.2)).1.1), .int ((px fb L n 0 4 (((sk fb L τ.1) + 1), τ.2)).1.2.1), .int ((px fb L n 0 4 (((sk fb L τ.1) + 1), τ.2)).1.2.2.1), .int eo, .ref a8, .ref a9, .ref a10, .int ud, .int (nI (px fb L n 0 4 (((sk fb L τ.1) + 1), τ.2)).1.2.2.2), .int 4, .int se, .ref a15])) :: (a8, .inl (k 0, 1798, .inl d)) :: (a9, .inl (k 0, 1798, .inl (emL (emL dr cs) (px fb L n 0 4 (((sk fb L τ.1) + 1), τ.2)).2))) :: (a1, .inl (k 0, 900, .inl fb)) :: wr) H := hP
                refine lv_aload_n hx hb dX5_term_58 rfl (lv_at hl 1 rfl) ?_
                refine lv_iload_n hx hb dX5_term_59 rfl (lv_at hl 0 rfl) ?_
                refine lv_if_eq (tgt := 67) hx hb dX5_term_60 (by decide) (fun c_60 => ?_) (fun c_60 => ?_)
                · refine lv_iconst (v := 5) hx hb dX5_term_67 rfl ?_
                  refine w_callV (As := [.int 5]) (rest := []) C (m_emit l D k o a1 a8 a9 a10 a15 t bl eo ud 4 se wr d (emL (emL dr cs) (px fb L n 0 4 (((sk fb L τ.1) + 1), τ.2)).2) fb L hL ((px fb L n 0 4 (((sk fb L τ.1) + 1), τ.2)).1) A (va_D_of hD rfl) q.1 5 (fun z => by obtain ⟨-, z2, z3, z4⟩ := q.2 z; have z2 : sk fb L τ.1 + 1 + 1 ≤ _ := z2; have z4 : _ ≤ 3 * (L - (sk fb L τ.1 + 1)) + 1 := z4; obtain ⟨y1, y2⟩ := emL_n (dr := emL dr cs) (px fb L n 0 4 (sk fb L τ.1 + 1, τ.2)).2 d1 (by omega); exact ⟨y1, by omega⟩)) (cwV 1 hts (lw_V q1823 q1825 qs47 q76 q1826) rfl rfl rfl (by decide +kernel) ⟨Nat.le_of_ble_eq_true rfl, Nat.le_of_ble_eq_true rfl⟩) hK (va_recv hK hP (ci := 0) (q0 := 0) rfl rfl) hP hS (fun _ h => h) rfl hl.1 rfl (Nat.le_of_ble_eq_true rfl) dX5_term_68 ⟨Nat.le_of_ble_eq_true rfl, Nat.le_of_ble_eq_true rfl⟩ (fun H locs hP hS _ _ => ?_)
                  have hP : va_P D clA ((o, .inr (0, [.int t, .ref a1, .int bl, .int (nI L), .int (nI (px fb L n 0 4 (((sk fb L τ.1) + 1), τ.2)).1.1), .int ((px fb L n 0 4 (((sk fb L τ.1) + 1), τ.2)).1.2.1), .int ((px fb L n 0 4 (((sk fb L τ.1) + 1), τ.2)).1.2.2.1), .int eo, .ref a8, .ref a9, .ref a10, .int ud, .int (nI (px fb L n 0 4 (((sk fb L τ.1) + 1), τ.2)).1.2.2.2), .int 4, .int se, .ref a15])) :: (a8, .inl (k 0, 1798, .inl d)) :: (a9, .inl (k 0, 1798, .inl (emS (emL (emL dr cs) (px fb L n 0 4 (((sk fb L τ.1) + 1), τ.2)).2) 5 ((px fb L n 0 4 (((sk fb L τ.1) + 1), τ.2)).1)))) :: (a1, .inl (k 0, 900, .inl fb)) :: wr) H := hP
                  refine lv_goto (tgt := 4) hx hb dX5_term_71 (by decide) ?_
                  have hP : va_P D clA ((o, .inr (0, [.int t, .ref a1, .int bl, .int (nI L), .int (nI (px fb L n 0 4 (((sk fb L τ.1) + 1), τ.2)).1.1), .int ((px fb L n 0 4 (((sk fb L τ.1) + 1), τ.2)).1.2.1), .int ((px fb L n 0 4 (((sk fb L τ.1) + 1), τ.2)).1.2.2.1), .int eo, .ref a8, .ref a9, .ref a10, .int ud, .int (nI (px fb L n 0 4 (((sk fb L τ.1) + 1), τ.2)).1.2.2.2), .int 4, .int se, .ref a15])) :: (a8, .inl (k 0, 1798, .inl d)) :: (a9, .inl (k 0, 1798, .inl (emL dr (cs ++ ((px fb L n 0 4 (sk fb L τ.1 + 1, τ.2)).2 ++ ifp ((px fb L n 0 4 (sk fb L τ.1 + 1, τ.2)).1.2.1 = 0) [5] []))))) :: (a1, .inl (k 0, 900, .inl fb)) :: wr) H := by rw [emL_app, emL_app, ← emS_L]; exact hP
                  simp only [px, ifp_t b_8, ifp_t ho, ifp_f c_17] at he1 he2
                  exact ih_4 (px fb L n 0 4 (sk fb L τ.1 + 1, τ.2)).1 (cs ++ ((px fb L n 0 4 (sk fb L τ.1 + 1, τ.2)).2 ++ ifp ((px fb L n 0 4 (sk fb L τ.1 + 1, τ.2)).1.2.1 = 0) [5] [])) q.1 (fun z => by have z2 : sk fb L τ.1 + 1 + 1 ≤ _ := (q.2 z).2.1; show 3 * (L - (px fb L n 0 4 (sk fb L τ.1 + 1, τ.2)).1.1) + 1 ≤ n; omega) (fun z => by obtain ⟨-, z2, z3, z4⟩ := q.2 z; have z2 : sk fb L τ.1 + 1 + 1 ≤ _ := z2; have z4 : _ ≤ 3 * (L - (sk fb L τ.1 + 1)) + 1 := z4; rw [ifp_t z, List.length_append, List.length_append]; simp only [List.length_cons, List.length_nil]; omega) he1 (by rw [List.append_assoc]; exact he2) (by omega) _ _ hP hS ls (lv_sub hl [1] rfl)
                · exact absurd c_60 (by decide)
              · exact absurd c_35 c_17
    exact loop_4 f (px fb L f 0 4 σ).1 (px fb L f 0 4 σ).2 q0.1 (fun z => by have z2 : σ.1 + 1 ≤ _ := (q0.2 z).2.1; show 3 * (L - (px fb L f 0 4 σ).1.1) + 1 ≤ f; omega) (fun z => by have z2 : _ ≤ 3 * (L - σ.1) + 1 := (q0.2 z).2.2.2; omega) (by simp only [px]) (by simp only [px]) (by omega) _ _ hP hS ls (lv_sub hl [0] rfl)
  · skip
    refine lv_aload_n hx hb dX5_term_0 rfl (lv_at hl 0 rfl) ?_
    refine w_callV (As := []) (rest := []) C (m_factorE l D k o a1 a8 a9 a10 a15 t bl eo ud 4 se wr d dr fb L hL σ A (va_D_of hD rfl) hok hg0) (cwV 0 hts (lw_V q1812 q1814 qs45 q76 q1815) rfl rfl rfl (by decide +kernel) ⟨Nat.le_of_ble_eq_true rfl, Nat.le_of_ble_eq_true rfl⟩) hK (va_recv hK hP (ci := 0) (q0 := 0) rfl rfl) hP hS (fun _ h => h) rfl hl.1 rfl (Nat.le_of_ble_eq_true rfl) dX5_term_1 ⟨Nat.le_of_ble_eq_true rfl, Nat.le_of_ble_eq_true rfl⟩ (fun H locs hP hS _ _ => ?_)
    have hP : va_P D clA ((o, .inr (0, [.int t, .ref a1, .int bl, .int (nI L), .int (nI σ.1), .int σ.2.1, .int σ.2.2.1, .int eo, .ref a8, .ref a9, .ref a10, .int ud, .int (nI σ.2.2.2), .int 4, .int se, .ref a15])) :: (a8, .inl (k 0, 1798, .inl d)) :: (a9, .inl (k 0, 1798, .inl dr)) :: (a1, .inl (k 0, 900, .inl fb)) :: wr) H := hP
    refine lv_aload_n hx hb dX5_term_4 rfl (lv_at hl 0 rfl) ?_
    refine r_callV (As := []) (rest := []) C (m_isGood l D k o σ.2.1 ([.int t, .ref a1, .int bl, .int (nI L), .int (nI σ.1), .int σ.2.1, .int σ.2.2.1, .int eo, .ref a8, .ref a9, .ref a10, .int ud, .int (nI σ.2.2.2), .int 4, .int se, .ref a15] : List Value) rfl) (cwV 0 hts (lw_V q1731 q1733 qs32 q76 q1734) rfl rfl rfl (by decide +kernel) ⟨Nat.le_of_ble_eq_true rfl, Nat.le_of_ble_eq_true rfl⟩) hK (va_recv hK hP (ci := 0) (q0 := 0) rfl rfl) (hP.sub [0] rfl) rfl hl.1 rfl (Nat.le_of_ble_eq_true rfl) dX5_term_5 ⟨Nat.le_of_ble_eq_true rfl, Nat.le_of_ble_eq_true rfl⟩ ?_
    refine lv_if_eq (tgt := 74) hx hb dX5_term_8 (by decide) (fun c_8 => ?_) (fun c_8 => ?_)
    · have b_8 := bI_0.mp c_8
      exact w_vret C (by rw [px_bad hg0]; exact hP) hS dX5_term_74
    · exact absurd (bI_nz c_8) hg0
set_option maxHeartbeats 16000000 in
theorem m_sum_4 (l : Launch) (D : va_G) (k : Nat → ClassId) (o a1 a8 a9 a10 a15 : Nat) (t bl eo ud se : Int32) (wr : va_W) (d dr fb : Nat → Int32) (L : Nat) (hL : L ≤ 900) (σ : PS) (A : Nat → Prop) (hD : va_D A ((o, .inr (0, [.int t, .ref a1, .int bl, .int (nI L), .int (nI σ.1), .int σ.2.1, .int σ.2.2.1, .int eo, .ref a8, .ref a9, .ref a10, .int ud, .int (nI σ.2.2.2), .int 4, .int se, .ref a15])) :: (a8, .inl (k 0, 1798, .inl d)) :: (a9, .inl (k 0, 1798, .inl dr)) :: (a1, .inl (k 0, 900, .inl fb)) :: wr)) (hok : okS L σ) (sA sV : Nat → Nat) (f : Nat) (hf : σ.2.1 = 0 → nee 2 (L - σ.1) ≤ f) (h5 : σ.2.1 = 0 → dr 5 = nI (dN dr 5) ∧ 2 * dN dr 5 + 3 * (L - σ.1) + 1 ≤ 3000) : xM l D k yX5_sum cX5_sum 2 none 7 151 [.ref o] ((o, .inr (0, [.int t, .ref a1, .int bl, .int (nI L), .int (nI σ.1), .int σ.2.1, .int σ.2.2.1, .int eo, .ref a8, .ref a9, .ref a10, .int ud, .int (nI σ.2.2.2), .int 4, .int se, .ref a15])) :: (a8, .inl (k 0, 1798, .inl d)) :: (a9, .inl (k 0, 1798, .inl dr)) :: (a1, .inl (k 0, 900, .inl fb)) :: wr) (MS A sA sV) (none) ((o, .inr (0, [.int t, .ref a1, .int bl, .int (nI L), .int (nI (px fb L f 2 4 σ).1.1), .int ((px fb L f 2 4 σ).1.2.1), .int ((px fb L f 2 4 σ).1.2.2.1), .int eo, .ref a8, .ref a9, .ref a10, .int ud, .int (nI (px fb L f 2 4 σ).1.2.2.2), .int 4, .int se, .ref a15])) :: (a8, .inl (k 0, 1798, .inl d)) :: (a9, .inl (k 0, 1798, .inl (emL dr (px fb L f 2 4 σ).2))) :: (a1, .inl (k 0, 900, .inl fb)) :: wr) A := by
  refine xM_of (by decide) (Nat.le_of_ble_eq_true rfl) ?_
  intro p e s m below meth c ls C hK hX hP hS hl
  obtain ⟨hE, hT⟩ := id hX
  obtain ⟨hx, hb, hr, hml, hown, hts, hlk⟩ := id C
  have hl : lv_has ls 2 [(0, .ref o)] := hl
  rcases Classical.em (σ.2.1 = 0) with hg0 | hg0
  · have hp0 := hok.1 hg0
    have hf := hf hg0
    obtain ⟨c1, c2⟩ := h5 hg0
    obtain ⟨f, rfl⟩ : ∃ g, f = g + 1 := ⟨f - 1, by have hf : 3 * (L - σ.1) + 3 ≤ f := hf; omega⟩
    have hf : 3 * (L - σ.1) + 3 ≤ f + 1 := hf
    have q0 := px_ok (fb := fb) hL f 1 4 σ hok (fun _ => by show 3 * (L - σ.1) + 2 ≤ f; omega)
    refine lv_aload_n hx hb dX5_sum_0 rfl (lv_at hl 0 rfl) ?_
    refine x_callV (As := []) (rest := []) C (m_term_4 l D k o a1 a8 a9 a10 a15 t bl eo ud se wr d dr fb L hL σ A (va_D_of hD rfl) hok sA sV f (fun _ => by show 3 * (L - σ.1) + 2 ≤ f; omega) h5) (cwV 0 hts (lw_V q1808 q1810 qs44 q76 q1811) rfl rfl rfl (by decide +kernel) ⟨Nat.le_of_ble_eq_true rfl, Nat.le_of_ble_eq_true rfl⟩) hK (va_recv hK hP (ci := 0) (q0 := 0) rfl rfl) mv2_MS hP (fun U hU hW => MS_to hX hS (fun _ h => h) U hU hW) hS (fun _ h => h) rfl hl.1 rfl (Nat.le_of_ble_eq_true rfl) dX5_sum_1 ⟨Nat.le_of_ble_eq_true rfl, Nat.le_of_ble_eq_true rfl⟩ (fun H locs hP hS _ _ => ?_)
    have hP : va_P D clA ((o, .inr (0, [.int t, .ref a1, .int bl, .int (nI L), .int (nI (px fb L f 1 4 σ).1.1), .int ((px fb L f 1 4 σ).1.2.1), .int ((px fb L f 1 4 σ).1.2.2.1), .int eo, .ref a8, .ref a9, .ref a10, .int ud, .int (nI (px fb L f 1 4 σ).1.2.2.2), .int 4, .int se, .ref a15])) :: (a8, .inl (k 0, 1798, .inl d)) :: (a9, .inl (k 0, 1798, .inl (emL dr (px fb L f 1 4 σ).2))) :: (a1, .inl (k 0, 900, .inl fb)) :: wr) H := hP
    have loop_4 : ∀ (n : Nat) (τ : PS) (cs : List Int32), (okS L τ) → (τ.2.1 = 0 → 3 * (L - τ.1) + 1 ≤ n) → (τ.2.1 = 0 → 2 * (dN dr 5 + cs.length) + 3 * (L - τ.1) ≤ 3000) → ((px fb L n 4 4 τ).1 = (px fb L (f + 1) 2 4 σ).1) → (cs ++ (px fb L n 4 4 τ).2 = (px fb L (f + 1) 2 4 σ).2) → (1 ≤ n) → ∀ (H : Heap) (locs : List Loc), va_P D clA ((o, .inr (0, [.int t, .ref a1, .int bl, .int (nI L), .int (nI τ.1), .int τ.2.1, .int τ.2.2.1, .int eo, .ref a8, .ref a9, .ref a10, .int ud, .int (nI τ.2.2.2), .int 4, .int se, .ref a15])) :: (a8, .inl (k 0, 1798, .inl d)) :: (a9, .inl (k 0, 1798, .inl (emL dr cs))) :: (a1, .inl (k 0, 900, .inl fb)) :: wr) H → va_S A s.heap H locs → ∀ (ls : Array Slot), lv_has ls 2 [(0, .ref o)] → W p l e (Rm 7 151 0 0) s m ([.ref o] : List Value).toArray below meth c H locs 0 0 (MQ below (wQ D (none) ((o, .inr (0, [.int t, .ref a1, .int bl, .int (nI L), .int (nI (px fb L (f + 1) 2 4 σ).1.1), .int ((px fb L (f + 1) 2 4 σ).1.2.1), .int ((px fb L (f + 1) 2 4 σ).1.2.2.1), .int eo, .ref a8, .ref a9, .ref a10, .int ud, .int (nI (px fb L (f + 1) 2 4 σ).1.2.2.2), .int 4, .int se, .ref a15])) :: (a8, .inl (k 0, 1798, .inl d)) :: (a9, .inl (k 0, 1798, .inl (emL dr (px fb L (f + 1) 2 4 σ).2))) :: (a1, .inl (k 0, 900, .inl fb)) :: wr) A) ([.ref o] : List Value).toArray s 0 0 A) (F0 m 4 ls []) := by
      intro n
      induction n with
      | zero =>
        intro τ cs ok2 hf2 hr2 he1 he2 hn
        exact absurd hn (by omega)
      | succ n ih_4 =>
        intro τ cs ok2 hf2 hr2 he1 he2 hn H locs hP hS ls hl
        refine lv_aload_n hx hb dX5_sum_4 rfl (lv_at hl 0 rfl) ?_
        refine r_callV (As := []) (rest := []) C (m_isGood l D k o τ.2.1 ([.int t, .ref a1, .int bl, .int (nI L), .int (nI τ.1), .int τ.2.1, .int τ.2.2.1, .int eo, .ref a8, .ref a9, .ref a10, .int ud, .int (nI τ.2.2.2), .int 4, .int se, .ref a15] : List Value) rfl) (cwV 0 hts (lw_V q1731 q1733 qs32 q76 q1734) rfl rfl rfl (by decide +kernel) ⟨Nat.le_of_ble_eq_true rfl, Nat.le_of_ble_eq_true rfl⟩) hK (va_recv hK hP (ci := 0) (q0 := 0) rfl rfl) (hP.sub [0] rfl) rfl hl.1 rfl (Nat.le_of_ble_eq_true rfl) dX5_sum_5 ⟨Nat.le_of_ble_eq_true rfl, Nat.le_of_ble_eq_true rfl⟩ ?_
        refine lv_if_eq (tgt := 74) hx hb dX5_sum_8 (by decide) (fun c_8 => ?_) (fun c_8 => ?_)
        · have b_8 := bI_0.mp c_8
          exact w_vret C (by rw [px_bad b_8] at he1 he2; rw [List.append_nil] at he2; rw [← he1, ← he2]; exact hP) hS dX5_sum_74
        · have b_8 := bI_nz c_8
          have hp := ok2.1 b_8
          have hs := sk_in (fb := fb) hp
          have hf2 := hf2 b_8
          have hr2 := hr2 b_8
          obtain ⟨d1, d2⟩ := room5 c1 hr2
          have hss : sk fb L (sk fb L τ.1) = sk fb L τ.1 := sk_sk hp
          refine lv_aload_n hx hb dX5_sum_11 rfl (lv_at hl 0 rfl) ?_
          refine w_callV (As := []) (rest := []) C (m_next l D k o a1 a8 a9 a10 a15 t bl τ.2.1 τ.2.2.1 eo ud (nI τ.2.2.2) 4 se wr d (emL dr cs) fb L hL τ.1 A (va_D_of hD rfl) hp) (cwV 0 hts (lw_V q1735 q1737 qs33 q76 q1738) rfl rfl rfl (by decide +kernel) ⟨Nat.le_of_ble_eq_true rfl, Nat.le_of_ble_eq_true rfl⟩) hK (va_recv hK hP (ci := 0) (q0 := 0) rfl rfl) hP hS (fun _ h => h) rfl hl.1 rfl (Nat.le_of_ble_eq_true rfl) dX5_sum_12 ⟨Nat.le_of_ble_eq_true rfl, Nat.le_of_ble_eq_true rfl⟩ (fun H locs hP hS _ _ => ?_)
          have hP : va_P D clA ((o, .inr (0, [.int t, .ref a1, .int bl, .int (nI L), .int (nI (sk fb L τ.1)), .int τ.2.1, .int τ.2.2.1, .int eo, .ref a8, .ref a9, .ref a10, .int ud, .int (nI τ.2.2.2), .int 4, .int se, .ref a15])) :: (a8, .inl (k 0, 1798, .inl d)) :: (a9, .inl (k 0, 1798, .inl (emL dr cs))) :: (a1, .inl (k 0, 900, .inl fb)) :: wr) H := hP
          refine lv_bipush (v := 43) hx hb dX5_sum_15 rfl ?_
          refine lv_icmp_eq (tgt := 29) hx hb dX5_sum_17 (by decide) (fun c_17 => ?_) (fun c_17 => ?_)
          · have ho : byt fb L (sk fb L τ.1) = 43 ∨ byt fb L (sk fb L τ.1) = 45 := Or.inl c_17
            have hlt : sk fb L τ.1 < L := ho.elim (fun e => byt_lt e (by decide)) (fun e => byt_lt e (by decide))
            have ok3 : okS L (sk fb L τ.1 + 1, τ.2) := ho.elim (fun e => okS_s1 hL ok2 e (by decide)) (fun e => okS_s1 hL ok2 e (by decide))
            have q := px_ok (fb := fb) hL n 1 4 (sk fb L τ.1 + 1, τ.2) ok3 (fun _ => by show 3 * (L - (sk fb L τ.1 + 1)) + 2 ≤ n; omega)
            refine lv_aload_n hx hb dX5_sum_29 rfl (lv_at hl 0 rfl) ?_
            refine w_callV (As := []) (rest := []) C (m_next l D k o a1 a8 a9 a10 a15 t bl τ.2.1 τ.2.2.1 eo ud (nI τ.2.2.2) 4 se wr d (emL dr cs) fb L hL (sk fb L τ.1) A (va_D_of hD rfl) hs.2) (cwV 0 hts (lw_V q1735 q1737 qs33 q76 q1738) rfl rfl rfl (by decide +kernel) ⟨Nat.le_of_ble_eq_true rfl, Nat.le_of_ble_eq_true rfl⟩) hK (va_recv hK hP (ci := 0) (q0 := 0) rfl rfl) hP hS (fun _ h => h) rfl hl.1 rfl (Nat.le_of_ble_eq_true rfl) dX5_sum_30 ⟨Nat.le_of_ble_eq_true rfl, Nat.le_of_ble_eq_true rfl⟩ (fun H locs hP hS _ _ => ?_)
            rw [hss] at hP
            rw [hss]
            have hP : va_P D clA ((o, .inr (0, [.int t, .ref a1, .int bl, .int (nI L), .int (nI (sk fb L τ.1)), .int τ.2.1, .int τ.2.2.1, .int eo, .ref a8, .ref a9, .ref a10, .int ud, .int (nI τ.2.2.2), .int 4, .int se, .ref a15])) :: (a8, .inl (k 0, 1798, .inl d)) :: (a9, .inl (k 0, 1798, .inl (emL dr cs))) :: (a1, .inl (k 0, 900, .inl fb)) :: wr) H := hP
            refine lv_bipush (v := 43) hx hb dX5_sum_33 rfl ?_
            refine lv_icmp_ne (tgt := 42) hx hb dX5_sum_35 (by decide) (fun c_35 => ?_) (fun c_35 => ?_)
            · exact absurd c_17 c_35
            · refine lv_iconst (v := 1) hx hb dX5_sum_38 rfl ?_
              refine lv_goto (tgt := 43) hx hb dX5_sum_39 (by decide) ?_
              refine lv_istore_n (lv' := [(1, .int 1), (0, .ref o)]) hx hb dX5_sum_43 rfl hl (by decide) rfl (fun ls hl => ?_)
              refine lv_aload_n hx hb dX5_sum_44 rfl (lv_at hl 1 rfl) ?_
              refine lv_dup hx hb dX5_sum_45 rfl ?_
              refine va_get hx hb hts in_X5 hown hK hP 0 rfl rfl 4 (by decide) (hts _ q1666) (fun _ h => h) rfl dX5_sum_46 ?_
              refine lv_iconst (v := 1) hx hb dX5_sum_49 rfl ?_
              refine lv_iadd hx hb dX5_sum_50 ?_
              refine w_topi (y := nI ((sk fb L τ.1) + 1)) (nI_add (sk fb L τ.1) 1) ?_
              refine va_put hx hb hts in_X5 tyX5 tyX5_ok nmX5 hown hK hP (va_D_of hD rfl) hS 0 rfl rfl 4 (by decide) (hts _ q1666) (fun _ h => h) rfl rfl rfl rfl (Nat.le_of_ble_eq_true rfl) dX5_sum_51 (fun H locs hP _ hS => ?_)
              have hP : va_P D clA ((o, .inr (0, [.int t, .ref a1, .int bl, .int (nI L), .int (nI ((sk fb L τ.1) + 1)), .int τ.2.1, .int τ.2.2.1, .int eo, .ref a8, .ref a9, .ref a10, .int ud, .int (nI τ.2.2.2), .int 4, .int se, .ref a15])) :: (a8, .inl (k 0, 1798, .inl d)) :: (a9, .inl (k 0, 1798, .inl (emL dr cs))) :: (a1, .inl (k 0, 900, .inl fb)) :: wr) H := hP
              refine lv_aload_n hx hb dX5_sum_54 rfl (lv_at hl 1 rfl) ?_
              refine x_callV (As := []) (rest := []) C (m_term_4 l D k o a1 a8 a9 a10 a15 t bl eo ud se wr d (emL dr cs) fb L hL (((sk fb L τ.1) + 1), τ.2) A (va_D_of hD rfl) ok3 sA sV n (fun _ => by show 3 * (L - (sk fb L τ.1 + 1)) + 2 ≤ n; omega) (fun _ => ⟨d1, by show 2 * dN (emL dr cs) 5 + 3 * (L - (sk fb L τ.1 + 1)) + 1 ≤ 3000; omega⟩)) (cwV 0 hts (lw_V q1808 q1810 qs44 q76 q1811) rfl rfl rfl (by decide +kernel) ⟨Nat.le_of_ble_eq_true rfl, Nat.le_of_ble_eq_true rfl⟩) hK (va_recv hK hP (ci := 0) (q0 := 0) rfl rfl) mv2_MS hP (fun U hU hW => MS_to hX hS (fun _ h => h) U hU hW) hS (fun _ h => h) rfl hl.1 rfl (Nat.le_of_ble_eq_true rfl) dX5_sum_55 ⟨Nat.le_of_ble_eq_true rfl, Nat.le_of_ble_eq_true rfl⟩ (fun H locs hP hS _ _ => ?_)
              have hP : va_P D clA ((o, .inr (0, [.int t, .ref a1, .int bl, .int (nI L), .int (nI (px fb L n 1 4 (((sk fb L τ.1) + 1), τ.2)).1.1), .int ((px fb L n 1 4 (((sk fb L τ.1) + 1), τ.2)).1.2.1), .int ((px fb L n 1 4 (((sk fb L τ.1) + 1), τ.2)).1.2.2.1), .int eo, .ref a8, .ref a9, .ref a10, .int ud, .int (nI (px fb L n 1 4 (((sk fb L τ.1) + 1), τ.2)).1.2.2.2), .int 4, .int se, .ref a15])) :: (a8, .inl (k 0, 1798, .inl d)) :: (a9, .inl (k 0, 1798, .inl (emL (emL dr cs) (px fb L n 1 4 (((sk fb L τ.1) + 1), τ.2)).2))) :: (a1, .inl (k 0, 900, .inl fb)) :: wr) H := hP
              refine lv_aload_n hx hb dX5_sum_58 rfl (lv_at hl 1 rfl) ?_
              refine lv_iload_n hx hb dX5_sum_59 rfl (lv_at hl 0 rfl) ?_
              refine lv_if_eq (tgt := 67) hx hb dX5_sum_60 (by decide) (fun c_60 => ?_) (fun c_60 => ?_)
              · exact absurd c_60 (by decide)
              · refine lv_iconst (v := 2) hx hb dX5_sum_63 rfl ?_
                refine lv_goto (tgt := 68) hx hb dX5_sum_64 (by decide) ?_
                refine w_callV (As := [.int 2]) (rest := []) C (m_emit l D k o a1 a8 a9 a10 a15 t bl eo ud 4 se wr d (emL (emL dr cs) (px fb L n 1 4 (((sk fb L τ.1) + 1), τ.2)).2) fb L hL ((px fb L n 1 4 (((sk fb L τ.1) + 1), τ.2)).1) A (va_D_of hD rfl) q.1 2 (fun z => by obtain ⟨-, z2, z3, z4⟩ := q.2 z; have z2 : sk fb L τ.1 + 1 + 1 ≤ _ := z2; have z4 : _ ≤ 3 * (L - (sk fb L τ.1 + 1)) + 1 := z4; obtain ⟨y1, y2⟩ := emL_n (dr := emL dr cs) (px fb L n 1 4 (sk fb L τ.1 + 1, τ.2)).2 d1 (by omega); exact ⟨y1, by omega⟩)) (cwV 1 hts (lw_V q1823 q1825 qs47 q76 q1826) rfl rfl rfl (by decide +kernel) ⟨Nat.le_of_ble_eq_true rfl, Nat.le_of_ble_eq_true rfl⟩) hK (va_recv hK hP (ci := 0) (q0 := 0) rfl rfl) hP hS (fun _ h => h) rfl hl.1 rfl (Nat.le_of_ble_eq_true rfl) dX5_sum_68 ⟨Nat.le_of_ble_eq_true rfl, Nat.le_of_ble_eq_true rfl⟩ (fun H locs hP hS _ _ => ?_)
                have hP : va_P D clA ((o, .inr (0, [.int t, .ref a1, .int bl, .int (nI L), .int (nI (px fb L n 1 4 (((sk fb L τ.1) + 1), τ.2)).1.1), .int ((px fb L n 1 4 (((sk fb L τ.1) + 1), τ.2)).1.2.1), .int ((px fb L n 1 4 (((sk fb L τ.1) + 1), τ.2)).1.2.2.1), .int eo, .ref a8, .ref a9, .ref a10, .int ud, .int (nI (px fb L n 1 4 (((sk fb L τ.1) + 1), τ.2)).1.2.2.2), .int 4, .int se, .ref a15])) :: (a8, .inl (k 0, 1798, .inl d)) :: (a9, .inl (k 0, 1798, .inl (emS (emL (emL dr cs) (px fb L n 1 4 (((sk fb L τ.1) + 1), τ.2)).2) 2 ((px fb L n 1 4 (((sk fb L τ.1) + 1), τ.2)).1)))) :: (a1, .inl (k 0, 900, .inl fb)) :: wr) H := hP
                refine lv_goto (tgt := 4) hx hb dX5_sum_71 (by decide) ?_
                have hP : va_P D clA ((o, .inr (0, [.int t, .ref a1, .int bl, .int (nI L), .int (nI (px fb L n 1 4 (((sk fb L τ.1) + 1), τ.2)).1.1), .int ((px fb L n 1 4 (((sk fb L τ.1) + 1), τ.2)).1.2.1), .int ((px fb L n 1 4 (((sk fb L τ.1) + 1), τ.2)).1.2.2.1), .int eo, .ref a8, .ref a9, .ref a10, .int ud, .int (nI (px fb L n 1 4 (((sk fb L τ.1) + 1), τ.2)).1.2.2.2), .int 4, .int se, .ref a15])) :: (a8, .inl (k 0, 1798, .inl d)) :: (a9, .inl (k 0, 1798, .inl (emL dr (cs ++ ((px fb L n 1 4 (sk fb L τ.1 + 1, τ.2)).2 ++ ifp ((px fb L n 1 4 (sk fb L τ.1 + 1, τ.2)).1.2.1 = 0) [2] []))))) :: (a1, .inl (k 0, 900, .inl fb)) :: wr) H := by rw [emL_app, emL_app, ← emS_L]; exact hP
                simp only [px, ifp_t b_8, ifp_t ho, ifp_t c_17] at he1 he2
                exact ih_4 (px fb L n 1 4 (sk fb L τ.1 + 1, τ.2)).1 (cs ++ ((px fb L n 1 4 (sk fb L τ.1 + 1, τ.2)).2 ++ ifp ((px fb L n 1 4 (sk fb L τ.1 + 1, τ.2)).1.2.1 = 0) [2] [])) q.1 (fun z => by have z2 : sk fb L τ.1 + 1 + 1 ≤ _ := (q.2 z).2.1; show 3 * (L - (px fb L n 1 4 (sk fb L τ.1 + 1, τ.2)).1.1) + 1 ≤ n; omega) (fun z => by obtain ⟨-, z2, z3, z4⟩ := q.2 z; have z2 : sk fb L τ.1 + 1 + 1 ≤ _ := z2; have z4 : _ ≤ 3 * (L - (sk fb L τ.1 + 1)) + 1 := z4; rw [ifp_t z, List.length_append, List.length_append]; simp only [List.length_cons, List.length_nil]; omega) he1 (by rw [List.append_assoc]; exact he2) (by omega) _ _ hP hS ls (lv_sub hl [1] rfl)
          · refine lv_aload_n hx hb dX5_sum_20 rfl (lv_at hl 0 rfl) ?_
            refine w_callV (As := []) (rest := []) C (m_next l D k o a1 a8 a9 a10 a15 t bl τ.2.1 τ.2.2.1 eo ud (nI τ.2.2.2) 4 se wr d (emL dr cs) fb L hL (sk fb L τ.1) A (va_D_of hD rfl) hs.2) (cwV 0 hts (lw_V q1735 q1737 qs33 q76 q1738) rfl rfl rfl (by decide +kernel) ⟨Nat.le_of_ble_eq_true rfl, Nat.le_of_ble_eq_true rfl⟩) hK (va_recv hK hP (ci := 0) (q0 := 0) rfl rfl) hP hS (fun _ h => h) rfl hl.1 rfl (Nat.le_of_ble_eq_true rfl) dX5_sum_21 ⟨Nat.le_of_ble_eq_true rfl, Nat.le_of_ble_eq_true rfl⟩ (fun H locs hP hS _ _ => ?_)
            rw [hss] at hP
            rw [hss]
            have hP : va_P D clA ((o, .inr (0, [.int t, .ref a1, .int bl, .int (nI L), .int (nI (sk fb L τ.1)), .int τ.2.1, .int τ.2.2.1, .int eo, .ref a8, .ref a9, .ref a10, .int ud, .int (nI τ.2.2.2), .int 4, .int se, .ref a15])) :: (a8, .inl (k 0, 1798, .inl d)) :: (a9, .inl (k 0, 1798, .inl (emL dr cs))) :: (a1, .inl (k 0, 900, .inl fb)) :: wr) H := hP
            refine lv_bipush (v := 45) hx hb dX5_sum_24 rfl ?_
            refine lv_icmp_ne (tgt := 74) hx hb dX5_sum_26 (by decide) (fun c_26 => ?_) (fun c_26 => ?_)
            · exact w_vret C (by simp only [px, ifp_t b_8, ifp_f (show ¬ (byt fb L (sk fb L τ.1) = 43 ∨ byt fb L (sk fb L τ.1) = 45) from fun h => h.elim c_17 c_26)] at he1 he2; rw [List.append_nil] at he2; have e1 : (sk fb L τ.1, τ.2) = (px fb L (f + 1) 2 4 σ).1 := he1; have e2 : cs = (px fb L (f + 1) 2 4 σ).2 := he2; rw [← e1, ← e2]; exact hP) hS dX5_sum_74
            · have ho : byt fb L (sk fb L τ.1) = 43 ∨ byt fb L (sk fb L τ.1) = 45 := Or.inr c_26
              have hlt : sk fb L τ.1 < L := ho.elim (fun e => byt_lt e (by decide)) (fun e => byt_lt e (by decide))
              have ok3 : okS L (sk fb L τ.1 + 1, τ.2) := ho.elim (fun e => okS_s1 hL ok2 e (by decide)) (fun e => okS_s1 hL ok2 e (by decide))
              have q := px_ok (fb := fb) hL n 1 4 (sk fb L τ.1 + 1, τ.2) ok3 (fun _ => by show 3 * (L - (sk fb L τ.1 + 1)) + 2 ≤ n; omega)
              refine lv_aload_n hx hb dX5_sum_29 rfl (lv_at hl 0 rfl) ?_
              refine w_callV (As := []) (rest := []) C (m_next l D k o a1 a8 a9 a10 a15 t bl τ.2.1 τ.2.2.1 eo ud (nI τ.2.2.2) 4 se wr d (emL dr cs) fb L hL (sk fb L τ.1) A (va_D_of hD rfl) hs.2) (cwV 0 hts (lw_V q1735 q1737 qs33 q76 q1738) rfl rfl rfl (by decide +kernel) ⟨Nat.le_of_ble_eq_true rfl, Nat.le_of_ble_eq_true rfl⟩) hK (va_recv hK hP (ci := 0) (q0 := 0) rfl rfl) hP hS (fun _ h => h) rfl hl.1 rfl (Nat.le_of_ble_eq_true rfl) dX5_sum_30 ⟨Nat.le_of_ble_eq_true rfl, Nat.le_of_ble_eq_true rfl⟩ (fun H locs hP hS _ _ => ?_)
              rw [hss] at hP
              rw [hss]
              have hP : va_P D clA ((o, .inr (0, [.int t, .ref a1, .int bl, .int (nI L), .int (nI (sk fb L τ.1)), .int τ.2.1, .int τ.2.2.1, .int eo, .ref a8, .ref a9, .ref a10, .int ud, .int (nI τ.2.2.2), .int 4, .int se, .ref a15])) :: (a8, .inl (k 0, 1798, .inl d)) :: (a9, .inl (k 0, 1798, .inl (emL dr cs))) :: (a1, .inl (k 0, 900, .inl fb)) :: wr) H := hP
              refine lv_bipush (v := 43) hx hb dX5_sum_33 rfl ?_
              refine lv_icmp_ne (tgt := 42) hx hb dX5_sum_35 (by decide) (fun c_35 => ?_) (fun c_35 => ?_)
              · refine lv_iconst (v := 0) hx hb dX5_sum_42 rfl ?_
                refine lv_istore_n (lv' := [(1, .int 0), (0, .ref o)]) hx hb dX5_sum_43 rfl hl (by decide) rfl (fun ls hl => ?_)
                refine lv_aload_n hx hb dX5_sum_44 rfl (lv_at hl 1 rfl) ?_
                refine lv_dup hx hb dX5_sum_45 rfl ?_
                refine va_get hx hb hts in_X5 hown hK hP 0 rfl rfl 4 (by decide) (hts _ q1666) (fun _ h => h) rfl dX5_sum_46 ?_
                refine lv_iconst (v := 1) hx hb dX5_sum_49 rfl ?_
                refine lv_iadd hx hb dX5_sum_50 ?_
                refine w_topi (y := nI ((sk fb L τ.1) + 1)) (nI_add (sk fb L τ.1) 1) ?_
                refine va_put hx hb hts in_X5 tyX5 tyX5_ok nmX5 hown hK hP (va_D_of hD rfl) hS 0 rfl rfl 4 (by decide) (hts _ q1666) (fun _ h => h) rfl rfl rfl rfl (Nat.le_of_ble_eq_true rfl) dX5_sum_51 (fun H locs hP _ hS => ?_)
                have hP : va_P D clA ((o, .inr (0, [.int t, .ref a1, .int bl, .int (nI L), .int (nI ((sk fb L τ.1) + 1)), .int τ.2.1, .int τ.2.2.1, .int eo, .ref a8, .ref a9, .ref a10, .int ud, .int (nI τ.2.2.2), .int 4, .int se, .ref a15])) :: (a8, .inl (k 0, 1798, .inl d)) :: (a9, .inl (k 0, 1798, .inl (emL dr cs))) :: (a1, .inl (k 0, 900, .inl fb)) :: wr) H := hP
                refine lv_aload_n hx hb dX5_sum_54 rfl (lv_at hl 1 rfl) ?_
                refine x_callV (As := []) (rest := []) C (m_term_4 l D k o a1 a8 a9 a10 a15 t bl eo ud se wr d (emL dr cs) fb L hL (((sk fb L τ.1) + 1), τ.2) A (va_D_of hD rfl) ok3 sA sV n (fun _ => by show 3 * (L - (sk fb L τ.1 + 1)) + 2 ≤ n; omega) (fun _ => ⟨d1, by show 2 * dN (emL dr cs) 5 + 3 * (L - (sk fb L τ.1 + 1)) + 1 ≤ 3000; omega⟩)) (cwV 0 hts (lw_V q1808 q1810 qs44 q76 q1811) rfl rfl rfl (by decide +kernel) ⟨Nat.le_of_ble_eq_true rfl, Nat.le_of_ble_eq_true rfl⟩) hK (va_recv hK hP (ci := 0) (q0 := 0) rfl rfl) mv2_MS hP (fun U hU hW => MS_to hX hS (fun _ h => h) U hU hW) hS (fun _ h => h) rfl hl.1 rfl (Nat.le_of_ble_eq_true rfl) dX5_sum_55 ⟨Nat.le_of_ble_eq_true rfl, Nat.le_of_ble_eq_true rfl⟩ (fun H locs hP hS _ _ => ?_)
                have hP : va_P D clA ((o, .inr (0, [.int t, .ref a1, .int bl, .int (nI L), .int (nI (px fb L n 1 4 (((sk fb L τ.1) + 1), τ.2)).1.1), .int ((px fb L n 1 4 (((sk fb L τ.1) + 1), τ.2)).1.2.1), .int ((px fb L n 1 4 (((sk fb L τ.1) + 1), τ.2)).1.2.2.1), .int eo, .ref a8, .ref a9, .ref a10, .int ud, .int (nI (px fb L n 1 4 (((sk fb L τ.1) + 1), τ.2)).1.2.2.2), .int 4, .int se, .ref a15])) :: (a8, .inl (k 0, 1798, .inl d)) :: (a9, .inl (k 0, 1798, .inl (emL (emL dr cs) (px fb L n 1 4 (((sk fb L τ.1) + 1), τ.2)).2))) :: (a1, .inl (k 0, 900, .inl fb)) :: wr) H := hP
                refine lv_aload_n hx hb dX5_sum_58 rfl (lv_at hl 1 rfl) ?_
                refine lv_iload_n hx hb dX5_sum_59 rfl (lv_at hl 0 rfl) ?_
                refine lv_if_eq (tgt := 67) hx hb dX5_sum_60 (by decide) (fun c_60 => ?_) (fun c_60 => ?_)
                · refine lv_iconst (v := 3) hx hb dX5_sum_67 rfl ?_
                  refine w_callV (As := [.int 3]) (rest := []) C (m_emit l D k o a1 a8 a9 a10 a15 t bl eo ud 4 se wr d (emL (emL dr cs) (px fb L n 1 4 (((sk fb L τ.1) + 1), τ.2)).2) fb L hL ((px fb L n 1 4 (((sk fb L τ.1) + 1), τ.2)).1) A (va_D_of hD rfl) q.1 3 (fun z => by obtain ⟨-, z2, z3, z4⟩ := q.2 z; have z2 : sk fb L τ.1 + 1 + 1 ≤ _ := z2; have z4 : _ ≤ 3 * (L - (sk fb L τ.1 + 1)) + 1 := z4; obtain ⟨y1, y2⟩ := emL_n (dr := emL dr cs) (px fb L n 1 4 (sk fb L τ.1 + 1, τ.2)).2 d1 (by omega); exact ⟨y1, by omega⟩)) (cwV 1 hts (lw_V q1823 q1825 qs47 q76 q1826) rfl rfl rfl (by decide +kernel) ⟨Nat.le_of_ble_eq_true rfl, Nat.le_of_ble_eq_true rfl⟩) hK (va_recv hK hP (ci := 0) (q0 := 0) rfl rfl) hP hS (fun _ h => h) rfl hl.1 rfl (Nat.le_of_ble_eq_true rfl) dX5_sum_68 ⟨Nat.le_of_ble_eq_true rfl, Nat.le_of_ble_eq_true rfl⟩ (fun H locs hP hS _ _ => ?_)
                  have hP : va_P D clA ((o, .inr (0, [.int t, .ref a1, .int bl, .int (nI L), .int (nI (px fb L n 1 4 (((sk fb L τ.1) + 1), τ.2)).1.1), .int ((px fb L n 1 4 (((sk fb L τ.1) + 1), τ.2)).1.2.1), .int ((px fb L n 1 4 (((sk fb L τ.1) + 1), τ.2)).1.2.2.1), .int eo, .ref a8, .ref a9, .ref a10, .int ud, .int (nI (px fb L n 1 4 (((sk fb L τ.1) + 1), τ.2)).1.2.2.2), .int 4, .int se, .ref a15])) :: (a8, .inl (k 0, 1798, .inl d)) :: (a9, .inl (k 0, 1798, .inl (emS (emL (emL dr cs) (px fb L n 1 4 (((sk fb L τ.1) + 1), τ.2)).2) 3 ((px fb L n 1 4 (((sk fb L τ.1) + 1), τ.2)).1)))) :: (a1, .inl (k 0, 900, .inl fb)) :: wr) H := hP
                  refine lv_goto (tgt := 4) hx hb dX5_sum_71 (by decide) ?_
                  have hP : va_P D clA ((o, .inr (0, [.int t, .ref a1, .int bl, .int (nI L), .int (nI (px fb L n 1 4 (((sk fb L τ.1) + 1), τ.2)).1.1), .int ((px fb L n 1 4 (((sk fb L τ.1) + 1), τ.2)).1.2.1), .int ((px fb L n 1 4 (((sk fb L τ.1) + 1), τ.2)).1.2.2.1), .int eo, .ref a8, .ref a9, .ref a10, .int ud, .int (nI (px fb L n 1 4 (((sk fb L τ.1) + 1), τ.2)).1.2.2.2), .int 4, .int se, .ref a15])) :: (a8, .inl (k 0, 1798, .inl d)) :: (a9, .inl (k 0, 1798, .inl (emL dr (cs ++ ((px fb L n 1 4 (sk fb L τ.1 + 1, τ.2)).2 ++ ifp ((px fb L n 1 4 (sk fb L τ.1 + 1, τ.2)).1.2.1 = 0) [3] []))))) :: (a1, .inl (k 0, 900, .inl fb)) :: wr) H := by rw [emL_app, emL_app, ← emS_L]; exact hP
                  simp only [px, ifp_t b_8, ifp_t ho, ifp_f c_17] at he1 he2
                  exact ih_4 (px fb L n 1 4 (sk fb L τ.1 + 1, τ.2)).1 (cs ++ ((px fb L n 1 4 (sk fb L τ.1 + 1, τ.2)).2 ++ ifp ((px fb L n 1 4 (sk fb L τ.1 + 1, τ.2)).1.2.1 = 0) [3] [])) q.1 (fun z => by have z2 : sk fb L τ.1 + 1 + 1 ≤ _ := (q.2 z).2.1; show 3 * (L - (px fb L n 1 4 (sk fb L τ.1 + 1, τ.2)).1.1) + 1 ≤ n; omega) (fun z => by obtain ⟨-, z2, z3, z4⟩ := q.2 z; have z2 : sk fb L τ.1 + 1 + 1 ≤ _ := z2; have z4 : _ ≤ 3 * (L - (sk fb L τ.1 + 1)) + 1 := z4; rw [ifp_t z, List.length_append, List.length_append]; simp only [List.length_cons, List.length_nil]; omega) he1 (by rw [List.append_assoc]; exact he2) (by omega) _ _ hP hS ls (lv_sub hl [1] rfl)
                · exact absurd c_60 (by decide)
              · exact absurd c_35 c_17
    exact loop_4 f (px fb L f 1 4 σ).1 (px fb L f 1 4 σ).2 q0.1 (fun z => by have z2 : σ.1 + 1 ≤ _ := (q0.2 z).2.1; show 3 * (L - (px fb L f 1 4 σ).1.1) + 1 ≤ f; omega) (fun z => by have z2 : _ ≤ 3 * (L - σ.1) + 1 := (q0.2 z).2.2.2; omega) (by simp only [px]) (by simp only [px]) (by omega) _ _ hP hS ls (lv_sub hl [0] rfl)
  · skip
    refine lv_aload_n hx hb dX5_sum_0 rfl (lv_at hl 0 rfl) ?_
    refine w_callV (As := []) (rest := []) C (m_termE l D k o a1 a8 a9 a10 a15 t bl eo ud 4 se wr d dr fb L hL σ A (va_D_of hD rfl) hok hg0) (cwV 0 hts (lw_V q1808 q1810 qs44 q76 q1811) rfl rfl rfl (by decide +kernel) ⟨Nat.le_of_ble_eq_true rfl, Nat.le_of_ble_eq_true rfl⟩) hK (va_recv hK hP (ci := 0) (q0 := 0) rfl rfl) hP hS (fun _ h => h) rfl hl.1 rfl (Nat.le_of_ble_eq_true rfl) dX5_sum_1 ⟨Nat.le_of_ble_eq_true rfl, Nat.le_of_ble_eq_true rfl⟩ (fun H locs hP hS _ _ => ?_)
    have hP : va_P D clA ((o, .inr (0, [.int t, .ref a1, .int bl, .int (nI L), .int (nI σ.1), .int σ.2.1, .int σ.2.2.1, .int eo, .ref a8, .ref a9, .ref a10, .int ud, .int (nI σ.2.2.2), .int 4, .int se, .ref a15])) :: (a8, .inl (k 0, 1798, .inl d)) :: (a9, .inl (k 0, 1798, .inl dr)) :: (a1, .inl (k 0, 900, .inl fb)) :: wr) H := hP
    refine lv_aload_n hx hb dX5_sum_4 rfl (lv_at hl 0 rfl) ?_
    refine r_callV (As := []) (rest := []) C (m_isGood l D k o σ.2.1 ([.int t, .ref a1, .int bl, .int (nI L), .int (nI σ.1), .int σ.2.1, .int σ.2.2.1, .int eo, .ref a8, .ref a9, .ref a10, .int ud, .int (nI σ.2.2.2), .int 4, .int se, .ref a15] : List Value) rfl) (cwV 0 hts (lw_V q1731 q1733 qs32 q76 q1734) rfl rfl rfl (by decide +kernel) ⟨Nat.le_of_ble_eq_true rfl, Nat.le_of_ble_eq_true rfl⟩) hK (va_recv hK hP (ci := 0) (q0 := 0) rfl rfl) (hP.sub [0] rfl) rfl hl.1 rfl (Nat.le_of_ble_eq_true rfl) dX5_sum_5 ⟨Nat.le_of_ble_eq_true rfl, Nat.le_of_ble_eq_true rfl⟩ ?_
    refine lv_if_eq (tgt := 74) hx hb dX5_sum_8 (by decide) (fun c_8 => ?_) (fun c_8 => ?_)
    · have b_8 := bI_0.mp c_8
      exact w_vret C (by rw [px_bad hg0]; exact hP) hS dX5_sum_74
    · exact absurd (bI_nz c_8) hg0
set_option maxHeartbeats 16000000 in
theorem m_factor_3 (l : Launch) (D : va_G) (k : Nat → ClassId) (o a1 a8 a9 a10 a15 : Nat) (t bl eo ud se : Int32) (wr : va_W) (d dr fb : Nat → Int32) (L : Nat) (hL : L ≤ 900) (σ : PS) (A : Nat → Prop) (hD : va_D A ((o, .inr (0, [.int t, .ref a1, .int bl, .int (nI L), .int (nI σ.1), .int σ.2.1, .int σ.2.2.1, .int eo, .ref a8, .ref a9, .ref a10, .int ud, .int (nI σ.2.2.2), .int 3, .int se, .ref a15])) :: (a8, .inl (k 0, 1798, .inl d)) :: (a9, .inl (k 0, 1798, .inl dr)) :: (a1, .inl (k 0, 900, .inl fb)) :: wr)) (hok : okS L σ) (sA sV : Nat → Nat) (f : Nat) (hf : σ.2.1 = 0 → nee 0 (L - σ.1) ≤ f) (h5 : σ.2.1 = 0 → dr 5 = nI (dN dr 5) ∧ 2 * dN dr 5 + 3 * (L - σ.1) + 1 ≤ 3000) : xM l D k yX5_factor cX5_factor 4 none 8 172 [.ref o] ((o, .inr (0, [.int t, .ref a1, .int bl, .int (nI L), .int (nI σ.1), .int σ.2.1, .int σ.2.2.1, .int eo, .ref a8, .ref a9, .ref a10, .int ud, .int (nI σ.2.2.2), .int 3, .int se, .ref a15])) :: (a8, .inl (k 0, 1798, .inl d)) :: (a9, .inl (k 0, 1798, .inl dr)) :: (a1, .inl (k 0, 900, .inl fb)) :: wr) (MS A sA sV) (none) ((o, .inr (0, [.int t, .ref a1, .int bl, .int (nI L), .int (nI (px fb L f 0 3 σ).1.1), .int ((px fb L f 0 3 σ).1.2.1), .int ((px fb L f 0 3 σ).1.2.2.1), .int eo, .ref a8, .ref a9, .ref a10, .int ud, .int (nI (px fb L f 0 3 σ).1.2.2.2), .int 3, .int se, .ref a15])) :: (a8, .inl (k 0, 1798, .inl d)) :: (a9, .inl (k 0, 1798, .inl (emL dr (px fb L f 0 3 σ).2))) :: (a1, .inl (k 0, 900, .inl fb)) :: wr) A := by
  refine xM_of (by decide) (Nat.le_of_ble_eq_true rfl) ?_
  intro p e s m below meth c ls C hK hX hP hS hl
  obtain ⟨hE, hT⟩ := id hX
  obtain ⟨hx, hb, hr, hml, hown, hts, hlk⟩ := id C
  have hl : lv_has ls 4 [(0, .ref o)] := hl
  refine lv_aload_n hx hb dX5_factor_0 rfl (lv_at hl 0 rfl) ?_
  refine r_callV (As := []) (rest := []) C (m_isGood l D k o σ.2.1 ([.int t, .ref a1, .int bl, .int (nI L), .int (nI σ.1), .int σ.2.1, .int σ.2.2.1, .int eo, .ref a8, .ref a9, .ref a10, .int ud, .int (nI σ.2.2.2), .int 3, .int se, .ref a15] : List Value) rfl) (cwV 0 hts (lw_V q1731 q1733 qs32 q76 q1734) rfl rfl rfl (by decide +kernel) ⟨Nat.le_of_ble_eq_true rfl, Nat.le_of_ble_eq_true rfl⟩) hK (va_recv hK hP (ci := 0) (q0 := 0) rfl rfl) (hP.sub [0] rfl) rfl hl.1 rfl (Nat.le_of_ble_eq_true rfl) dX5_factor_1 ⟨Nat.le_of_ble_eq_true rfl, Nat.le_of_ble_eq_true rfl⟩ ?_
  refine lv_if_ne (tgt := 8) hx hb dX5_factor_4 (by decide) (fun c_4 => ?_) (fun c_4 => ?_)
  · have b_4 := bI_nz c_4
    have hp := hok.1 b_4
    have hs := sk_in (fb := fb) hp
    have hf := hf b_4
    obtain ⟨c1, c2⟩ := h5 b_4
    obtain ⟨f, rfl⟩ : ∃ g, f = g + 1 := ⟨f - 1, by unfold nee at hf; rw [if_neg (by decide), if_neg (by decide)] at hf; omega⟩
    have hf : 3 * (L - σ.1) + 1 ≤ f + 1 := hf
    have hoks := okS_sk (fb := fb) hL hok b_4
    have hss : sk fb L (sk fb L σ.1) = sk fb L σ.1 := sk_sk hp
    refine lv_aload_n hx hb dX5_factor_8 rfl (lv_at hl 0 rfl) ?_
    refine w_callV (As := []) (rest := []) C (m_next l D k o a1 a8 a9 a10 a15 t bl σ.2.1 σ.2.2.1 eo ud (nI σ.2.2.2) 3 se wr d dr fb L hL σ.1 A (va_D_of hD rfl) hp) (cwV 0 hts (lw_V q1735 q1737 qs33 q76 q1738) rfl rfl rfl (by decide +kernel) ⟨Nat.le_of_ble_eq_true rfl, Nat.le_of_ble_eq_true rfl⟩) hK (va_recv hK hP (ci := 0) (q0 := 0) rfl rfl) hP hS (fun _ h => h) rfl hl.1 rfl (Nat.le_of_ble_eq_true rfl) dX5_factor_9 ⟨Nat.le_of_ble_eq_true rfl, Nat.le_of_ble_eq_true rfl⟩ (fun H locs hP hS _ _ => ?_)
    have hP : va_P D clA ((o, .inr (0, [.int t, .ref a1, .int bl, .int (nI L), .int (nI (sk fb L σ.1)), .int σ.2.1, .int σ.2.2.1, .int eo, .ref a8, .ref a9, .ref a10, .int ud, .int (nI σ.2.2.2), .int 3, .int se, .ref a15])) :: (a8, .inl (k 0, 1798, .inl d)) :: (a9, .inl (k 0, 1798, .inl dr)) :: (a1, .inl (k 0, 900, .inl fb)) :: wr) H := hP
    refine lv_istore_n (lv' := [(1, .int (byt fb L (sk fb L σ.1))), (0, .ref o)]) hx hb dX5_factor_12 rfl hl (by decide) rfl (fun ls hl => ?_)
    refine lv_iload_n hx hb dX5_factor_13 rfl (lv_at hl 0 rfl) ?_
    refine lv_bipush (v := 40) hx hb dX5_factor_14 rfl ?_
    refine lv_icmp_ne (tgt := 78) hx hb dX5_factor_16 (by decide) (fun c_16 => ?_) (fun c_16 => ?_)
    · refine lv_iload_n hx hb dX5_factor_78 rfl (lv_at hl 0 rfl) ?_
      refine r_callS (As := [.int (byt fb L (sk fb L σ.1))]) (rest := []) C (m_isDigit l D k (byt fb L (sk fb L σ.1))) (va_cwS 1 hts (lw_S q1772 q1773 q76 q1774) rfl rfl rfl (by decide +kernel) ⟨Nat.le_of_ble_eq_true rfl, Nat.le_of_ble_eq_true rfl⟩) hK trivial rfl hl.1 rfl (Nat.le_of_ble_eq_true rfl) dX5_factor_79 ⟨Nat.le_of_ble_eq_true rfl, Nat.le_of_ble_eq_true rfl⟩ ?_
      refine lv_if_eq (tgt := 89) hx hb dX5_factor_82 (by decide) (fun c_82 => ?_) (fun c_82 => ?_)
      · have b_82 := bI_0.mp c_82
        refine lv_aload_n hx hb dX5_factor_89 rfl (lv_at hl 1 rfl) ?_
        refine va_ldcS hx hb hown (index := 101) (hX.2 0 (by decide)).1 dX5_factor_90 ?_
        refine x_callV (As := [.ref (sA 0)]) (rest := []) C (m_takeWordM l D k o a1 a8 a9 a10 a15 t bl eo ud 3 se wr d dr fb L hL ((sk fb L σ.1), σ.2) A (va_D_of hD rfl) hoks sA sV 0 (by decide)) (cwV 1 hts (lw_V q1748 q1750 qs36 q76 q1751) rfl rfl rfl (by decide +kernel) ⟨Nat.le_of_ble_eq_true rfl, Nat.le_of_ble_eq_true rfl⟩) hK (va_recv hK hP (ci := 0) (q0 := 0) rfl rfl) mv2_MS hP (fun U hU hW => MS_to hX hS (fun _ h => h) U hU hW) hS (fun _ h => h) rfl hl.1 rfl (Nat.le_of_ble_eq_true rfl) dX5_factor_92 ⟨Nat.le_of_ble_eq_true rfl, Nat.le_of_ble_eq_true rfl⟩ (fun H locs hP hS _ _ => ?_)
        have hP : va_P D clA ((o, .inr (0, [.int t, .ref a1, .int bl, .int (nI L), .int (nI (TS fb L 0 ((sk fb L σ.1), σ.2)).1), .int ((TS fb L 0 ((sk fb L σ.1), σ.2)).2.1), .int ((TS fb L 0 ((sk fb L σ.1), σ.2)).2.2.1), .int eo, .ref a8, .ref a9, .ref a10, .int ud, .int (nI (TS fb L 0 ((sk fb L σ.1), σ.2)).2.2.2), .int 3, .int se, .ref a15])) :: (a8, .inl (k 0, 1798, .inl d)) :: (a9, .inl (k 0, 1798, .inl dr)) :: (a1, .inl (k 0, 900, .inl fb)) :: wr) H := hP
        refine lv_if_eq (tgt := 102) hx hb dX5_factor_95 (by decide) (fun c_95 => ?_) (fun c_95 => ?_)
        · have b_95 := bI_0.mp c_95
          rw [TS_no (σ := (sk fb L σ.1, σ.2)) b_4 b_95, hss] at hP
          refine lv_aload_n hx hb dX5_factor_102 rfl (lv_at hl 1 rfl) ?_
          refine va_ldcS hx hb hown (index := 107) (hX.2 1 (by decide)).1 dX5_factor_103 ?_
          refine x_callV (As := [.ref (sA 1)]) (rest := []) C (m_takeWordM l D k o a1 a8 a9 a10 a15 t bl eo ud 3 se wr d dr fb L hL ((sk fb L σ.1), σ.2) A (va_D_of hD rfl) hoks sA sV 1 (by decide)) (cwV 1 hts (lw_V q1748 q1750 qs36 q76 q1751) rfl rfl rfl (by decide +kernel) ⟨Nat.le_of_ble_eq_true rfl, Nat.le_of_ble_eq_true rfl⟩) hK (va_recv hK hP (ci := 0) (q0 := 0) rfl rfl) mv2_MS hP (fun U hU hW => MS_to hX hS (fun _ h => h) U hU hW) hS (fun _ h => h) rfl hl.1 rfl (Nat.le_of_ble_eq_true rfl) dX5_factor_105 ⟨Nat.le_of_ble_eq_true rfl, Nat.le_of_ble_eq_true rfl⟩ (fun H locs hP hS _ _ => ?_)
          have hP : va_P D clA ((o, .inr (0, [.int t, .ref a1, .int bl, .int (nI L), .int (nI (TS fb L 1 ((sk fb L σ.1), σ.2)).1), .int ((TS fb L 1 ((sk fb L σ.1), σ.2)).2.1), .int ((TS fb L 1 ((sk fb L σ.1), σ.2)).2.2.1), .int eo, .ref a8, .ref a9, .ref a10, .int ud, .int (nI (TS fb L 1 ((sk fb L σ.1), σ.2)).2.2.2), .int 3, .int se, .ref a15])) :: (a8, .inl (k 0, 1798, .inl d)) :: (a9, .inl (k 0, 1798, .inl dr)) :: (a1, .inl (k 0, 900, .inl fb)) :: wr) H := hP
          refine lv_if_eq (tgt := 115) hx hb dX5_factor_108 (by decide) (fun c_108 => ?_) (fun c_108 => ?_)
          · have b_108 := bI_0.mp c_108
            rw [TS_no (σ := (sk fb L σ.1, σ.2)) b_4 b_108, hss] at hP
            refine lv_aload_n hx hb dX5_factor_115 rfl (lv_at hl 1 rfl) ?_
            refine va_ldcS hx hb hown (index := 109) (hX.2 2 (by decide)).1 dX5_factor_116 ?_
            refine x_callV (As := [.ref (sA 2)]) (rest := []) C (m_takeWordM l D k o a1 a8 a9 a10 a15 t bl eo ud 3 se wr d dr fb L hL ((sk fb L σ.1), σ.2) A (va_D_of hD rfl) hoks sA sV 2 (by decide)) (cwV 1 hts (lw_V q1748 q1750 qs36 q76 q1751) rfl rfl rfl (by decide +kernel) ⟨Nat.le_of_ble_eq_true rfl, Nat.le_of_ble_eq_true rfl⟩) hK (va_recv hK hP (ci := 0) (q0 := 0) rfl rfl) mv2_MS hP (fun U hU hW => MS_to hX hS (fun _ h => h) U hU hW) hS (fun _ h => h) rfl hl.1 rfl (Nat.le_of_ble_eq_true rfl) dX5_factor_118 ⟨Nat.le_of_ble_eq_true rfl, Nat.le_of_ble_eq_true rfl⟩ (fun H locs hP hS _ _ => ?_)
            have hP : va_P D clA ((o, .inr (0, [.int t, .ref a1, .int bl, .int (nI L), .int (nI (TS fb L 2 ((sk fb L σ.1), σ.2)).1), .int ((TS fb L 2 ((sk fb L σ.1), σ.2)).2.1), .int ((TS fb L 2 ((sk fb L σ.1), σ.2)).2.2.1), .int eo, .ref a8, .ref a9, .ref a10, .int ud, .int (nI (TS fb L 2 ((sk fb L σ.1), σ.2)).2.2.2), .int 3, .int se, .ref a15])) :: (a8, .inl (k 0, 1798, .inl d)) :: (a9, .inl (k 0, 1798, .inl dr)) :: (a1, .inl (k 0, 900, .inl fb)) :: wr) H := hP
            refine lv_if_eq (tgt := 128) hx hb dX5_factor_121 (by decide) (fun c_121 => ?_) (fun c_121 => ?_)
            · have b_121 := bI_0.mp c_121
              rw [TS_no (σ := (sk fb L σ.1, σ.2)) b_4 b_121, hss] at hP
              refine lv_iconst (v := (-1)) hx hb dX5_factor_128 rfl ?_
              refine lv_istore_n (lv' := [(2, .int (-1)), (1, .int (byt fb L (sk fb L σ.1))), (0, .ref o)]) hx hb dX5_factor_129 rfl hl (by decide) rfl (fun ls hl => ?_)
              refine lv_iload_n hx hb dX5_factor_130 rfl (lv_at hl 0 rfl) ?_
              refine lv_if_ge (tgt := 145) hx hb dX5_factor_131 (by decide) (fun c_131 => ?_) (fun c_131 => ?_)
              · exact absurd c_131 (by decide)
              · refine lv_aload_n hx hb dX5_factor_134 rfl (lv_at hl 2 rfl) ?_
                refine lv_iconst (v := 0) hx hb dX5_factor_135 rfl ?_
                refine lv_sipush (v := 9999) hx hb dX5_factor_136 rfl ?_
                refine w_callV (As := [.int 0, .int 9999]) (rest := []) C (m_number l D k o a1 a8 a9 a10 a15 t bl eo ud 3 se wr d dr fb L hL ((sk fb L σ.1), σ.2) A (va_D_of hD rfl) hoks 0 9999) (cwV 2 hts (lw_V q1768 q1770 qs38 q76 q1771) rfl rfl rfl (by decide +kernel) ⟨Nat.le_of_ble_eq_true rfl, Nat.le_of_ble_eq_true rfl⟩) hK (va_recv hK hP (ci := 0) (q0 := 0) rfl rfl) hP hS (fun _ h => h) rfl hl.1 rfl (Nat.le_of_ble_eq_true rfl) dX5_factor_139 ⟨Nat.le_of_ble_eq_true rfl, Nat.le_of_ble_eq_true rfl⟩ (fun H locs hP hS _ _ => ?_)
                have hP : va_P D clA ((o, .inr (0, [.int t, .ref a1, .int bl, .int (nI L), .int (nI (nmS fb L 0 9999 ((sk fb L σ.1), σ.2)).2.1), .int ((nmS fb L 0 9999 ((sk fb L σ.1), σ.2)).2.2.1), .int ((nmS fb L 0 9999 ((sk fb L σ.1), σ.2)).2.2.2.1), .int eo, .ref a8, .ref a9, .ref a10, .int ud, .int (nI (nmS fb L 0 9999 ((sk fb L σ.1), σ.2)).2.2.2.2), .int 3, .int se, .ref a15])) :: (a8, .inl (k 0, 1798, .inl d)) :: (a9, .inl (k 0, 1798, .inl dr)) :: (a1, .inl (k 0, 900, .inl fb)) :: wr) H := hP
                refine lv_goto (tgt := 146) hx hb dX5_factor_142 (by decide) ?_
                refine lv_istore_n (lv' := [(3, .int ((nmS fb L 0 9999 ((sk fb L σ.1), σ.2)).1)), (2, .int (-1)), (1, .int (byt fb L (sk fb L σ.1))), (0, .ref o)]) hx hb dX5_factor_146 rfl hl (by decide) rfl (fun ls hl => ?_)
                refine lv_aload_n hx hb dX5_factor_147 rfl (lv_at hl 3 rfl) ?_
                refine lv_iload_n hx hb dX5_factor_148 rfl (lv_at hl 1 rfl) ?_
                refine lv_if_ge (tgt := 156) hx hb dX5_factor_149 (by decide) (fun c_149 => ?_) (fun c_149 => ?_)
                · exact absurd c_149 (by decide)
                · refine lv_iconst (v := 0) hx hb dX5_factor_152 rfl ?_
                  refine lv_goto (tgt := 157) hx hb dX5_factor_153 (by decide) ?_
                  refine w_callV (As := [.int 0]) (rest := []) C (m_emit l D k o a1 a8 a9 a10 a15 t bl eo ud 3 se wr d dr fb L hL ((nmS fb L 0 9999 ((sk fb L σ.1), σ.2)).2) A (va_D_of hD rfl) (okS_nm hL hoks) 0 (fun z => ⟨c1, by omega⟩)) (cwV 1 hts (lw_V q1823 q1825 qs47 q76 q1826) rfl rfl rfl (by decide +kernel) ⟨Nat.le_of_ble_eq_true rfl, Nat.le_of_ble_eq_true rfl⟩) hK (va_recv hK hP (ci := 0) (q0 := 0) rfl rfl) hP hS (fun _ h => h) rfl hl.1 rfl (Nat.le_of_ble_eq_true rfl) dX5_factor_157 ⟨Nat.le_of_ble_eq_true rfl, Nat.le_of_ble_eq_true rfl⟩ (fun H locs hP hS _ _ => ?_)
                  have hP : va_P D clA ((o, .inr (0, [.int t, .ref a1, .int bl, .int (nI L), .int (nI (nmS fb L 0 9999 ((sk fb L σ.1), σ.2)).2.1), .int ((nmS fb L 0 9999 ((sk fb L σ.1), σ.2)).2.2.1), .int ((nmS fb L 0 9999 ((sk fb L σ.1), σ.2)).2.2.2.1), .int eo, .ref a8, .ref a9, .ref a10, .int ud, .int (nI (nmS fb L 0 9999 ((sk fb L σ.1), σ.2)).2.2.2.2), .int 3, .int se, .ref a15])) :: (a8, .inl (k 0, 1798, .inl d)) :: (a9, .inl (k 0, 1798, .inl (emS dr 0 ((nmS fb L 0 9999 ((sk fb L σ.1), σ.2)).2)))) :: (a1, .inl (k 0, 900, .inl fb)) :: wr) H := hP
                  refine lv_aload_n hx hb dX5_factor_160 rfl (lv_at hl 3 rfl) ?_
                  refine lv_iload_n hx hb dX5_factor_161 rfl (lv_at hl 0 rfl) ?_
                  refine w_callV (As := [.int ((nmS fb L 0 9999 ((sk fb L σ.1), σ.2)).1)]) (rest := []) C (m_emit l D k o a1 a8 a9 a10 a15 t bl eo ud 3 se wr d (emS dr 0 ((nmS fb L 0 9999 ((sk fb L σ.1), σ.2)).2)) fb L hL ((nmS fb L 0 9999 ((sk fb L σ.1), σ.2)).2) A (va_D_of hD rfl) (okS_nm hL hoks) ((nmS fb L 0 9999 ((sk fb L σ.1), σ.2)).1) (fun z => by simp only [emS, ifp_t z]; have g1 := (nm_fwd hoks z).2.1; have g2 := (okS_nm (fb := fb) (lo := 0) (hi := 9999) hL hoks).1 z; have g1 : sk fb L σ.1 < _ := g1; exact ⟨(em1_n (by omega)).1, by rw [(em1_n (dr := dr) (v := 0) (by omega)).2]; omega⟩)) (cwV 1 hts (lw_V q1823 q1825 qs47 q76 q1826) rfl rfl rfl (by decide +kernel) ⟨Nat.le_of_ble_eq_true rfl, Nat.le_of_ble_eq_true rfl⟩) hK (va_recv hK hP (ci := 0) (q0 := 0) rfl rfl) hP hS (fun _ h => h) rfl hl.1 rfl (Nat.le_of_ble_eq_true rfl) dX5_factor_162 ⟨Nat.le_of_ble_eq_true rfl, Nat.le_of_ble_eq_true rfl⟩ (fun H locs hP hS _ _ => ?_)
                  have hP : va_P D clA ((o, .inr (0, [.int t, .ref a1, .int bl, .int (nI L), .int (nI (nmS fb L 0 9999 ((sk fb L σ.1), σ.2)).2.1), .int ((nmS fb L 0 9999 ((sk fb L σ.1), σ.2)).2.2.1), .int ((nmS fb L 0 9999 ((sk fb L σ.1), σ.2)).2.2.2.1), .int eo, .ref a8, .ref a9, .ref a10, .int ud, .int (nI (nmS fb L 0 9999 ((sk fb L σ.1), σ.2)).2.2.2.2), .int 3, .int se, .ref a15])) :: (a8, .inl (k 0, 1798, .inl d)) :: (a9, .inl (k 0, 1798, .inl (emS (emS dr 0 ((nmS fb L 0 9999 ((sk fb L σ.1), σ.2)).2)) ((nmS fb L 0 9999 ((sk fb L σ.1), σ.2)).1) ((nmS fb L 0 9999 ((sk fb L σ.1), σ.2)).2)))) :: (a1, .inl (k 0, 900, .inl fb)) :: wr) H := hP
                  exact w_vret C (by first | (simp only [px, ifp_t b_4, ifp_f c_16, ifp_t (show dig _ from b_82)]; rw [← lit_em]; exact hP) | (simp only [px, ifp_t b_4, ifp_f c_16, ifp_f (show ¬ dig _ from b_82), ifp_f b_95, ifp_f b_108, ifp_f b_121]; rw [← lit_em]; exact hP)) hS dX5_factor_165
            · have b_121 := bI_nz c_121
              have hw := (okS_TS (fb := fb) (i := 2) hL hoks).1 (by rw [TS_er]; exact b_4)
              rw [TS_yes b_121] at hw
              have hw : sk fb L (sk fb L σ.1) + 6 ≤ L := hw
              refine lv_iconst (v := 2) hx hb dX5_factor_124 rfl ?_
              refine lv_goto (tgt := 129) hx hb dX5_factor_125 (by decide) ?_
              refine lv_istore_n (lv' := [(2, .int 2), (1, .int (byt fb L (sk fb L σ.1))), (0, .ref o)]) hx hb dX5_factor_129 rfl hl (by decide) rfl (fun ls hl => ?_)
              refine lv_iload_n hx hb dX5_factor_130 rfl (lv_at hl 0 rfl) ?_
              refine lv_if_ge (tgt := 145) hx hb dX5_factor_131 (by decide) (fun c_131 => ?_) (fun c_131 => ?_)
              · refine lv_iload_n hx hb dX5_factor_145 rfl (lv_at hl 0 rfl) ?_
                refine lv_istore_n (lv' := [(3, .int 2), (2, .int 2), (1, .int (byt fb L (sk fb L σ.1))), (0, .ref o)]) hx hb dX5_factor_146 rfl hl (by decide) rfl (fun ls hl => ?_)
                refine lv_aload_n hx hb dX5_factor_147 rfl (lv_at hl 3 rfl) ?_
                refine lv_iload_n hx hb dX5_factor_148 rfl (lv_at hl 1 rfl) ?_
                refine lv_if_ge (tgt := 156) hx hb dX5_factor_149 (by decide) (fun c_149 => ?_) (fun c_149 => ?_)
                · refine lv_iconst (v := 1) hx hb dX5_factor_156 rfl ?_
                  refine w_callV (As := [.int 1]) (rest := []) C (m_emit l D k o a1 a8 a9 a10 a15 t bl eo ud 3 se wr d dr fb L hL (TS fb L 2 ((sk fb L σ.1), σ.2)) A (va_D_of hD rfl) (okS_TS hL hoks) 1 (fun _ => ⟨c1, by omega⟩)) (cwV 1 hts (lw_V q1823 q1825 qs47 q76 q1826) rfl rfl rfl (by decide +kernel) ⟨Nat.le_of_ble_eq_true rfl, Nat.le_of_ble_eq_true rfl⟩) hK (va_recv hK hP (ci := 0) (q0 := 0) rfl rfl) hP hS (fun _ h => h) rfl hl.1 rfl (Nat.le_of_ble_eq_true rfl) dX5_factor_157 ⟨Nat.le_of_ble_eq_true rfl, Nat.le_of_ble_eq_true rfl⟩ (fun H locs hP hS _ _ => ?_)
                  have hP : va_P D clA ((o, .inr (0, [.int t, .ref a1, .int bl, .int (nI L), .int (nI (TS fb L 2 ((sk fb L σ.1), σ.2)).1), .int ((TS fb L 2 ((sk fb L σ.1), σ.2)).2.1), .int ((TS fb L 2 ((sk fb L σ.1), σ.2)).2.2.1), .int eo, .ref a8, .ref a9, .ref a10, .int ud, .int (nI (TS fb L 2 ((sk fb L σ.1), σ.2)).2.2.2), .int 3, .int se, .ref a15])) :: (a8, .inl (k 0, 1798, .inl d)) :: (a9, .inl (k 0, 1798, .inl (emS dr 1 (TS fb L 2 ((sk fb L σ.1), σ.2))))) :: (a1, .inl (k 0, 900, .inl fb)) :: wr) H := hP
                  refine lv_aload_n hx hb dX5_factor_160 rfl (lv_at hl 3 rfl) ?_
                  refine lv_iload_n hx hb dX5_factor_161 rfl (lv_at hl 0 rfl) ?_
                  refine w_callV (As := [.int 2]) (rest := []) C (m_emit l D k o a1 a8 a9 a10 a15 t bl eo ud 3 se wr d (emS dr 1 (TS fb L 2 ((sk fb L σ.1), σ.2))) fb L hL (TS fb L 2 ((sk fb L σ.1), σ.2)) A (va_D_of hD rfl) (okS_TS hL hoks) 2 (fun z => by simp only [emS, ifp_t z]; exact ⟨(em1_n (by omega)).1, by rw [(em1_n (dr := dr) (v := 1) (by omega)).2]; omega⟩)) (cwV 1 hts (lw_V q1823 q1825 qs47 q76 q1826) rfl rfl rfl (by decide +kernel) ⟨Nat.le_of_ble_eq_true rfl, Nat.le_of_ble_eq_true rfl⟩) hK (va_recv hK hP (ci := 0) (q0 := 0) rfl rfl) hP hS (fun _ h => h) rfl hl.1 rfl (Nat.le_of_ble_eq_true rfl) dX5_factor_162 ⟨Nat.le_of_ble_eq_true rfl, Nat.le_of_ble_eq_true rfl⟩ (fun H locs hP hS _ _ => ?_)
                  have hP : va_P D clA ((o, .inr (0, [.int t, .ref a1, .int bl, .int (nI L), .int (nI (TS fb L 2 ((sk fb L σ.1), σ.2)).1), .int ((TS fb L 2 ((sk fb L σ.1), σ.2)).2.1), .int ((TS fb L 2 ((sk fb L σ.1), σ.2)).2.2.1), .int eo, .ref a8, .ref a9, .ref a10, .int ud, .int (nI (TS fb L 2 ((sk fb L σ.1), σ.2)).2.2.2), .int 3, .int se, .ref a15])) :: (a8, .inl (k 0, 1798, .inl d)) :: (a9, .inl (k 0, 1798, .inl (emS (emS dr 1 (TS fb L 2 ((sk fb L σ.1), σ.2))) 2 (TS fb L 2 ((sk fb L σ.1), σ.2))))) :: (a1, .inl (k 0, 900, .inl fb)) :: wr) H := hP
                  exact w_vret C (by simp only [px, ifp_t b_4, ifp_f c_16, ifp_f (show ¬ dig _ from b_82), ifp_f b_95, ifp_f b_108, ifp_t b_121]; simp only [emS, ifp_t (show (TS fb L 2 (sk fb L σ.1, σ.2)).2.1 = 0 by rw [TS_er]; exact b_4)] at hP; exact hP) hS dX5_factor_165
                · exact absurd c_149 (by decide)
              · exact absurd c_131 (by decide)
          · have b_108 := bI_nz c_108
            have hw := (okS_TS (fb := fb) (i := 1) hL hoks).1 (by rw [TS_er]; exact b_4)
            rw [TS_yes b_108] at hw
            have hw : sk fb L (sk fb L σ.1) + 4 ≤ L := hw
            refine lv_iconst (v := 1) hx hb dX5_factor_111 rfl ?_
            refine lv_goto (tgt := 129) hx hb dX5_factor_112 (by decide) ?_
            refine lv_istore_n (lv' := [(2, .int 1), (1, .int (byt fb L (sk fb L σ.1))), (0, .ref o)]) hx hb dX5_factor_129 rfl hl (by decide) rfl (fun ls hl => ?_)
            refine lv_iload_n hx hb dX5_factor_130 rfl (lv_at hl 0 rfl) ?_
            refine lv_if_ge (tgt := 145) hx hb dX5_factor_131 (by decide) (fun c_131 => ?_) (fun c_131 => ?_)
            · refine lv_iload_n hx hb dX5_factor_145 rfl (lv_at hl 0 rfl) ?_
              refine lv_istore_n (lv' := [(3, .int 1), (2, .int 1), (1, .int (byt fb L (sk fb L σ.1))), (0, .ref o)]) hx hb dX5_factor_146 rfl hl (by decide) rfl (fun ls hl => ?_)
              refine lv_aload_n hx hb dX5_factor_147 rfl (lv_at hl 3 rfl) ?_
              refine lv_iload_n hx hb dX5_factor_148 rfl (lv_at hl 1 rfl) ?_
              refine lv_if_ge (tgt := 156) hx hb dX5_factor_149 (by decide) (fun c_149 => ?_) (fun c_149 => ?_)
              · refine lv_iconst (v := 1) hx hb dX5_factor_156 rfl ?_
                refine w_callV (As := [.int 1]) (rest := []) C (m_emit l D k o a1 a8 a9 a10 a15 t bl eo ud 3 se wr d dr fb L hL (TS fb L 1 ((sk fb L σ.1), σ.2)) A (va_D_of hD rfl) (okS_TS hL hoks) 1 (fun _ => ⟨c1, by omega⟩)) (cwV 1 hts (lw_V q1823 q1825 qs47 q76 q1826) rfl rfl rfl (by decide +kernel) ⟨Nat.le_of_ble_eq_true rfl, Nat.le_of_ble_eq_true rfl⟩) hK (va_recv hK hP (ci := 0) (q0 := 0) rfl rfl) hP hS (fun _ h => h) rfl hl.1 rfl (Nat.le_of_ble_eq_true rfl) dX5_factor_157 ⟨Nat.le_of_ble_eq_true rfl, Nat.le_of_ble_eq_true rfl⟩ (fun H locs hP hS _ _ => ?_)
                have hP : va_P D clA ((o, .inr (0, [.int t, .ref a1, .int bl, .int (nI L), .int (nI (TS fb L 1 ((sk fb L σ.1), σ.2)).1), .int ((TS fb L 1 ((sk fb L σ.1), σ.2)).2.1), .int ((TS fb L 1 ((sk fb L σ.1), σ.2)).2.2.1), .int eo, .ref a8, .ref a9, .ref a10, .int ud, .int (nI (TS fb L 1 ((sk fb L σ.1), σ.2)).2.2.2), .int 3, .int se, .ref a15])) :: (a8, .inl (k 0, 1798, .inl d)) :: (a9, .inl (k 0, 1798, .inl (emS dr 1 (TS fb L 1 ((sk fb L σ.1), σ.2))))) :: (a1, .inl (k 0, 900, .inl fb)) :: wr) H := hP
                refine lv_aload_n hx hb dX5_factor_160 rfl (lv_at hl 3 rfl) ?_
                refine lv_iload_n hx hb dX5_factor_161 rfl (lv_at hl 0 rfl) ?_
                refine w_callV (As := [.int 1]) (rest := []) C (m_emit l D k o a1 a8 a9 a10 a15 t bl eo ud 3 se wr d (emS dr 1 (TS fb L 1 ((sk fb L σ.1), σ.2))) fb L hL (TS fb L 1 ((sk fb L σ.1), σ.2)) A (va_D_of hD rfl) (okS_TS hL hoks) 1 (fun z => by simp only [emS, ifp_t z]; exact ⟨(em1_n (by omega)).1, by rw [(em1_n (dr := dr) (v := 1) (by omega)).2]; omega⟩)) (cwV 1 hts (lw_V q1823 q1825 qs47 q76 q1826) rfl rfl rfl (by decide +kernel) ⟨Nat.le_of_ble_eq_true rfl, Nat.le_of_ble_eq_true rfl⟩) hK (va_recv hK hP (ci := 0) (q0 := 0) rfl rfl) hP hS (fun _ h => h) rfl hl.1 rfl (Nat.le_of_ble_eq_true rfl) dX5_factor_162 ⟨Nat.le_of_ble_eq_true rfl, Nat.le_of_ble_eq_true rfl⟩ (fun H locs hP hS _ _ => ?_)
                have hP : va_P D clA ((o, .inr (0, [.int t, .ref a1, .int bl, .int (nI L), .int (nI (TS fb L 1 ((sk fb L σ.1), σ.2)).1), .int ((TS fb L 1 ((sk fb L σ.1), σ.2)).2.1), .int ((TS fb L 1 ((sk fb L σ.1), σ.2)).2.2.1), .int eo, .ref a8, .ref a9, .ref a10, .int ud, .int (nI (TS fb L 1 ((sk fb L σ.1), σ.2)).2.2.2), .int 3, .int se, .ref a15])) :: (a8, .inl (k 0, 1798, .inl d)) :: (a9, .inl (k 0, 1798, .inl (emS (emS dr 1 (TS fb L 1 ((sk fb L σ.1), σ.2))) 1 (TS fb L 1 ((sk fb L σ.1), σ.2))))) :: (a1, .inl (k 0, 900, .inl fb)) :: wr) H := hP
                exact w_vret C (by simp only [px, ifp_t b_4, ifp_f c_16, ifp_f (show ¬ dig _ from b_82), ifp_f b_95, ifp_t b_108]; simp only [emS, ifp_t (show (TS fb L 1 (sk fb L σ.1, σ.2)).2.1 = 0 by rw [TS_er]; exact b_4)] at hP; exact hP) hS dX5_factor_165
              · exact absurd c_149 (by decide)
            · exact absurd c_131 (by decide)
        · have b_95 := bI_nz c_95
          have hw := (okS_TS (fb := fb) (i := 0) hL hoks).1 (by rw [TS_er]; exact b_4)
          rw [TS_yes b_95] at hw
          have hw : sk fb L (sk fb L σ.1) + 6 ≤ L := hw
          refine lv_iconst (v := 0) hx hb dX5_factor_98 rfl ?_
          refine lv_goto (tgt := 129) hx hb dX5_factor_99 (by decide) ?_
          refine lv_istore_n (lv' := [(2, .int 0), (1, .int (byt fb L (sk fb L σ.1))), (0, .ref o)]) hx hb dX5_factor_129 rfl hl (by decide) rfl (fun ls hl => ?_)
          refine lv_iload_n hx hb dX5_factor_130 rfl (lv_at hl 0 rfl) ?_
          refine lv_if_ge (tgt := 145) hx hb dX5_factor_131 (by decide) (fun c_131 => ?_) (fun c_131 => ?_)
          · refine lv_iload_n hx hb dX5_factor_145 rfl (lv_at hl 0 rfl) ?_
            refine lv_istore_n (lv' := [(3, .int 0), (2, .int 0), (1, .int (byt fb L (sk fb L σ.1))), (0, .ref o)]) hx hb dX5_factor_146 rfl hl (by decide) rfl (fun ls hl => ?_)
            refine lv_aload_n hx hb dX5_factor_147 rfl (lv_at hl 3 rfl) ?_
            refine lv_iload_n hx hb dX5_factor_148 rfl (lv_at hl 1 rfl) ?_
            refine lv_if_ge (tgt := 156) hx hb dX5_factor_149 (by decide) (fun c_149 => ?_) (fun c_149 => ?_)
            · refine lv_iconst (v := 1) hx hb dX5_factor_156 rfl ?_
              refine w_callV (As := [.int 1]) (rest := []) C (m_emit l D k o a1 a8 a9 a10 a15 t bl eo ud 3 se wr d dr fb L hL (TS fb L 0 ((sk fb L σ.1), σ.2)) A (va_D_of hD rfl) (okS_TS hL hoks) 1 (fun _ => ⟨c1, by omega⟩)) (cwV 1 hts (lw_V q1823 q1825 qs47 q76 q1826) rfl rfl rfl (by decide +kernel) ⟨Nat.le_of_ble_eq_true rfl, Nat.le_of_ble_eq_true rfl⟩) hK (va_recv hK hP (ci := 0) (q0 := 0) rfl rfl) hP hS (fun _ h => h) rfl hl.1 rfl (Nat.le_of_ble_eq_true rfl) dX5_factor_157 ⟨Nat.le_of_ble_eq_true rfl, Nat.le_of_ble_eq_true rfl⟩ (fun H locs hP hS _ _ => ?_)
              have hP : va_P D clA ((o, .inr (0, [.int t, .ref a1, .int bl, .int (nI L), .int (nI (TS fb L 0 ((sk fb L σ.1), σ.2)).1), .int ((TS fb L 0 ((sk fb L σ.1), σ.2)).2.1), .int ((TS fb L 0 ((sk fb L σ.1), σ.2)).2.2.1), .int eo, .ref a8, .ref a9, .ref a10, .int ud, .int (nI (TS fb L 0 ((sk fb L σ.1), σ.2)).2.2.2), .int 3, .int se, .ref a15])) :: (a8, .inl (k 0, 1798, .inl d)) :: (a9, .inl (k 0, 1798, .inl (emS dr 1 (TS fb L 0 ((sk fb L σ.1), σ.2))))) :: (a1, .inl (k 0, 900, .inl fb)) :: wr) H := hP
              refine lv_aload_n hx hb dX5_factor_160 rfl (lv_at hl 3 rfl) ?_
              refine lv_iload_n hx hb dX5_factor_161 rfl (lv_at hl 0 rfl) ?_
              refine w_callV (As := [.int 0]) (rest := []) C (m_emit l D k o a1 a8 a9 a10 a15 t bl eo ud 3 se wr d (emS dr 1 (TS fb L 0 ((sk fb L σ.1), σ.2))) fb L hL (TS fb L 0 ((sk fb L σ.1), σ.2)) A (va_D_of hD rfl) (okS_TS hL hoks) 0 (fun z => by simp only [emS, ifp_t z]; exact ⟨(em1_n (by omega)).1, by rw [(em1_n (dr := dr) (v := 1) (by omega)).2]; omega⟩)) (cwV 1 hts (lw_V q1823 q1825 qs47 q76 q1826) rfl rfl rfl (by decide +kernel) ⟨Nat.le_of_ble_eq_true rfl, Nat.le_of_ble_eq_true rfl⟩) hK (va_recv hK hP (ci := 0) (q0 := 0) rfl rfl) hP hS (fun _ h => h) rfl hl.1 rfl (Nat.le_of_ble_eq_true rfl) dX5_factor_162 ⟨Nat.le_of_ble_eq_true rfl, Nat.le_of_ble_eq_true rfl⟩ (fun H locs hP hS _ _ => ?_)
              have hP : va_P D clA ((o, .inr (0, [.int t, .ref a1, .int bl, .int (nI L), .int (nI (TS fb L 0 ((sk fb L σ.1), σ.2)).1), .int ((TS fb L 0 ((sk fb L σ.1), σ.2)).2.1), .int ((TS fb L 0 ((sk fb L σ.1), σ.2)).2.2.1), .int eo, .ref a8, .ref a9, .ref a10, .int ud, .int (nI (TS fb L 0 ((sk fb L σ.1), σ.2)).2.2.2), .int 3, .int se, .ref a15])) :: (a8, .inl (k 0, 1798, .inl d)) :: (a9, .inl (k 0, 1798, .inl (emS (emS dr 1 (TS fb L 0 ((sk fb L σ.1), σ.2))) 0 (TS fb L 0 ((sk fb L σ.1), σ.2))))) :: (a1, .inl (k 0, 900, .inl fb)) :: wr) H := hP
              exact w_vret C (by simp only [px, ifp_t b_4, ifp_f c_16, ifp_f (show ¬ dig _ from b_82), ifp_t b_95]; simp only [emS, ifp_t (show (TS fb L 0 (sk fb L σ.1, σ.2)).2.1 = 0 by rw [TS_er]; exact b_4)] at hP; exact hP) hS dX5_factor_165
            · exact absurd c_149 (by decide)
          · exact absurd c_131 (by decide)
      · have b_82 := bI_nz c_82
        refine lv_iconst (v := (-1)) hx hb dX5_factor_85 rfl ?_
        refine lv_goto (tgt := 129) hx hb dX5_factor_86 (by decide) ?_
        refine lv_istore_n (lv' := [(2, .int (-1)), (1, .int (byt fb L (sk fb L σ.1))), (0, .ref o)]) hx hb dX5_factor_129 rfl hl (by decide) rfl (fun ls hl => ?_)
        refine lv_iload_n hx hb dX5_factor_130 rfl (lv_at hl 0 rfl) ?_
        refine lv_if_ge (tgt := 145) hx hb dX5_factor_131 (by decide) (fun c_131 => ?_) (fun c_131 => ?_)
        · exact absurd c_131 (by decide)
        · refine lv_aload_n hx hb dX5_factor_134 rfl (lv_at hl 2 rfl) ?_
          refine lv_iconst (v := 0) hx hb dX5_factor_135 rfl ?_
          refine lv_sipush (v := 9999) hx hb dX5_factor_136 rfl ?_
          refine w_callV (As := [.int 0, .int 9999]) (rest := []) C (m_number l D k o a1 a8 a9 a10 a15 t bl eo ud 3 se wr d dr fb L hL ((sk fb L σ.1), σ.2) A (va_D_of hD rfl) hoks 0 9999) (cwV 2 hts (lw_V q1768 q1770 qs38 q76 q1771) rfl rfl rfl (by decide +kernel) ⟨Nat.le_of_ble_eq_true rfl, Nat.le_of_ble_eq_true rfl⟩) hK (va_recv hK hP (ci := 0) (q0 := 0) rfl rfl) hP hS (fun _ h => h) rfl hl.1 rfl (Nat.le_of_ble_eq_true rfl) dX5_factor_139 ⟨Nat.le_of_ble_eq_true rfl, Nat.le_of_ble_eq_true rfl⟩ (fun H locs hP hS _ _ => ?_)
          have hP : va_P D clA ((o, .inr (0, [.int t, .ref a1, .int bl, .int (nI L), .int (nI (nmS fb L 0 9999 ((sk fb L σ.1), σ.2)).2.1), .int ((nmS fb L 0 9999 ((sk fb L σ.1), σ.2)).2.2.1), .int ((nmS fb L 0 9999 ((sk fb L σ.1), σ.2)).2.2.2.1), .int eo, .ref a8, .ref a9, .ref a10, .int ud, .int (nI (nmS fb L 0 9999 ((sk fb L σ.1), σ.2)).2.2.2.2), .int 3, .int se, .ref a15])) :: (a8, .inl (k 0, 1798, .inl d)) :: (a9, .inl (k 0, 1798, .inl dr)) :: (a1, .inl (k 0, 900, .inl fb)) :: wr) H := hP
          refine lv_goto (tgt := 146) hx hb dX5_factor_142 (by decide) ?_
          refine lv_istore_n (lv' := [(3, .int ((nmS fb L 0 9999 ((sk fb L σ.1), σ.2)).1)), (2, .int (-1)), (1, .int (byt fb L (sk fb L σ.1))), (0, .ref o)]) hx hb dX5_factor_146 rfl hl (by decide) rfl (fun ls hl => ?_)
          refine lv_aload_n hx hb dX5_factor_147 rfl (lv_at hl 3 rfl) ?_
          refine lv_iload_n hx hb dX5_factor_148 rfl (lv_at hl 1 rfl) ?_
          refine lv_if_ge (tgt := 156) hx hb dX5_factor_149 (by decide) (fun c_149 => ?_) (fun c_149 => ?_)
          · exact absurd c_149 (by decide)
          · refine lv_iconst (v := 0) hx hb dX5_factor_152 rfl ?_
            refine lv_goto (tgt := 157) hx hb dX5_factor_153 (by decide) ?_
            refine w_callV (As := [.int 0]) (rest := []) C (m_emit l D k o a1 a8 a9 a10 a15 t bl eo ud 3 se wr d dr fb L hL ((nmS fb L 0 9999 ((sk fb L σ.1), σ.2)).2) A (va_D_of hD rfl) (okS_nm hL hoks) 0 (fun z => ⟨c1, by omega⟩)) (cwV 1 hts (lw_V q1823 q1825 qs47 q76 q1826) rfl rfl rfl (by decide +kernel) ⟨Nat.le_of_ble_eq_true rfl, Nat.le_of_ble_eq_true rfl⟩) hK (va_recv hK hP (ci := 0) (q0 := 0) rfl rfl) hP hS (fun _ h => h) rfl hl.1 rfl (Nat.le_of_ble_eq_true rfl) dX5_factor_157 ⟨Nat.le_of_ble_eq_true rfl, Nat.le_of_ble_eq_true rfl⟩ (fun H locs hP hS _ _ => ?_)
            have hP : va_P D clA ((o, .inr (0, [.int t, .ref a1, .int bl, .int (nI L), .int (nI (nmS fb L 0 9999 ((sk fb L σ.1), σ.2)).2.1), .int ((nmS fb L 0 9999 ((sk fb L σ.1), σ.2)).2.2.1), .int ((nmS fb L 0 9999 ((sk fb L σ.1), σ.2)).2.2.2.1), .int eo, .ref a8, .ref a9, .ref a10, .int ud, .int (nI (nmS fb L 0 9999 ((sk fb L σ.1), σ.2)).2.2.2.2), .int 3, .int se, .ref a15])) :: (a8, .inl (k 0, 1798, .inl d)) :: (a9, .inl (k 0, 1798, .inl (emS dr 0 ((nmS fb L 0 9999 ((sk fb L σ.1), σ.2)).2)))) :: (a1, .inl (k 0, 900, .inl fb)) :: wr) H := hP
            refine lv_aload_n hx hb dX5_factor_160 rfl (lv_at hl 3 rfl) ?_
            refine lv_iload_n hx hb dX5_factor_161 rfl (lv_at hl 0 rfl) ?_
            refine w_callV (As := [.int ((nmS fb L 0 9999 ((sk fb L σ.1), σ.2)).1)]) (rest := []) C (m_emit l D k o a1 a8 a9 a10 a15 t bl eo ud 3 se wr d (emS dr 0 ((nmS fb L 0 9999 ((sk fb L σ.1), σ.2)).2)) fb L hL ((nmS fb L 0 9999 ((sk fb L σ.1), σ.2)).2) A (va_D_of hD rfl) (okS_nm hL hoks) ((nmS fb L 0 9999 ((sk fb L σ.1), σ.2)).1) (fun z => by simp only [emS, ifp_t z]; have g1 := (nm_fwd hoks z).2.1; have g2 := (okS_nm (fb := fb) (lo := 0) (hi := 9999) hL hoks).1 z; have g1 : sk fb L σ.1 < _ := g1; exact ⟨(em1_n (by omega)).1, by rw [(em1_n (dr := dr) (v := 0) (by omega)).2]; omega⟩)) (cwV 1 hts (lw_V q1823 q1825 qs47 q76 q1826) rfl rfl rfl (by decide +kernel) ⟨Nat.le_of_ble_eq_true rfl, Nat.le_of_ble_eq_true rfl⟩) hK (va_recv hK hP (ci := 0) (q0 := 0) rfl rfl) hP hS (fun _ h => h) rfl hl.1 rfl (Nat.le_of_ble_eq_true rfl) dX5_factor_162 ⟨Nat.le_of_ble_eq_true rfl, Nat.le_of_ble_eq_true rfl⟩ (fun H locs hP hS _ _ => ?_)
            have hP : va_P D clA ((o, .inr (0, [.int t, .ref a1, .int bl, .int (nI L), .int (nI (nmS fb L 0 9999 ((sk fb L σ.1), σ.2)).2.1), .int ((nmS fb L 0 9999 ((sk fb L σ.1), σ.2)).2.2.1), .int ((nmS fb L 0 9999 ((sk fb L σ.1), σ.2)).2.2.2.1), .int eo, .ref a8, .ref a9, .ref a10, .int ud, .int (nI (nmS fb L 0 9999 ((sk fb L σ.1), σ.2)).2.2.2.2), .int 3, .int se, .ref a15])) :: (a8, .inl (k 0, 1798, .inl d)) :: (a9, .inl (k 0, 1798, .inl (emS (emS dr 0 ((nmS fb L 0 9999 ((sk fb L σ.1), σ.2)).2)) ((nmS fb L 0 9999 ((sk fb L σ.1), σ.2)).1) ((nmS fb L 0 9999 ((sk fb L σ.1), σ.2)).2)))) :: (a1, .inl (k 0, 900, .inl fb)) :: wr) H := hP
            exact w_vret C (by first | (simp only [px, ifp_t b_4, ifp_f c_16, ifp_t (show dig _ from b_82)]; rw [← lit_em]; exact hP) | (simp only [px, ifp_t b_4, ifp_f c_16, ifp_f (show ¬ dig _ from b_82), ifp_f b_95, ifp_f b_108, ifp_f b_121]; rw [← lit_em]; exact hP)) hS dX5_factor_165
    · have hlt := byt_lt c_16 (by decide)
      have hok1 := okS_s1 hL hok c_16 (by decide)
      have q := px_ok (fb := fb) hL f 2 4 _ hok1 (fun _ => by show 3 * (L - (sk fb L σ.1 + 1)) + 3 ≤ f; omega)
      refine lv_aload_n hx hb dX5_factor_19 rfl (lv_at hl 1 rfl) ?_
      refine va_get hx hb hts in_X5 hown hK hP 0 rfl rfl 13 (by decide) (hts _ q1675) (fun _ h => h) rfl dX5_factor_20 ?_
      refine lv_iconst (v := 4) hx hb dX5_factor_23 rfl ?_
      refine lv_icmp_ne (tgt := 37) hx hb dX5_factor_24 (by decide) (fun c_24 => ?_) (fun c_24 => ?_)
      · refine lv_aload_n hx hb dX5_factor_37 rfl (lv_at hl 1 rfl) ?_
        refine lv_dup hx hb dX5_factor_38 rfl ?_
        refine va_get hx hb hts in_X5 hown hK hP 0 rfl rfl 4 (by decide) (hts _ q1666) (fun _ h => h) rfl dX5_factor_39 ?_
        refine lv_iconst (v := 1) hx hb dX5_factor_42 rfl ?_
        refine lv_iadd hx hb dX5_factor_43 ?_
        refine w_topi (y := nI ((sk fb L σ.1) + 1)) (nI_add (sk fb L σ.1) 1) ?_
        refine va_put hx hb hts in_X5 tyX5 tyX5_ok nmX5 hown hK hP (va_D_of hD rfl) hS 0 rfl rfl 4 (by decide) (hts _ q1666) (fun _ h => h) rfl rfl rfl rfl (Nat.le_of_ble_eq_true rfl) dX5_factor_44 (fun H locs hP _ hS => ?_)
        have hP : va_P D clA ((o, .inr (0, [.int t, .ref a1, .int bl, .int (nI L), .int (nI ((sk fb L σ.1) + 1)), .int σ.2.1, .int σ.2.2.1, .int eo, .ref a8, .ref a9, .ref a10, .int ud, .int (nI σ.2.2.2), .int 3, .int se, .ref a15])) :: (a8, .inl (k 0, 1798, .inl d)) :: (a9, .inl (k 0, 1798, .inl dr)) :: (a1, .inl (k 0, 900, .inl fb)) :: wr) H := hP
        refine lv_aload_n hx hb dX5_factor_47 rfl (lv_at hl 1 rfl) ?_
        refine lv_dup hx hb dX5_factor_48 rfl ?_
        refine va_get hx hb hts in_X5 hown hK hP 0 rfl rfl 13 (by decide) (hts _ q1675) (fun _ h => h) rfl dX5_factor_49 ?_
        refine lv_iconst (v := 1) hx hb dX5_factor_52 rfl ?_
        refine lv_iadd hx hb dX5_factor_53 ?_
        refine w_topi (y := 4) (by decide) ?_
        refine va_put hx hb hts in_X5 tyX5 tyX5_ok nmX5 hown hK hP (va_D_of hD rfl) hS 0 rfl rfl 13 (by decide) (hts _ q1675) (fun _ h => h) rfl rfl rfl rfl (Nat.le_of_ble_eq_true rfl) dX5_factor_54 (fun H locs hP _ hS => ?_)
        have hP : va_P D clA ((o, .inr (0, [.int t, .ref a1, .int bl, .int (nI L), .int (nI ((sk fb L σ.1) + 1)), .int σ.2.1, .int σ.2.2.1, .int eo, .ref a8, .ref a9, .ref a10, .int ud, .int (nI σ.2.2.2), .int 4, .int se, .ref a15])) :: (a8, .inl (k 0, 1798, .inl d)) :: (a9, .inl (k 0, 1798, .inl dr)) :: (a1, .inl (k 0, 900, .inl fb)) :: wr) H := hP
        refine lv_aload_n hx hb dX5_factor_57 rfl (lv_at hl 1 rfl) ?_
        refine x_callV (As := []) (rest := []) C (m_sum_4 l D k o a1 a8 a9 a10 a15 t bl eo ud se wr d dr fb L hL (((sk fb L σ.1) + 1), σ.2) A (va_D_of hD rfl) hok1 sA sV f (fun _ => by show 3 * (L - (sk fb L σ.1 + 1)) + 3 ≤ f; omega) (fun _ => ⟨c1, by show 2 * dN dr 5 + 3 * (L - (sk fb L σ.1 + 1)) + 1 ≤ 3000; omega⟩)) (cwV 0 hts (lw_V q1804 q1806 qs43 q76 q1807) rfl rfl rfl (by decide +kernel) ⟨Nat.le_of_ble_eq_true rfl, Nat.le_of_ble_eq_true rfl⟩) hK (va_recv hK hP (ci := 0) (q0 := 0) rfl rfl) mv2_MS hP (fun U hU hW => MS_to hX hS (fun _ h => h) U hU hW) hS (fun _ h => h) rfl hl.1 rfl (Nat.le_of_ble_eq_true rfl) dX5_factor_58 ⟨Nat.le_of_ble_eq_true rfl, Nat.le_of_ble_eq_true rfl⟩ (fun H locs hP hS _ _ => ?_)
        have hP : va_P D clA ((o, .inr (0, [.int t, .ref a1, .int bl, .int (nI L), .int (nI (px fb L f 2 4 (((sk fb L σ.1) + 1), σ.2)).1.1), .int ((px fb L f 2 4 (((sk fb L σ.1) + 1), σ.2)).1.2.1), .int ((px fb L f 2 4 (((sk fb L σ.1) + 1), σ.2)).1.2.2.1), .int eo, .ref a8, .ref a9, .ref a10, .int ud, .int (nI (px fb L f 2 4 (((sk fb L σ.1) + 1), σ.2)).1.2.2.2), .int 4, .int se, .ref a15])) :: (a8, .inl (k 0, 1798, .inl d)) :: (a9, .inl (k 0, 1798, .inl (emL dr (px fb L f 2 4 (((sk fb L σ.1) + 1), σ.2)).2))) :: (a1, .inl (k 0, 900, .inl fb)) :: wr) H := hP
        refine lv_aload_n hx hb dX5_factor_61 rfl (lv_at hl 1 rfl) ?_
        refine lv_bipush (v := 41) hx hb dX5_factor_62 rfl ?_
        refine w_callV (As := [.int 41]) (rest := []) C (m_expect l D k o a1 a8 a9 a10 a15 t bl eo ud 4 se wr d (emL dr (px fb L f 2 4 (((sk fb L σ.1) + 1), σ.2)).2) fb L hL ((px fb L f 2 4 (((sk fb L σ.1) + 1), σ.2)).1) A (va_D_of hD rfl) q.1 41) (cwV 1 hts (lw_V q1816 q1818 qs46 q76 q1819) rfl rfl rfl (by decide +kernel) ⟨Nat.le_of_ble_eq_true rfl, Nat.le_of_ble_eq_true rfl⟩) hK (va_recv hK hP (ci := 0) (q0 := 0) rfl rfl) hP hS (fun _ h => h) rfl hl.1 rfl (Nat.le_of_ble_eq_true rfl) dX5_factor_64 ⟨Nat.le_of_ble_eq_true rfl, Nat.le_of_ble_eq_true rfl⟩ (fun H locs hP hS _ _ => ?_)
        have hP : va_P D clA ((o, .inr (0, [.int t, .ref a1, .int bl, .int (nI L), .int (nI (exS fb L 41 ((px fb L f 2 4 (((sk fb L σ.1) + 1), σ.2)).1)).1), .int ((exS fb L 41 ((px fb L f 2 4 (((sk fb L σ.1) + 1), σ.2)).1)).2.1), .int ((exS fb L 41 ((px fb L f 2 4 (((sk fb L σ.1) + 1), σ.2)).1)).2.2.1), .int eo, .ref a8, .ref a9, .ref a10, .int ud, .int (nI (exS fb L 41 ((px fb L f 2 4 (((sk fb L σ.1) + 1), σ.2)).1)).2.2.2), .int 4, .int se, .ref a15])) :: (a8, .inl (k 0, 1798, .inl d)) :: (a9, .inl (k 0, 1798, .inl (emL dr (px fb L f 2 4 (((sk fb L σ.1) + 1), σ.2)).2))) :: (a1, .inl (k 0, 900, .inl fb)) :: wr) H := hP
        refine lv_aload_n hx hb dX5_factor_67 rfl (lv_at hl 1 rfl) ?_
        refine lv_dup hx hb dX5_factor_68 rfl ?_
        refine va_get hx hb hts in_X5 hown hK hP 0 rfl rfl 13 (by decide) (hts _ q1675) (fun _ h => h) rfl dX5_factor_69 ?_
        refine lv_iconst (v := 1) hx hb dX5_factor_72 rfl ?_
        refine lv_isub hx hb dX5_factor_73 ?_
        refine w_topi (y := 3) (by decide) ?_
        refine va_put hx hb hts in_X5 tyX5 tyX5_ok nmX5 hown hK hP (va_D_of hD rfl) hS 0 rfl rfl 13 (by decide) (hts _ q1675) (fun _ h => h) rfl rfl rfl rfl (Nat.le_of_ble_eq_true rfl) dX5_factor_74 (fun H locs hP _ hS => ?_)
        have hP : va_P D clA ((o, .inr (0, [.int t, .ref a1, .int bl, .int (nI L), .int (nI (exS fb L 41 ((px fb L f 2 4 (((sk fb L σ.1) + 1), σ.2)).1)).1), .int ((exS fb L 41 ((px fb L f 2 4 (((sk fb L σ.1) + 1), σ.2)).1)).2.1), .int ((exS fb L 41 ((px fb L f 2 4 (((sk fb L σ.1) + 1), σ.2)).1)).2.2.1), .int eo, .ref a8, .ref a9, .ref a10, .int ud, .int (nI (exS fb L 41 ((px fb L f 2 4 (((sk fb L σ.1) + 1), σ.2)).1)).2.2.2), .int 3, .int se, .ref a15])) :: (a8, .inl (k 0, 1798, .inl d)) :: (a9, .inl (k 0, 1798, .inl (emL dr (px fb L f 2 4 (((sk fb L σ.1) + 1), σ.2)).2))) :: (a1, .inl (k 0, 900, .inl fb)) :: wr) H := hP
        exact w_vret C (by simp only [px, ifp_t b_4, ifp_t c_16, ifp_F, Nat.reduceEqDiff]; exact hP) hS dX5_factor_77
      · exact absurd c_24 (by decide)
  · have b_4 := bI_0.mp c_4
    exact w_vret C (by rw [px_bad b_4]; exact hP) hS dX5_factor_7
set_option maxHeartbeats 16000000 in
theorem m_term_3 (l : Launch) (D : va_G) (k : Nat → ClassId) (o a1 a8 a9 a10 a15 : Nat) (t bl eo ud se : Int32) (wr : va_W) (d dr fb : Nat → Int32) (L : Nat) (hL : L ≤ 900) (σ : PS) (A : Nat → Prop) (hD : va_D A ((o, .inr (0, [.int t, .ref a1, .int bl, .int (nI L), .int (nI σ.1), .int σ.2.1, .int σ.2.2.1, .int eo, .ref a8, .ref a9, .ref a10, .int ud, .int (nI σ.2.2.2), .int 3, .int se, .ref a15])) :: (a8, .inl (k 0, 1798, .inl d)) :: (a9, .inl (k 0, 1798, .inl dr)) :: (a1, .inl (k 0, 900, .inl fb)) :: wr)) (hok : okS L σ) (sA sV : Nat → Nat) (f : Nat) (hf : σ.2.1 = 0 → nee 1 (L - σ.1) ≤ f) (h5 : σ.2.1 = 0 → dr 5 = nI (dN dr 5) ∧ 2 * dN dr 5 + 3 * (L - σ.1) + 1 ≤ 3000) : xM l D k yX5_term cX5_term 2 none 9 195 [.ref o] ((o, .inr (0, [.int t, .ref a1, .int bl, .int (nI L), .int (nI σ.1), .int σ.2.1, .int σ.2.2.1, .int eo, .ref a8, .ref a9, .ref a10, .int ud, .int (nI σ.2.2.2), .int 3, .int se, .ref a15])) :: (a8, .inl (k 0, 1798, .inl d)) :: (a9, .inl (k 0, 1798, .inl dr)) :: (a1, .inl (k 0, 900, .inl fb)) :: wr) (MS A sA sV) (none) ((o, .inr (0, [.int t, .ref a1, .int bl, .int (nI L), .int (nI (px fb L f 1 3 σ).1.1), .int ((px fb L f 1 3 σ).1.2.1), .int ((px fb L f 1 3 σ).1.2.2.1), .int eo, .ref a8, .ref a9, .ref a10, .int ud, .int (nI (px fb L f 1 3 σ).1.2.2.2), .int 3, .int se, .ref a15])) :: (a8, .inl (k 0, 1798, .inl d)) :: (a9, .inl (k 0, 1798, .inl (emL dr (px fb L f 1 3 σ).2))) :: (a1, .inl (k 0, 900, .inl fb)) :: wr) A := by
  refine xM_of (by decide) (Nat.le_of_ble_eq_true rfl) ?_
  intro p e s m below meth c ls C hK hX hP hS hl
  obtain ⟨hE, hT⟩ := id hX
  obtain ⟨hx, hb, hr, hml, hown, hts, hlk⟩ := id C
  have hl : lv_has ls 2 [(0, .ref o)] := hl
  rcases Classical.em (σ.2.1 = 0) with hg0 | hg0
  · have hp0 := hok.1 hg0
    have hf := hf hg0
    obtain ⟨c1, c2⟩ := h5 hg0
    obtain ⟨f, rfl⟩ : ∃ g, f = g + 1 := ⟨f - 1, by have hf : 3 * (L - σ.1) + 2 ≤ f := hf; omega⟩
    have hf : 3 * (L - σ.1) + 2 ≤ f + 1 := hf
    have q0 := px_ok (fb := fb) hL f 0 3 σ hok (fun _ => by show 3 * (L - σ.1) + 1 ≤ f; omega)
    refine lv_aload_n hx hb dX5_term_0 rfl (lv_at hl 0 rfl) ?_
    refine x_callV (As := []) (rest := []) C (m_factor_3 l D k o a1 a8 a9 a10 a15 t bl eo ud se wr d dr fb L hL σ A (va_D_of hD rfl) hok sA sV f (fun _ => by show 3 * (L - σ.1) + 1 ≤ f; omega) h5) (cwV 0 hts (lw_V q1812 q1814 qs45 q76 q1815) rfl rfl rfl (by decide +kernel) ⟨Nat.le_of_ble_eq_true rfl, Nat.le_of_ble_eq_true rfl⟩) hK (va_recv hK hP (ci := 0) (q0 := 0) rfl rfl) mv2_MS hP (fun U hU hW => MS_to hX hS (fun _ h => h) U hU hW) hS (fun _ h => h) rfl hl.1 rfl (Nat.le_of_ble_eq_true rfl) dX5_term_1 ⟨Nat.le_of_ble_eq_true rfl, Nat.le_of_ble_eq_true rfl⟩ (fun H locs hP hS _ _ => ?_)
    have hP : va_P D clA ((o, .inr (0, [.int t, .ref a1, .int bl, .int (nI L), .int (nI (px fb L f 0 3 σ).1.1), .int ((px fb L f 0 3 σ).1.2.1), .int ((px fb L f 0 3 σ).1.2.2.1), .int eo, .ref a8, .ref a9, .ref a10, .int ud, .int (nI (px fb L f 0 3 σ).1.2.2.2), .int 3, .int se, .ref a15])) :: (a8, .inl (k 0, 1798, .inl d)) :: (a9, .inl (k 0, 1798, .inl (emL dr (px fb L f 0 3 σ).2))) :: (a1, .inl (k 0, 900, .inl fb)) :: wr) H := hP
    have loop_4 : ∀ (n : Nat) (τ : PS) (cs : List Int32), (okS L τ) → (τ.2.1 = 0 → 3 * (L - τ.1) + 1 ≤ n) → (τ.2.1 = 0 → 2 * (dN dr 5 + cs.length) + 3 * (L - τ.1) ≤ 3000) → ((px fb L n 3 3 τ).1 = (px fb L (f + 1) 1 3 σ).1) → (cs ++ (px fb L n 3 3 τ).2 = (px fb L (f + 1) 1 3 σ).2) → (1 ≤ n) → ∀ (H : Heap) (locs : List Loc), va_P D clA ((o, .inr (0, [.int t, .ref a1, .int bl, .int (nI L), .int (nI τ.1), .int τ.2.1, .int τ.2.2.1, .int eo, .ref a8, .ref a9, .ref a10, .int ud, .int (nI τ.2.2.2), .int 3, .int se, .ref a15])) :: (a8, .inl (k 0, 1798, .inl d)) :: (a9, .inl (k 0, 1798, .inl (emL dr cs))) :: (a1, .inl (k 0, 900, .inl fb)) :: wr) H → va_S A s.heap H locs → ∀ (ls : Array Slot), lv_has ls 2 [(0, .ref o)] → W p l e (Rm 9 195 0 0) s m ([.ref o] : List Value).toArray below meth c H locs 0 0 (MQ below (wQ D (none) ((o, .inr (0, [.int t, .ref a1, .int bl, .int (nI L), .int (nI (px fb L (f + 1) 1 3 σ).1.1), .int ((px fb L (f + 1) 1 3 σ).1.2.1), .int ((px fb L (f + 1) 1 3 σ).1.2.2.1), .int eo, .ref a8, .ref a9, .ref a10, .int ud, .int (nI (px fb L (f + 1) 1 3 σ).1.2.2.2), .int 3, .int se, .ref a15])) :: (a8, .inl (k 0, 1798, .inl d)) :: (a9, .inl (k 0, 1798, .inl (emL dr (px fb L (f + 1) 1 3 σ).2))) :: (a1, .inl (k 0, 900, .inl fb)) :: wr) A) ([.ref o] : List Value).toArray s 0 0 A) (F0 m 4 ls []) := by
      intro n
      induction n with
      | zero =>
        intro τ cs ok2 hf2 hr2 he1 he2 hn
        exact absurd hn (by omega)
      | succ n ih_4 =>
        intro τ cs ok2 hf2 hr2 he1 he2 hn H locs hP hS ls hl
        refine lv_aload_n hx hb dX5_term_4 rfl (lv_at hl 0 rfl) ?_
        refine r_callV (As := []) (rest := []) C (m_isGood l D k o τ.2.1 ([.int t, .ref a1, .int bl, .int (nI L), .int (nI τ.1), .int τ.2.1, .int τ.2.2.1, .int eo, .ref a8, .ref a9, .ref a10, .int ud, .int (nI τ.2.2.2), .int 3, .int se, .ref a15] : List Value) rfl) (cwV 0 hts (lw_V q1731 q1733 qs32 q76 q1734) rfl rfl rfl (by decide +kernel) ⟨Nat.le_of_ble_eq_true rfl, Nat.le_of_ble_eq_true rfl⟩) hK (va_recv hK hP (ci := 0) (q0 := 0) rfl rfl) (hP.sub [0] rfl) rfl hl.1 rfl (Nat.le_of_ble_eq_true rfl) dX5_term_5 ⟨Nat.le_of_ble_eq_true rfl, Nat.le_of_ble_eq_true rfl⟩ ?_
        refine lv_if_eq (tgt := 74) hx hb dX5_term_8 (by decide) (fun c_8 => ?_) (fun c_8 => ?_)
        · have b_8 := bI_0.mp c_8
          exact w_vret C (by rw [px_bad b_8] at he1 he2; rw [List.append_nil] at he2; rw [← he1, ← he2]; exact hP) hS dX5_term_74
        · have b_8 := bI_nz c_8
          have hp := ok2.1 b_8
          have hs := sk_in (fb := fb) hp
          have hf2 := hf2 b_8
          have hr2 := hr2 b_8
          obtain ⟨d1, d2⟩ := room5 c1 hr2
          have hss : sk fb L (sk fb L τ.1) = sk fb L τ.1 := sk_sk hp
          refine lv_aload_n hx hb dX5_term_11 rfl (lv_at hl 0 rfl) ?_
          refine w_callV (As := []) (rest := []) C (m_next l D k o a1 a8 a9 a10 a15 t bl τ.2.1 τ.2.2.1 eo ud (nI τ.2.2.2) 3 se wr d (emL dr cs) fb L hL τ.1 A (va_D_of hD rfl) hp) (cwV 0 hts (lw_V q1735 q1737 qs33 q76 q1738) rfl rfl rfl (by decide +kernel) ⟨Nat.le_of_ble_eq_true rfl, Nat.le_of_ble_eq_true rfl⟩) hK (va_recv hK hP (ci := 0) (q0 := 0) rfl rfl) hP hS (fun _ h => h) rfl hl.1 rfl (Nat.le_of_ble_eq_true rfl) dX5_term_12 ⟨Nat.le_of_ble_eq_true rfl, Nat.le_of_ble_eq_true rfl⟩ (fun H locs hP hS _ _ => ?_)
          have hP : va_P D clA ((o, .inr (0, [.int t, .ref a1, .int bl, .int (nI L), .int (nI (sk fb L τ.1)), .int τ.2.1, .int τ.2.2.1, .int eo, .ref a8, .ref a9, .ref a10, .int ud, .int (nI τ.2.2.2), .int 3, .int se, .ref a15])) :: (a8, .inl (k 0, 1798, .inl d)) :: (a9, .inl (k 0, 1798, .inl (emL dr cs))) :: (a1, .inl (k 0, 900, .inl fb)) :: wr) H := hP
          refine lv_bipush (v := 42) hx hb dX5_term_15 rfl ?_
          refine lv_icmp_eq (tgt := 29) hx hb dX5_term_17 (by decide) (fun c_17 => ?_) (fun c_17 => ?_)
          · have ho : byt fb L (sk fb L τ.1) = 42 ∨ byt fb L (sk fb L τ.1) = 47 := Or.inl c_17
            have hlt : sk fb L τ.1 < L := ho.elim (fun e => byt_lt e (by decide)) (fun e => byt_lt e (by decide))
            have ok3 : okS L (sk fb L τ.1 + 1, τ.2) := ho.elim (fun e => okS_s1 hL ok2 e (by decide)) (fun e => okS_s1 hL ok2 e (by decide))
            have q := px_ok (fb := fb) hL n 0 3 (sk fb L τ.1 + 1, τ.2) ok3 (fun _ => by show 3 * (L - (sk fb L τ.1 + 1)) + 1 ≤ n; omega)
            refine lv_aload_n hx hb dX5_term_29 rfl (lv_at hl 0 rfl) ?_
            refine w_callV (As := []) (rest := []) C (m_next l D k o a1 a8 a9 a10 a15 t bl τ.2.1 τ.2.2.1 eo ud (nI τ.2.2.2) 3 se wr d (emL dr cs) fb L hL (sk fb L τ.1) A (va_D_of hD rfl) hs.2) (cwV 0 hts (lw_V q1735 q1737 qs33 q76 q1738) rfl rfl rfl (by decide +kernel) ⟨Nat.le_of_ble_eq_true rfl, Nat.le_of_ble_eq_true rfl⟩) hK (va_recv hK hP (ci := 0) (q0 := 0) rfl rfl) hP hS (fun _ h => h) rfl hl.1 rfl (Nat.le_of_ble_eq_true rfl) dX5_term_30 ⟨Nat.le_of_ble_eq_true rfl, Nat.le_of_ble_eq_true rfl⟩ (fun H locs hP hS _ _ => ?_)
            rw [hss] at hP
            rw [hss]
            have hP : va_P D clA ((o, .inr (0, [.int t, .ref a1, .int bl, .int (nI L), .int (nI (sk fb L τ.1)), .int τ.2.1, .int τ.2.2.1, .int eo, .ref a8, .ref a9, .ref a10, .int ud, .int (nI τ.2.2.2), .int 3, .int se, .ref a15])) :: (a8, .inl (k 0, 1798, .inl d)) :: (a9, .inl (k 0, 1798, .inl (emL dr cs))) :: (a1, .inl (k 0, 900, .inl fb)) :: wr) H := hP
            refine lv_bipush (v := 42) hx hb dX5_term_33 rfl ?_
            refine lv_icmp_ne (tgt := 42) hx hb dX5_term_35 (by decide) (fun c_35 => ?_) (fun c_35 => ?_)
            · exact absurd c_17 c_35
            · refine lv_iconst (v := 1) hx hb dX5_term_38 rfl ?_
              refine lv_goto (tgt := 43) hx hb dX5_term_39 (by decide) ?_
              refine lv_istore_n (lv' := [(1, .int 1), (0, .ref o)]) hx hb dX5_term_43 rfl hl (by decide) rfl (fun ls hl => ?_)
              refine lv_aload_n hx hb dX5_term_44 rfl (lv_at hl 1 rfl) ?_
              refine lv_dup hx hb dX5_term_45 rfl ?_
              refine va_get hx hb hts in_X5 hown hK hP 0 rfl rfl 4 (by decide) (hts _ q1666) (fun _ h => h) rfl dX5_term_46 ?_
              refine lv_iconst (v := 1) hx hb dX5_term_49 rfl ?_
              refine lv_iadd hx hb dX5_term_50 ?_
              refine w_topi (y := nI ((sk fb L τ.1) + 1)) (nI_add (sk fb L τ.1) 1) ?_
              refine va_put hx hb hts in_X5 tyX5 tyX5_ok nmX5 hown hK hP (va_D_of hD rfl) hS 0 rfl rfl 4 (by decide) (hts _ q1666) (fun _ h => h) rfl rfl rfl rfl (Nat.le_of_ble_eq_true rfl) dX5_term_51 (fun H locs hP _ hS => ?_)
              have hP : va_P D clA ((o, .inr (0, [.int t, .ref a1, .int bl, .int (nI L), .int (nI ((sk fb L τ.1) + 1)), .int τ.2.1, .int τ.2.2.1, .int eo, .ref a8, .ref a9, .ref a10, .int ud, .int (nI τ.2.2.2), .int 3, .int se, .ref a15])) :: (a8, .inl (k 0, 1798, .inl d)) :: (a9, .inl (k 0, 1798, .inl (emL dr cs))) :: (a1, .inl (k 0, 900, .inl fb)) :: wr) H := hP
              refine lv_aload_n hx hb dX5_term_54 rfl (lv_at hl 1 rfl) ?_
              refine x_callV (As := []) (rest := []) C (m_factor_3 l D k o a1 a8 a9 a10 a15 t bl eo ud se wr d (emL dr cs) fb L hL (((sk fb L τ.1) + 1), τ.2) A (va_D_of hD rfl) ok3 sA sV n (fun _ => by show 3 * (L - (sk fb L τ.1 + 1)) + 1 ≤ n; omega) (fun _ => ⟨d1, by show 2 * dN (emL dr cs) 5 + 3 * (L - (sk fb L τ.1 + 1)) + 1 ≤ 3000; omega⟩)) (cwV 0 hts (lw_V q1812 q1814 qs45 q76 q1815) rfl rfl rfl (by decide +kernel) ⟨Nat.le_of_ble_eq_true rfl, Nat.le_of_ble_eq_true rfl⟩) hK (va_recv hK hP (ci := 0) (q0 := 0) rfl rfl) mv2_MS hP (fun U hU hW => MS_to hX hS (fun _ h => h) U hU hW) hS (fun _ h => h) rfl hl.1 rfl (Nat.le_of_ble_eq_true rfl) dX5_term_55 ⟨Nat.le_of_ble_eq_true rfl, Nat.le_of_ble_eq_true rfl⟩ (fun H locs hP hS _ _ => ?_)
              have hP : va_P D clA ((o, .inr (0, [.int t, .ref a1, .int bl, .int (nI L), .int (nI (px fb L n 0 3 (((sk fb L τ.1) + 1), τ.2)).1.1), .int ((px fb L n 0 3 (((sk fb L τ.1) + 1), τ.2)).1.2.1), .int ((px fb L n 0 3 (((sk fb L τ.1) + 1), τ.2)).1.2.2.1), .int eo, .ref a8, .ref a9, .ref a10, .int ud, .int (nI (px fb L n 0 3 (((sk fb L τ.1) + 1), τ.2)).1.2.2.2), .int 3, .int se, .ref a15])) :: (a8, .inl (k 0, 1798, .inl d)) :: (a9, .inl (k 0, 1798, .inl (emL (emL dr cs) (px fb L n 0 3 (((sk fb L τ.1) + 1), τ.2)).2))) :: (a1, .inl (k 0, 900, .inl fb)) :: wr) H := hP
              refine lv_aload_n hx hb dX5_term_58 rfl (lv_at hl 1 rfl) ?_
              refine lv_iload_n hx hb dX5_term_59 rfl (lv_at hl 0 rfl) ?_
              refine lv_if_eq (tgt := 67) hx hb dX5_term_60 (by decide) (fun c_60 => ?_) (fun c_60 => ?_)
              · exact absurd c_60 (by decide)
              · refine lv_iconst (v := 4) hx hb dX5_term_63 rfl ?_
                refine lv_goto (tgt := 68) hx hb dX5_term_64 (by decide) ?_
                refine w_callV (As := [.int 4]) (rest := []) C (m_emit l D k o a1 a8 a9 a10 a15 t bl eo ud 3 se wr d (emL (emL dr cs) (px fb L n 0 3 (((sk fb L τ.1) + 1), τ.2)).2) fb L hL ((px fb L n 0 3 (((sk fb L τ.1) + 1), τ.2)).1) A (va_D_of hD rfl) q.1 4 (fun z => by obtain ⟨-, z2, z3, z4⟩ := q.2 z; have z2 : sk fb L τ.1 + 1 + 1 ≤ _ := z2; have z4 : _ ≤ 3 * (L - (sk fb L τ.1 + 1)) + 1 := z4; obtain ⟨y1, y2⟩ := emL_n (dr := emL dr cs) (px fb L n 0 3 (sk fb L τ.1 + 1, τ.2)).2 d1 (by omega); exact ⟨y1, by omega⟩)) (cwV 1 hts (lw_V q1823 q1825 qs47 q76 q1826) rfl rfl rfl (by decide +kernel) ⟨Nat.le_of_ble_eq_true rfl, Nat.le_of_ble_eq_true rfl⟩) hK (va_recv hK hP (ci := 0) (q0 := 0) rfl rfl) hP hS (fun _ h => h) rfl hl.1 rfl (Nat.le_of_ble_eq_true rfl) dX5_term_68 ⟨Nat.le_of_ble_eq_true rfl, Nat.le_of_ble_eq_true rfl⟩ (fun H locs hP hS _ _ => ?_)
                have hP : va_P D clA ((o, .inr (0, [.int t, .ref a1, .int bl, .int (nI L), .int (nI (px fb L n 0 3 (((sk fb L τ.1) + 1), τ.2)).1.1), .int ((px fb L n 0 3 (((sk fb L τ.1) + 1), τ.2)).1.2.1), .int ((px fb L n 0 3 (((sk fb L τ.1) + 1), τ.2)).1.2.2.1), .int eo, .ref a8, .ref a9, .ref a10, .int ud, .int (nI (px fb L n 0 3 (((sk fb L τ.1) + 1), τ.2)).1.2.2.2), .int 3, .int se, .ref a15])) :: (a8, .inl (k 0, 1798, .inl d)) :: (a9, .inl (k 0, 1798, .inl (emS (emL (emL dr cs) (px fb L n 0 3 (((sk fb L τ.1) + 1), τ.2)).2) 4 ((px fb L n 0 3 (((sk fb L τ.1) + 1), τ.2)).1)))) :: (a1, .inl (k 0, 900, .inl fb)) :: wr) H := hP
                refine lv_goto (tgt := 4) hx hb dX5_term_71 (by decide) ?_
                have hP : va_P D clA ((o, .inr (0, [.int t, .ref a1, .int bl, .int (nI L), .int (nI (px fb L n 0 3 (((sk fb L τ.1) + 1), τ.2)).1.1), .int ((px fb L n 0 3 (((sk fb L τ.1) + 1), τ.2)).1.2.1), .int ((px fb L n 0 3 (((sk fb L τ.1) + 1), τ.2)).1.2.2.1), .int eo, .ref a8, .ref a9, .ref a10, .int ud, .int (nI (px fb L n 0 3 (((sk fb L τ.1) + 1), τ.2)).1.2.2.2), .int 3, .int se, .ref a15])) :: (a8, .inl (k 0, 1798, .inl d)) :: (a9, .inl (k 0, 1798, .inl (emL dr (cs ++ ((px fb L n 0 3 (sk fb L τ.1 + 1, τ.2)).2 ++ ifp ((px fb L n 0 3 (sk fb L τ.1 + 1, τ.2)).1.2.1 = 0) [4] []))))) :: (a1, .inl (k 0, 900, .inl fb)) :: wr) H := by rw [emL_app, emL_app, ← emS_L]; exact hP
                simp only [px, ifp_t b_8, ifp_t ho, ifp_t c_17] at he1 he2
                exact ih_4 (px fb L n 0 3 (sk fb L τ.1 + 1, τ.2)).1 (cs ++ ((px fb L n 0 3 (sk fb L τ.1 + 1, τ.2)).2 ++ ifp ((px fb L n 0 3 (sk fb L τ.1 + 1, τ.2)).1.2.1 = 0) [4] [])) q.1 (fun z => by have z2 : sk fb L τ.1 + 1 + 1 ≤ _ := (q.2 z).2.1; show 3 * (L - (px fb L n 0 3 (sk fb L τ.1 + 1, τ.2)).1.1) + 1 ≤ n; omega) (fun z => by obtain ⟨-, z2, z3, z4⟩ := q.2 z; have z2 : sk fb L τ.1 + 1 + 1 ≤ _ := z2; have z4 : _ ≤ 3 * (L - (sk fb L τ.1 + 1)) + 1 := z4; rw [ifp_t z, List.length_append, List.length_append]; simp only [List.length_cons, List.length_nil]; omega) he1 (by rw [List.append_assoc]; exact he2) (by omega) _ _ hP hS ls (lv_sub hl [1] rfl)
          · refine lv_aload_n hx hb dX5_term_20 rfl (lv_at hl 0 rfl) ?_
            refine w_callV (As := []) (rest := []) C (m_next l D k o a1 a8 a9 a10 a15 t bl τ.2.1 τ.2.2.1 eo ud (nI τ.2.2.2) 3 se wr d (emL dr cs) fb L hL (sk fb L τ.1) A (va_D_of hD rfl) hs.2) (cwV 0 hts (lw_V q1735 q1737 qs33 q76 q1738) rfl rfl rfl (by decide +kernel) ⟨Nat.le_of_ble_eq_true rfl, Nat.le_of_ble_eq_true rfl⟩) hK (va_recv hK hP (ci := 0) (q0 := 0) rfl rfl) hP hS (fun _ h => h) rfl hl.1 rfl (Nat.le_of_ble_eq_true rfl) dX5_term_21 ⟨Nat.le_of_ble_eq_true rfl, Nat.le_of_ble_eq_true rfl⟩ (fun H locs hP hS _ _ => ?_)
            rw [hss] at hP
            rw [hss]
            have hP : va_P D clA ((o, .inr (0, [.int t, .ref a1, .int bl, .int (nI L), .int (nI (sk fb L τ.1)), .int τ.2.1, .int τ.2.2.1, .int eo, .ref a8, .ref a9, .ref a10, .int ud, .int (nI τ.2.2.2), .int 3, .int se, .ref a15])) :: (a8, .inl (k 0, 1798, .inl d)) :: (a9, .inl (k 0, 1798, .inl (emL dr cs))) :: (a1, .inl (k 0, 900, .inl fb)) :: wr) H := hP
            refine lv_bipush (v := 47) hx hb dX5_term_24 rfl ?_
            refine lv_icmp_ne (tgt := 74) hx hb dX5_term_26 (by decide) (fun c_26 => ?_) (fun c_26 => ?_)
            · exact w_vret C (by simp only [px, ifp_t b_8, ifp_f (show ¬ (byt fb L (sk fb L τ.1) = 42 ∨ byt fb L (sk fb L τ.1) = 47) from fun h => h.elim c_17 c_26)] at he1 he2; rw [List.append_nil] at he2; have e1 : (sk fb L τ.1, τ.2) = (px fb L (f + 1) 1 3 σ).1 := he1; have e2 : cs = (px fb L (f + 1) 1 3 σ).2 := he2; rw [← e1, ← e2]; exact hP) hS dX5_term_74
            · have ho : byt fb L (sk fb L τ.1) = 42 ∨ byt fb L (sk fb L τ.1) = 47 := Or.inr c_26
              have hlt : sk fb L τ.1 < L := ho.elim (fun e => byt_lt e (by decide)) (fun e => byt_lt e (by decide))
              have ok3 : okS L (sk fb L τ.1 + 1, τ.2) := ho.elim (fun e => okS_s1 hL ok2 e (by decide)) (fun e => okS_s1 hL ok2 e (by decide))
              have q := px_ok (fb := fb) hL n 0 3 (sk fb L τ.1 + 1, τ.2) ok3 (fun _ => by show 3 * (L - (sk fb L τ.1 + 1)) + 1 ≤ n; omega)
              refine lv_aload_n hx hb dX5_term_29 rfl (lv_at hl 0 rfl) ?_
              refine w_callV (As := []) (rest := []) C (m_next l D k o a1 a8 a9 a10 a15 t bl τ.2.1 τ.2.2.1 eo ud (nI τ.2.2.2) 3 se wr d (emL dr cs) fb L hL (sk fb L τ.1) A (va_D_of hD rfl) hs.2) (cwV 0 hts (lw_V q1735 q1737 qs33 q76 q1738) rfl rfl rfl (by decide +kernel) ⟨Nat.le_of_ble_eq_true rfl, Nat.le_of_ble_eq_true rfl⟩) hK (va_recv hK hP (ci := 0) (q0 := 0) rfl rfl) hP hS (fun _ h => h) rfl hl.1 rfl (Nat.le_of_ble_eq_true rfl) dX5_term_30 ⟨Nat.le_of_ble_eq_true rfl, Nat.le_of_ble_eq_true rfl⟩ (fun H locs hP hS _ _ => ?_)
              rw [hss] at hP
              rw [hss]
              have hP : va_P D clA ((o, .inr (0, [.int t, .ref a1, .int bl, .int (nI L), .int (nI (sk fb L τ.1)), .int τ.2.1, .int τ.2.2.1, .int eo, .ref a8, .ref a9, .ref a10, .int ud, .int (nI τ.2.2.2), .int 3, .int se, .ref a15])) :: (a8, .inl (k 0, 1798, .inl d)) :: (a9, .inl (k 0, 1798, .inl (emL dr cs))) :: (a1, .inl (k 0, 900, .inl fb)) :: wr) H := hP
              refine lv_bipush (v := 42) hx hb dX5_term_33 rfl ?_
              refine lv_icmp_ne (tgt := 42) hx hb dX5_term_35 (by decide) (fun c_35 => ?_) (fun c_35 => ?_)
              · refine lv_iconst (v := 0) hx hb dX5_term_42 rfl ?_
                refine lv_istore_n (lv' := [(1, .int 0), (0, .ref o)]) hx hb dX5_term_43 rfl hl (by decide) rfl (fun ls hl => ?_)
                refine lv_aload_n hx hb dX5_term_44 rfl (lv_at hl 1 rfl) ?_
                refine lv_dup hx hb dX5_term_45 rfl ?_
                refine va_get hx hb hts in_X5 hown hK hP 0 rfl rfl 4 (by decide) (hts _ q1666) (fun _ h => h) rfl dX5_term_46 ?_
                refine lv_iconst (v := 1) hx hb dX5_term_49 rfl ?_
                refine lv_iadd hx hb dX5_term_50 ?_
                refine w_topi (y := nI ((sk fb L τ.1) + 1)) (nI_add (sk fb L τ.1) 1) ?_
                refine va_put hx hb hts in_X5 tyX5 tyX5_ok nmX5 hown hK hP (va_D_of hD rfl) hS 0 rfl rfl 4 (by decide) (hts _ q1666) (fun _ h => h) rfl rfl rfl rfl (Nat.le_of_ble_eq_true rfl) dX5_term_51 (fun H locs hP _ hS => ?_)
                have hP : va_P D clA ((o, .inr (0, [.int t, .ref a1, .int bl, .int (nI L), .int (nI ((sk fb L τ.1) + 1)), .int τ.2.1, .int τ.2.2.1, .int eo, .ref a8, .ref a9, .ref a10, .int ud, .int (nI τ.2.2.2), .int 3, .int se, .ref a15])) :: (a8, .inl (k 0, 1798, .inl d)) :: (a9, .inl (k 0, 1798, .inl (emL dr cs))) :: (a1, .inl (k 0, 900, .inl fb)) :: wr) H := hP
                refine lv_aload_n hx hb dX5_term_54 rfl (lv_at hl 1 rfl) ?_
                refine x_callV (As := []) (rest := []) C (m_factor_3 l D k o a1 a8 a9 a10 a15 t bl eo ud se wr d (emL dr cs) fb L hL (((sk fb L τ.1) + 1), τ.2) A (va_D_of hD rfl) ok3 sA sV n (fun _ => by show 3 * (L - (sk fb L τ.1 + 1)) + 1 ≤ n; omega) (fun _ => ⟨d1, by show 2 * dN (emL dr cs) 5 + 3 * (L - (sk fb L τ.1 + 1)) + 1 ≤ 3000; omega⟩)) (cwV 0 hts (lw_V q1812 q1814 qs45 q76 q1815) rfl rfl rfl (by decide +kernel) ⟨Nat.le_of_ble_eq_true rfl, Nat.le_of_ble_eq_true rfl⟩) hK (va_recv hK hP (ci := 0) (q0 := 0) rfl rfl) mv2_MS hP (fun U hU hW => MS_to hX hS (fun _ h => h) U hU hW) hS (fun _ h => h) rfl hl.1 rfl (Nat.le_of_ble_eq_true rfl) dX5_term_55 ⟨Nat.le_of_ble_eq_true rfl, Nat.le_of_ble_eq_true rfl⟩ (fun H locs hP hS _ _ => ?_)
                have hP : va_P D clA ((o, .inr (0, [.int t, .ref a1, .int bl, .int (nI L), .int (nI (px fb L n 0 3 (((sk fb L τ.1) + 1), τ.2)).1.1), .int ((px fb L n 0 3 (((sk fb L τ.1) + 1), τ.2)).1.2.1), .int ((px fb L n 0 3 (((sk fb L τ.1) + 1), τ.2)).1.2.2.1), .int eo, .ref a8, .ref a9, .ref a10, .int ud, .int (nI (px fb L n 0 3 (((sk fb L τ.1) + 1), τ.2)).1.2.2.2), .int 3, .int se, .ref a15])) :: (a8, .inl (k 0, 1798, .inl d)) :: (a9, .inl (k 0, 1798, .inl (emL (emL dr cs) (px fb L n 0 3 (((sk fb L τ.1) + 1), τ.2)).2))) :: (a1, .inl (k 0, 900, .inl fb)) :: wr) H := hP
                refine lv_aload_n hx hb dX5_term_58 rfl (lv_at hl 1 rfl) ?_
                refine lv_iload_n hx hb dX5_term_59 rfl (lv_at hl 0 rfl) ?_
                refine lv_if_eq (tgt := 67) hx hb dX5_term_60 (by decide) (fun c_60 => ?_) (fun c_60 => ?_)
                · refine lv_iconst (v := 5) hx hb dX5_term_67 rfl ?_
                  refine w_callV (As := [.int 5]) (rest := []) C (m_emit l D k o a1 a8 a9 a10 a15 t bl eo ud 3 se wr d (emL (emL dr cs) (px fb L n 0 3 (((sk fb L τ.1) + 1), τ.2)).2) fb L hL ((px fb L n 0 3 (((sk fb L τ.1) + 1), τ.2)).1) A (va_D_of hD rfl) q.1 5 (fun z => by obtain ⟨-, z2, z3, z4⟩ := q.2 z; have z2 : sk fb L τ.1 + 1 + 1 ≤ _ := z2; have z4 : _ ≤ 3 * (L - (sk fb L τ.1 + 1)) + 1 := z4; obtain ⟨y1, y2⟩ := emL_n (dr := emL dr cs) (px fb L n 0 3 (sk fb L τ.1 + 1, τ.2)).2 d1 (by omega); exact ⟨y1, by omega⟩)) (cwV 1 hts (lw_V q1823 q1825 qs47 q76 q1826) rfl rfl rfl (by decide +kernel) ⟨Nat.le_of_ble_eq_true rfl, Nat.le_of_ble_eq_true rfl⟩) hK (va_recv hK hP (ci := 0) (q0 := 0) rfl rfl) hP hS (fun _ h => h) rfl hl.1 rfl (Nat.le_of_ble_eq_true rfl) dX5_term_68 ⟨Nat.le_of_ble_eq_true rfl, Nat.le_of_ble_eq_true rfl⟩ (fun H locs hP hS _ _ => ?_)
                  have hP : va_P D clA ((o, .inr (0, [.int t, .ref a1, .int bl, .int (nI L), .int (nI (px fb L n 0 3 (((sk fb L τ.1) + 1), τ.2)).1.1), .int ((px fb L n 0 3 (((sk fb L τ.1) + 1), τ.2)).1.2.1), .int ((px fb L n 0 3 (((sk fb L τ.1) + 1), τ.2)).1.2.2.1), .int eo, .ref a8, .ref a9, .ref a10, .int ud, .int (nI (px fb L n 0 3 (((sk fb L τ.1) + 1), τ.2)).1.2.2.2), .int 3, .int se, .ref a15])) :: (a8, .inl (k 0, 1798, .inl d)) :: (a9, .inl (k 0, 1798, .inl (emS (emL (emL dr cs) (px fb L n 0 3 (((sk fb L τ.1) + 1), τ.2)).2) 5 ((px fb L n 0 3 (((sk fb L τ.1) + 1), τ.2)).1)))) :: (a1, .inl (k 0, 900, .inl fb)) :: wr) H := hP
                  refine lv_goto (tgt := 4) hx hb dX5_term_71 (by decide) ?_
                  have hP : va_P D clA ((o, .inr (0, [.int t, .ref a1, .int bl, .int (nI L), .int (nI (px fb L n 0 3 (((sk fb L τ.1) + 1), τ.2)).1.1), .int ((px fb L n 0 3 (((sk fb L τ.1) + 1), τ.2)).1.2.1), .int ((px fb L n 0 3 (((sk fb L τ.1) + 1), τ.2)).1.2.2.1), .int eo, .ref a8, .ref a9, .ref a10, .int ud, .int (nI (px fb L n 0 3 (((sk fb L τ.1) + 1), τ.2)).1.2.2.2), .int 3, .int se, .ref a15])) :: (a8, .inl (k 0, 1798, .inl d)) :: (a9, .inl (k 0, 1798, .inl (emL dr (cs ++ ((px fb L n 0 3 (sk fb L τ.1 + 1, τ.2)).2 ++ ifp ((px fb L n 0 3 (sk fb L τ.1 + 1, τ.2)).1.2.1 = 0) [5] []))))) :: (a1, .inl (k 0, 900, .inl fb)) :: wr) H := by rw [emL_app, emL_app, ← emS_L]; exact hP
                  simp only [px, ifp_t b_8, ifp_t ho, ifp_f c_17] at he1 he2
                  exact ih_4 (px fb L n 0 3 (sk fb L τ.1 + 1, τ.2)).1 (cs ++ ((px fb L n 0 3 (sk fb L τ.1 + 1, τ.2)).2 ++ ifp ((px fb L n 0 3 (sk fb L τ.1 + 1, τ.2)).1.2.1 = 0) [5] [])) q.1 (fun z => by have z2 : sk fb L τ.1 + 1 + 1 ≤ _ := (q.2 z).2.1; show 3 * (L - (px fb L n 0 3 (sk fb L τ.1 + 1, τ.2)).1.1) + 1 ≤ n; omega) (fun z => by obtain ⟨-, z2, z3, z4⟩ := q.2 z; have z2 : sk fb L τ.1 + 1 + 1 ≤ _ := z2; have z4 : _ ≤ 3 * (L - (sk fb L τ.1 + 1)) + 1 := z4; rw [ifp_t z, List.length_append, List.length_append]; simp only [List.length_cons, List.length_nil]; omega) he1 (by rw [List.append_assoc]; exact he2) (by omega) _ _ hP hS ls (lv_sub hl [1] rfl)
                · exact absurd c_60 (by decide)
              · exact absurd c_35 c_17
    exact loop_4 f (px fb L f 0 3 σ).1 (px fb L f 0 3 σ).2 q0.1 (fun z => by have z2 : σ.1 + 1 ≤ _ := (q0.2 z).2.1; show 3 * (L - (px fb L f 0 3 σ).1.1) + 1 ≤ f; omega) (fun z => by have z2 : _ ≤ 3 * (L - σ.1) + 1 := (q0.2 z).2.2.2; omega) (by simp only [px]) (by simp only [px]) (by omega) _ _ hP hS ls (lv_sub hl [0] rfl)
  · skip
    refine lv_aload_n hx hb dX5_term_0 rfl (lv_at hl 0 rfl) ?_
    refine w_callV (As := []) (rest := []) C (m_factorE l D k o a1 a8 a9 a10 a15 t bl eo ud 3 se wr d dr fb L hL σ A (va_D_of hD rfl) hok hg0) (cwV 0 hts (lw_V q1812 q1814 qs45 q76 q1815) rfl rfl rfl (by decide +kernel) ⟨Nat.le_of_ble_eq_true rfl, Nat.le_of_ble_eq_true rfl⟩) hK (va_recv hK hP (ci := 0) (q0 := 0) rfl rfl) hP hS (fun _ h => h) rfl hl.1 rfl (Nat.le_of_ble_eq_true rfl) dX5_term_1 ⟨Nat.le_of_ble_eq_true rfl, Nat.le_of_ble_eq_true rfl⟩ (fun H locs hP hS _ _ => ?_)
    have hP : va_P D clA ((o, .inr (0, [.int t, .ref a1, .int bl, .int (nI L), .int (nI σ.1), .int σ.2.1, .int σ.2.2.1, .int eo, .ref a8, .ref a9, .ref a10, .int ud, .int (nI σ.2.2.2), .int 3, .int se, .ref a15])) :: (a8, .inl (k 0, 1798, .inl d)) :: (a9, .inl (k 0, 1798, .inl dr)) :: (a1, .inl (k 0, 900, .inl fb)) :: wr) H := hP
    refine lv_aload_n hx hb dX5_term_4 rfl (lv_at hl 0 rfl) ?_
    refine r_callV (As := []) (rest := []) C (m_isGood l D k o σ.2.1 ([.int t, .ref a1, .int bl, .int (nI L), .int (nI σ.1), .int σ.2.1, .int σ.2.2.1, .int eo, .ref a8, .ref a9, .ref a10, .int ud, .int (nI σ.2.2.2), .int 3, .int se, .ref a15] : List Value) rfl) (cwV 0 hts (lw_V q1731 q1733 qs32 q76 q1734) rfl rfl rfl (by decide +kernel) ⟨Nat.le_of_ble_eq_true rfl, Nat.le_of_ble_eq_true rfl⟩) hK (va_recv hK hP (ci := 0) (q0 := 0) rfl rfl) (hP.sub [0] rfl) rfl hl.1 rfl (Nat.le_of_ble_eq_true rfl) dX5_term_5 ⟨Nat.le_of_ble_eq_true rfl, Nat.le_of_ble_eq_true rfl⟩ ?_
    refine lv_if_eq (tgt := 74) hx hb dX5_term_8 (by decide) (fun c_8 => ?_) (fun c_8 => ?_)
    · have b_8 := bI_0.mp c_8
      exact w_vret C (by rw [px_bad hg0]; exact hP) hS dX5_term_74
    · exact absurd (bI_nz c_8) hg0
set_option maxHeartbeats 16000000 in
theorem m_sum_3 (l : Launch) (D : va_G) (k : Nat → ClassId) (o a1 a8 a9 a10 a15 : Nat) (t bl eo ud se : Int32) (wr : va_W) (d dr fb : Nat → Int32) (L : Nat) (hL : L ≤ 900) (σ : PS) (A : Nat → Prop) (hD : va_D A ((o, .inr (0, [.int t, .ref a1, .int bl, .int (nI L), .int (nI σ.1), .int σ.2.1, .int σ.2.2.1, .int eo, .ref a8, .ref a9, .ref a10, .int ud, .int (nI σ.2.2.2), .int 3, .int se, .ref a15])) :: (a8, .inl (k 0, 1798, .inl d)) :: (a9, .inl (k 0, 1798, .inl dr)) :: (a1, .inl (k 0, 900, .inl fb)) :: wr)) (hok : okS L σ) (sA sV : Nat → Nat) (f : Nat) (hf : σ.2.1 = 0 → nee 2 (L - σ.1) ≤ f) (h5 : σ.2.1 = 0 → dr 5 = nI (dN dr 5) ∧ 2 * dN dr 5 + 3 * (L - σ.1) + 1 ≤ 3000) : xM l D k yX5_sum cX5_sum 2 none 10 216 [.ref o] ((o, .inr (0, [.int t, .ref a1, .int bl, .int (nI L), .int (nI σ.1), .int σ.2.1, .int σ.2.2.1, .int eo, .ref a8, .ref a9, .ref a10, .int ud, .int (nI σ.2.2.2), .int 3, .int se, .ref a15])) :: (a8, .inl (k 0, 1798, .inl d)) :: (a9, .inl (k 0, 1798, .inl dr)) :: (a1, .inl (k 0, 900, .inl fb)) :: wr) (MS A sA sV) (none) ((o, .inr (0, [.int t, .ref a1, .int bl, .int (nI L), .int (nI (px fb L f 2 3 σ).1.1), .int ((px fb L f 2 3 σ).1.2.1), .int ((px fb L f 2 3 σ).1.2.2.1), .int eo, .ref a8, .ref a9, .ref a10, .int ud, .int (nI (px fb L f 2 3 σ).1.2.2.2), .int 3, .int se, .ref a15])) :: (a8, .inl (k 0, 1798, .inl d)) :: (a9, .inl (k 0, 1798, .inl (emL dr (px fb L f 2 3 σ).2))) :: (a1, .inl (k 0, 900, .inl fb)) :: wr) A := by
  refine xM_of (by decide) (Nat.le_of_ble_eq_true rfl) ?_
  intro p e s m below meth c ls C hK hX hP hS hl
  obtain ⟨hE, hT⟩ := id hX
  obtain ⟨hx, hb, hr, hml, hown, hts, hlk⟩ := id C
  have hl : lv_has ls 2 [(0, .ref o)] := hl
  rcases Classical.em (σ.2.1 = 0) with hg0 | hg0
  · have hp0 := hok.1 hg0
    have hf := hf hg0
    obtain ⟨c1, c2⟩ := h5 hg0
    obtain ⟨f, rfl⟩ : ∃ g, f = g + 1 := ⟨f - 1, by have hf : 3 * (L - σ.1) + 3 ≤ f := hf; omega⟩
    have hf : 3 * (L - σ.1) + 3 ≤ f + 1 := hf
    have q0 := px_ok (fb := fb) hL f 1 3 σ hok (fun _ => by show 3 * (L - σ.1) + 2 ≤ f; omega)
    refine lv_aload_n hx hb dX5_sum_0 rfl (lv_at hl 0 rfl) ?_
    refine x_callV (As := []) (rest := []) C (m_term_3 l D k o a1 a8 a9 a10 a15 t bl eo ud se wr d dr fb L hL σ A (va_D_of hD rfl) hok sA sV f (fun _ => by show 3 * (L - σ.1) + 2 ≤ f; omega) h5) (cwV 0 hts (lw_V q1808 q1810 qs44 q76 q1811) rfl rfl rfl (by decide +kernel) ⟨Nat.le_of_ble_eq_true rfl, Nat.le_of_ble_eq_true rfl⟩) hK (va_recv hK hP (ci := 0) (q0 := 0) rfl rfl) mv2_MS hP (fun U hU hW => MS_to hX hS (fun _ h => h) U hU hW) hS (fun _ h => h) rfl hl.1 rfl (Nat.le_of_ble_eq_true rfl) dX5_sum_1 ⟨Nat.le_of_ble_eq_true rfl, Nat.le_of_ble_eq_true rfl⟩ (fun H locs hP hS _ _ => ?_)
    have hP : va_P D clA ((o, .inr (0, [.int t, .ref a1, .int bl, .int (nI L), .int (nI (px fb L f 1 3 σ).1.1), .int ((px fb L f 1 3 σ).1.2.1), .int ((px fb L f 1 3 σ).1.2.2.1), .int eo, .ref a8, .ref a9, .ref a10, .int ud, .int (nI (px fb L f 1 3 σ).1.2.2.2), .int 3, .int se, .ref a15])) :: (a8, .inl (k 0, 1798, .inl d)) :: (a9, .inl (k 0, 1798, .inl (emL dr (px fb L f 1 3 σ).2))) :: (a1, .inl (k 0, 900, .inl fb)) :: wr) H := hP
    have loop_4 : ∀ (n : Nat) (τ : PS) (cs : List Int32), (okS L τ) → (τ.2.1 = 0 → 3 * (L - τ.1) + 1 ≤ n) → (τ.2.1 = 0 → 2 * (dN dr 5 + cs.length) + 3 * (L - τ.1) ≤ 3000) → ((px fb L n 4 3 τ).1 = (px fb L (f + 1) 2 3 σ).1) → (cs ++ (px fb L n 4 3 τ).2 = (px fb L (f + 1) 2 3 σ).2) → (1 ≤ n) → ∀ (H : Heap) (locs : List Loc), va_P D clA ((o, .inr (0, [.int t, .ref a1, .int bl, .int (nI L), .int (nI τ.1), .int τ.2.1, .int τ.2.2.1, .int eo, .ref a8, .ref a9, .ref a10, .int ud, .int (nI τ.2.2.2), .int 3, .int se, .ref a15])) :: (a8, .inl (k 0, 1798, .inl d)) :: (a9, .inl (k 0, 1798, .inl (emL dr cs))) :: (a1, .inl (k 0, 900, .inl fb)) :: wr) H → va_S A s.heap H locs → ∀ (ls : Array Slot), lv_has ls 2 [(0, .ref o)] → W p l e (Rm 10 216 0 0) s m ([.ref o] : List Value).toArray below meth c H locs 0 0 (MQ below (wQ D (none) ((o, .inr (0, [.int t, .ref a1, .int bl, .int (nI L), .int (nI (px fb L (f + 1) 2 3 σ).1.1), .int ((px fb L (f + 1) 2 3 σ).1.2.1), .int ((px fb L (f + 1) 2 3 σ).1.2.2.1), .int eo, .ref a8, .ref a9, .ref a10, .int ud, .int (nI (px fb L (f + 1) 2 3 σ).1.2.2.2), .int 3, .int se, .ref a15])) :: (a8, .inl (k 0, 1798, .inl d)) :: (a9, .inl (k 0, 1798, .inl (emL dr (px fb L (f + 1) 2 3 σ).2))) :: (a1, .inl (k 0, 900, .inl fb)) :: wr) A) ([.ref o] : List Value).toArray s 0 0 A) (F0 m 4 ls []) := by
      intro n
      induction n with
      | zero =>
        intro τ cs ok2 hf2 hr2 he1 he2 hn
        exact absurd hn (by omega)
      | succ n ih_4 =>
        intro τ cs ok2 hf2 hr2 he1 he2 hn H locs hP hS ls hl
        refine lv_aload_n hx hb dX5_sum_4 rfl (lv_at hl 0 rfl) ?_
        refine r_callV (As := []) (rest := []) C (m_isGood l D k o τ.2.1 ([.int t, .ref a1, .int bl, .int (nI L), .int (nI τ.1), .int τ.2.1, .int τ.2.2.1, .int eo, .ref a8, .ref a9, .ref a10, .int ud, .int (nI τ.2.2.2), .int 3, .int se, .ref a15] : List Value) rfl) (cwV 0 hts (lw_V q1731 q1733 qs32 q76 q1734) rfl rfl rfl (by decide +kernel) ⟨Nat.le_of_ble_eq_true rfl, Nat.le_of_ble_eq_true rfl⟩) hK (va_recv hK hP (ci := 0) (q0 := 0) rfl rfl) (hP.sub [0] rfl) rfl hl.1 rfl (Nat.le_of_ble_eq_true rfl) dX5_sum_5 ⟨Nat.le_of_ble_eq_true rfl, Nat.le_of_ble_eq_true rfl⟩ ?_
        refine lv_if_eq (tgt := 74) hx hb dX5_sum_8 (by decide) (fun c_8 => ?_) (fun c_8 => ?_)
        · have b_8 := bI_0.mp c_8
          exact w_vret C (by rw [px_bad b_8] at he1 he2; rw [List.append_nil] at he2; rw [← he1, ← he2]; exact hP) hS dX5_sum_74
        · have b_8 := bI_nz c_8
          have hp := ok2.1 b_8
          have hs := sk_in (fb := fb) hp
          have hf2 := hf2 b_8
          have hr2 := hr2 b_8
          obtain ⟨d1, d2⟩ := room5 c1 hr2
          have hss : sk fb L (sk fb L τ.1) = sk fb L τ.1 := sk_sk hp
          refine lv_aload_n hx hb dX5_sum_11 rfl (lv_at hl 0 rfl) ?_
          refine w_callV (As := []) (rest := []) C (m_next l D k o a1 a8 a9 a10 a15 t bl τ.2.1 τ.2.2.1 eo ud (nI τ.2.2.2) 3 se wr d (emL dr cs) fb L hL τ.1 A (va_D_of hD rfl) hp) (cwV 0 hts (lw_V q1735 q1737 qs33 q76 q1738) rfl rfl rfl (by decide +kernel) ⟨Nat.le_of_ble_eq_true rfl, Nat.le_of_ble_eq_true rfl⟩) hK (va_recv hK hP (ci := 0) (q0 := 0) rfl rfl) hP hS (fun _ h => h) rfl hl.1 rfl (Nat.le_of_ble_eq_true rfl) dX5_sum_12 ⟨Nat.le_of_ble_eq_true rfl, Nat.le_of_ble_eq_true rfl⟩ (fun H locs hP hS _ _ => ?_)
          have hP : va_P D clA ((o, .inr (0, [.int t, .ref a1, .int bl, .int (nI L), .int (nI (sk fb L τ.1)), .int τ.2.1, .int τ.2.2.1, .int eo, .ref a8, .ref a9, .ref a10, .int ud, .int (nI τ.2.2.2), .int 3, .int se, .ref a15])) :: (a8, .inl (k 0, 1798, .inl d)) :: (a9, .inl (k 0, 1798, .inl (emL dr cs))) :: (a1, .inl (k 0, 900, .inl fb)) :: wr) H := hP
          refine lv_bipush (v := 43) hx hb dX5_sum_15 rfl ?_
          refine lv_icmp_eq (tgt := 29) hx hb dX5_sum_17 (by decide) (fun c_17 => ?_) (fun c_17 => ?_)
          · have ho : byt fb L (sk fb L τ.1) = 43 ∨ byt fb L (sk fb L τ.1) = 45 := Or.inl c_17
            have hlt : sk fb L τ.1 < L := ho.elim (fun e => byt_lt e (by decide)) (fun e => byt_lt e (by decide))
            have ok3 : okS L (sk fb L τ.1 + 1, τ.2) := ho.elim (fun e => okS_s1 hL ok2 e (by decide)) (fun e => okS_s1 hL ok2 e (by decide))
            have q := px_ok (fb := fb) hL n 1 3 (sk fb L τ.1 + 1, τ.2) ok3 (fun _ => by show 3 * (L - (sk fb L τ.1 + 1)) + 2 ≤ n; omega)
            refine lv_aload_n hx hb dX5_sum_29 rfl (lv_at hl 0 rfl) ?_
            refine w_callV (As := []) (rest := []) C (m_next l D k o a1 a8 a9 a10 a15 t bl τ.2.1 τ.2.2.1 eo ud (nI τ.2.2.2) 3 se wr d (emL dr cs) fb L hL (sk fb L τ.1) A (va_D_of hD rfl) hs.2) (cwV 0 hts (lw_V q1735 q1737 qs33 q76 q1738) rfl rfl rfl (by decide +kernel) ⟨Nat.le_of_ble_eq_true rfl, Nat.le_of_ble_eq_true rfl⟩) hK (va_recv hK hP (ci := 0) (q0 := 0) rfl rfl) hP hS (fun _ h => h) rfl hl.1 rfl (Nat.le_of_ble_eq_true rfl) dX5_sum_30 ⟨Nat.le_of_ble_eq_true rfl, Nat.le_of_ble_eq_true rfl⟩ (fun H locs hP hS _ _ => ?_)
            rw [hss] at hP
            rw [hss]
            have hP : va_P D clA ((o, .inr (0, [.int t, .ref a1, .int bl, .int (nI L), .int (nI (sk fb L τ.1)), .int τ.2.1, .int τ.2.2.1, .int eo, .ref a8, .ref a9, .ref a10, .int ud, .int (nI τ.2.2.2), .int 3, .int se, .ref a15])) :: (a8, .inl (k 0, 1798, .inl d)) :: (a9, .inl (k 0, 1798, .inl (emL dr cs))) :: (a1, .inl (k 0, 900, .inl fb)) :: wr) H := hP
            refine lv_bipush (v := 43) hx hb dX5_sum_33 rfl ?_
            refine lv_icmp_ne (tgt := 42) hx hb dX5_sum_35 (by decide) (fun c_35 => ?_) (fun c_35 => ?_)
            · exact absurd c_17 c_35
            · refine lv_iconst (v := 1) hx hb dX5_sum_38 rfl ?_
              refine lv_goto (tgt := 43) hx hb dX5_sum_39 (by decide) ?_
              refine lv_istore_n (lv' := [(1, .int 1), (0, .ref o)]) hx hb dX5_sum_43 rfl hl (by decide) rfl (fun ls hl => ?_)
              refine lv_aload_n hx hb dX5_sum_44 rfl (lv_at hl 1 rfl) ?_
              refine lv_dup hx hb dX5_sum_45 rfl ?_
              refine va_get hx hb hts in_X5 hown hK hP 0 rfl rfl 4 (by decide) (hts _ q1666) (fun _ h => h) rfl dX5_sum_46 ?_
              refine lv_iconst (v := 1) hx hb dX5_sum_49 rfl ?_
              refine lv_iadd hx hb dX5_sum_50 ?_
              refine w_topi (y := nI ((sk fb L τ.1) + 1)) (nI_add (sk fb L τ.1) 1) ?_
              refine va_put hx hb hts in_X5 tyX5 tyX5_ok nmX5 hown hK hP (va_D_of hD rfl) hS 0 rfl rfl 4 (by decide) (hts _ q1666) (fun _ h => h) rfl rfl rfl rfl (Nat.le_of_ble_eq_true rfl) dX5_sum_51 (fun H locs hP _ hS => ?_)
              have hP : va_P D clA ((o, .inr (0, [.int t, .ref a1, .int bl, .int (nI L), .int (nI ((sk fb L τ.1) + 1)), .int τ.2.1, .int τ.2.2.1, .int eo, .ref a8, .ref a9, .ref a10, .int ud, .int (nI τ.2.2.2), .int 3, .int se, .ref a15])) :: (a8, .inl (k 0, 1798, .inl d)) :: (a9, .inl (k 0, 1798, .inl (emL dr cs))) :: (a1, .inl (k 0, 900, .inl fb)) :: wr) H := hP
              refine lv_aload_n hx hb dX5_sum_54 rfl (lv_at hl 1 rfl) ?_
              refine x_callV (As := []) (rest := []) C (m_term_3 l D k o a1 a8 a9 a10 a15 t bl eo ud se wr d (emL dr cs) fb L hL (((sk fb L τ.1) + 1), τ.2) A (va_D_of hD rfl) ok3 sA sV n (fun _ => by show 3 * (L - (sk fb L τ.1 + 1)) + 2 ≤ n; omega) (fun _ => ⟨d1, by show 2 * dN (emL dr cs) 5 + 3 * (L - (sk fb L τ.1 + 1)) + 1 ≤ 3000; omega⟩)) (cwV 0 hts (lw_V q1808 q1810 qs44 q76 q1811) rfl rfl rfl (by decide +kernel) ⟨Nat.le_of_ble_eq_true rfl, Nat.le_of_ble_eq_true rfl⟩) hK (va_recv hK hP (ci := 0) (q0 := 0) rfl rfl) mv2_MS hP (fun U hU hW => MS_to hX hS (fun _ h => h) U hU hW) hS (fun _ h => h) rfl hl.1 rfl (Nat.le_of_ble_eq_true rfl) dX5_sum_55 ⟨Nat.le_of_ble_eq_true rfl, Nat.le_of_ble_eq_true rfl⟩ (fun H locs hP hS _ _ => ?_)
              have hP : va_P D clA ((o, .inr (0, [.int t, .ref a1, .int bl, .int (nI L), .int (nI (px fb L n 1 3 (((sk fb L τ.1) + 1), τ.2)).1.1), .int ((px fb L n 1 3 (((sk fb L τ.1) + 1), τ.2)).1.2.1), .int ((px fb L n 1 3 (((sk fb L τ.1) + 1), τ.2)).1.2.2.1), .int eo, .ref a8, .ref a9, .ref a10, .int ud, .int (nI (px fb L n 1 3 (((sk fb L τ.1) + 1), τ.2)).1.2.2.2), .int 3, .int se, .ref a15])) :: (a8, .inl (k 0, 1798, .inl d)) :: (a9, .inl (k 0, 1798, .inl (emL (emL dr cs) (px fb L n 1 3 (((sk fb L τ.1) + 1), τ.2)).2))) :: (a1, .inl (k 0, 900, .inl fb)) :: wr) H := hP
              refine lv_aload_n hx hb dX5_sum_58 rfl (lv_at hl 1 rfl) ?_
              refine lv_iload_n hx hb dX5_sum_59 rfl (lv_at hl 0 rfl) ?_
              refine lv_if_eq (tgt := 67) hx hb dX5_sum_60 (by decide) (fun c_60 => ?_) (fun c_60 => ?_)
              · exact absurd c_60 (by decide)
              · refine lv_iconst (v := 2) hx hb dX5_sum_63 rfl ?_
                refine lv_goto (tgt := 68) hx hb dX5_sum_64 (by decide) ?_
                refine w_callV (As := [.int 2]) (rest := []) C (m_emit l D k o a1 a8 a9 a10 a15 t bl eo ud 3 se wr d (emL (emL dr cs) (px fb L n 1 3 (((sk fb L τ.1) + 1), τ.2)).2) fb L hL ((px fb L n 1 3 (((sk fb L τ.1) + 1), τ.2)).1) A (va_D_of hD rfl) q.1 2 (fun z => by obtain ⟨-, z2, z3, z4⟩ := q.2 z; have z2 : sk fb L τ.1 + 1 + 1 ≤ _ := z2; have z4 : _ ≤ 3 * (L - (sk fb L τ.1 + 1)) + 1 := z4; obtain ⟨y1, y2⟩ := emL_n (dr := emL dr cs) (px fb L n 1 3 (sk fb L τ.1 + 1, τ.2)).2 d1 (by omega); exact ⟨y1, by omega⟩)) (cwV 1 hts (lw_V q1823 q1825 qs47 q76 q1826) rfl rfl rfl (by decide +kernel) ⟨Nat.le_of_ble_eq_true rfl, Nat.le_of_ble_eq_true rfl⟩) hK (va_recv hK hP (ci := 0) (q0 := 0) rfl rfl) hP hS (fun _ h => h) rfl hl.1 rfl (Nat.le_of_ble_eq_true rfl) dX5_sum_68 ⟨Nat.le_of_ble_eq_true rfl, Nat.le_of_ble_eq_true rfl⟩ (fun H locs hP hS _ _ => ?_)
                have hP : va_P D clA ((o, .inr (0, [.int t, .ref a1, .int bl, .int (nI L), .int (nI (px fb L n 1 3 (((sk fb L τ.1) + 1), τ.2)).1.1), .int ((px fb L n 1 3 (((sk fb L τ.1) + 1), τ.2)).1.2.1), .int ((px fb L n 1 3 (((sk fb L τ.1) + 1), τ.2)).1.2.2.1), .int eo, .ref a8, .ref a9, .ref a10, .int ud, .int (nI (px fb L n 1 3 (((sk fb L τ.1) + 1), τ.2)).1.2.2.2), .int 3, .int se, .ref a15])) :: (a8, .inl (k 0, 1798, .inl d)) :: (a9, .inl (k 0, 1798, .inl (emS (emL (emL dr cs) (px fb L n 1 3 (((sk fb L τ.1) + 1), τ.2)).2) 2 ((px fb L n 1 3 (((sk fb L τ.1) + 1), τ.2)).1)))) :: (a1, .inl (k 0, 900, .inl fb)) :: wr) H := hP
                refine lv_goto (tgt := 4) hx hb dX5_sum_71 (by decide) ?_
                have hP : va_P D clA ((o, .inr (0, [.int t, .ref a1, .int bl, .int (nI L), .int (nI (px fb L n 1 3 (((sk fb L τ.1) + 1), τ.2)).1.1), .int ((px fb L n 1 3 (((sk fb L τ.1) + 1), τ.2)).1.2.1), .int ((px fb L n 1 3 (((sk fb L τ.1) + 1), τ.2)).1.2.2.1), .int eo, .ref a8, .ref a9, .ref a10, .int ud, .int (nI (px fb L n 1 3 (((sk fb L τ.1) + 1), τ.2)).1.2.2.2), .int 3, .int se, .ref a15])) :: (a8, .inl (k 0, 1798, .inl d)) :: (a9, .inl (k 0, 1798, .inl (emL dr (cs ++ ((px fb L n 1 3 (sk fb L τ.1 + 1, τ.2)).2 ++ ifp ((px fb L n 1 3 (sk fb L τ.1 + 1, τ.2)).1.2.1 = 0) [2] []))))) :: (a1, .inl (k 0, 900, .inl fb)) :: wr) H := by rw [emL_app, emL_app, ← emS_L]; exact hP
                simp only [px, ifp_t b_8, ifp_t ho, ifp_t c_17] at he1 he2
                exact ih_4 (px fb L n 1 3 (sk fb L τ.1 + 1, τ.2)).1 (cs ++ ((px fb L n 1 3 (sk fb L τ.1 + 1, τ.2)).2 ++ ifp ((px fb L n 1 3 (sk fb L τ.1 + 1, τ.2)).1.2.1 = 0) [2] [])) q.1 (fun z => by have z2 : sk fb L τ.1 + 1 + 1 ≤ _ := (q.2 z).2.1; show 3 * (L - (px fb L n 1 3 (sk fb L τ.1 + 1, τ.2)).1.1) + 1 ≤ n; omega) (fun z => by obtain ⟨-, z2, z3, z4⟩ := q.2 z; have z2 : sk fb L τ.1 + 1 + 1 ≤ _ := z2; have z4 : _ ≤ 3 * (L - (sk fb L τ.1 + 1)) + 1 := z4; rw [ifp_t z, List.length_append, List.length_append]; simp only [List.length_cons, List.length_nil]; omega) he1 (by rw [List.append_assoc]; exact he2) (by omega) _ _ hP hS ls (lv_sub hl [1] rfl)
          · refine lv_aload_n hx hb dX5_sum_20 rfl (lv_at hl 0 rfl) ?_
            refine w_callV (As := []) (rest := []) C (m_next l D k o a1 a8 a9 a10 a15 t bl τ.2.1 τ.2.2.1 eo ud (nI τ.2.2.2) 3 se wr d (emL dr cs) fb L hL (sk fb L τ.1) A (va_D_of hD rfl) hs.2) (cwV 0 hts (lw_V q1735 q1737 qs33 q76 q1738) rfl rfl rfl (by decide +kernel) ⟨Nat.le_of_ble_eq_true rfl, Nat.le_of_ble_eq_true rfl⟩) hK (va_recv hK hP (ci := 0) (q0 := 0) rfl rfl) hP hS (fun _ h => h) rfl hl.1 rfl (Nat.le_of_ble_eq_true rfl) dX5_sum_21 ⟨Nat.le_of_ble_eq_true rfl, Nat.le_of_ble_eq_true rfl⟩ (fun H locs hP hS _ _ => ?_)
            rw [hss] at hP
            rw [hss]
            have hP : va_P D clA ((o, .inr (0, [.int t, .ref a1, .int bl, .int (nI L), .int (nI (sk fb L τ.1)), .int τ.2.1, .int τ.2.2.1, .int eo, .ref a8, .ref a9, .ref a10, .int ud, .int (nI τ.2.2.2), .int 3, .int se, .ref a15])) :: (a8, .inl (k 0, 1798, .inl d)) :: (a9, .inl (k 0, 1798, .inl (emL dr cs))) :: (a1, .inl (k 0, 900, .inl fb)) :: wr) H := hP
            refine lv_bipush (v := 45) hx hb dX5_sum_24 rfl ?_
            refine lv_icmp_ne (tgt := 74) hx hb dX5_sum_26 (by decide) (fun c_26 => ?_) (fun c_26 => ?_)
            · exact w_vret C (by simp only [px, ifp_t b_8, ifp_f (show ¬ (byt fb L (sk fb L τ.1) = 43 ∨ byt fb L (sk fb L τ.1) = 45) from fun h => h.elim c_17 c_26)] at he1 he2; rw [List.append_nil] at he2; have e1 : (sk fb L τ.1, τ.2) = (px fb L (f + 1) 2 3 σ).1 := he1; have e2 : cs = (px fb L (f + 1) 2 3 σ).2 := he2; rw [← e1, ← e2]; exact hP) hS dX5_sum_74
            · have ho : byt fb L (sk fb L τ.1) = 43 ∨ byt fb L (sk fb L τ.1) = 45 := Or.inr c_26
              have hlt : sk fb L τ.1 < L := ho.elim (fun e => byt_lt e (by decide)) (fun e => byt_lt e (by decide))
              have ok3 : okS L (sk fb L τ.1 + 1, τ.2) := ho.elim (fun e => okS_s1 hL ok2 e (by decide)) (fun e => okS_s1 hL ok2 e (by decide))
              have q := px_ok (fb := fb) hL n 1 3 (sk fb L τ.1 + 1, τ.2) ok3 (fun _ => by show 3 * (L - (sk fb L τ.1 + 1)) + 2 ≤ n; omega)
              refine lv_aload_n hx hb dX5_sum_29 rfl (lv_at hl 0 rfl) ?_
              refine w_callV (As := []) (rest := []) C (m_next l D k o a1 a8 a9 a10 a15 t bl τ.2.1 τ.2.2.1 eo ud (nI τ.2.2.2) 3 se wr d (emL dr cs) fb L hL (sk fb L τ.1) A (va_D_of hD rfl) hs.2) (cwV 0 hts (lw_V q1735 q1737 qs33 q76 q1738) rfl rfl rfl (by decide +kernel) ⟨Nat.le_of_ble_eq_true rfl, Nat.le_of_ble_eq_true rfl⟩) hK (va_recv hK hP (ci := 0) (q0 := 0) rfl rfl) hP hS (fun _ h => h) rfl hl.1 rfl (Nat.le_of_ble_eq_true rfl) dX5_sum_30 ⟨Nat.le_of_ble_eq_true rfl, Nat.le_of_ble_eq_true rfl⟩ (fun H locs hP hS _ _ => ?_)
              rw [hss] at hP
              rw [hss]
              have hP : va_P D clA ((o, .inr (0, [.int t, .ref a1, .int bl, .int (nI L), .int (nI (sk fb L τ.1)), .int τ.2.1, .int τ.2.2.1, .int eo, .ref a8, .ref a9, .ref a10, .int ud, .int (nI τ.2.2.2), .int 3, .int se, .ref a15])) :: (a8, .inl (k 0, 1798, .inl d)) :: (a9, .inl (k 0, 1798, .inl (emL dr cs))) :: (a1, .inl (k 0, 900, .inl fb)) :: wr) H := hP
              refine lv_bipush (v := 43) hx hb dX5_sum_33 rfl ?_
              refine lv_icmp_ne (tgt := 42) hx hb dX5_sum_35 (by decide) (fun c_35 => ?_) (fun c_35 => ?_)
              · refine lv_iconst (v := 0) hx hb dX5_sum_42 rfl ?_
                refine lv_istore_n (lv' := [(1, .int 0), (0, .ref o)]) hx hb dX5_sum_43 rfl hl (by decide) rfl (fun ls hl => ?_)
                refine lv_aload_n hx hb dX5_sum_44 rfl (lv_at hl 1 rfl) ?_
                refine lv_dup hx hb dX5_sum_45 rfl ?_
                refine va_get hx hb hts in_X5 hown hK hP 0 rfl rfl 4 (by decide) (hts _ q1666) (fun _ h => h) rfl dX5_sum_46 ?_
                refine lv_iconst (v := 1) hx hb dX5_sum_49 rfl ?_
                refine lv_iadd hx hb dX5_sum_50 ?_
                refine w_topi (y := nI ((sk fb L τ.1) + 1)) (nI_add (sk fb L τ.1) 1) ?_
                refine va_put hx hb hts in_X5 tyX5 tyX5_ok nmX5 hown hK hP (va_D_of hD rfl) hS 0 rfl rfl 4 (by decide) (hts _ q1666) (fun _ h => h) rfl rfl rfl rfl (Nat.le_of_ble_eq_true rfl) dX5_sum_51 (fun H locs hP _ hS => ?_)
                have hP : va_P D clA ((o, .inr (0, [.int t, .ref a1, .int bl, .int (nI L), .int (nI ((sk fb L τ.1) + 1)), .int τ.2.1, .int τ.2.2.1, .int eo, .ref a8, .ref a9, .ref a10, .int ud, .int (nI τ.2.2.2), .int 3, .int se, .ref a15])) :: (a8, .inl (k 0, 1798, .inl d)) :: (a9, .inl (k 0, 1798, .inl (emL dr cs))) :: (a1, .inl (k 0, 900, .inl fb)) :: wr) H := hP
                refine lv_aload_n hx hb dX5_sum_54 rfl (lv_at hl 1 rfl) ?_
                refine x_callV (As := []) (rest := []) C (m_term_3 l D k o a1 a8 a9 a10 a15 t bl eo ud se wr d (emL dr cs) fb L hL (((sk fb L τ.1) + 1), τ.2) A (va_D_of hD rfl) ok3 sA sV n (fun _ => by show 3 * (L - (sk fb L τ.1 + 1)) + 2 ≤ n; omega) (fun _ => ⟨d1, by show 2 * dN (emL dr cs) 5 + 3 * (L - (sk fb L τ.1 + 1)) + 1 ≤ 3000; omega⟩)) (cwV 0 hts (lw_V q1808 q1810 qs44 q76 q1811) rfl rfl rfl (by decide +kernel) ⟨Nat.le_of_ble_eq_true rfl, Nat.le_of_ble_eq_true rfl⟩) hK (va_recv hK hP (ci := 0) (q0 := 0) rfl rfl) mv2_MS hP (fun U hU hW => MS_to hX hS (fun _ h => h) U hU hW) hS (fun _ h => h) rfl hl.1 rfl (Nat.le_of_ble_eq_true rfl) dX5_sum_55 ⟨Nat.le_of_ble_eq_true rfl, Nat.le_of_ble_eq_true rfl⟩ (fun H locs hP hS _ _ => ?_)
                have hP : va_P D clA ((o, .inr (0, [.int t, .ref a1, .int bl, .int (nI L), .int (nI (px fb L n 1 3 (((sk fb L τ.1) + 1), τ.2)).1.1), .int ((px fb L n 1 3 (((sk fb L τ.1) + 1), τ.2)).1.2.1), .int ((px fb L n 1 3 (((sk fb L τ.1) + 1), τ.2)).1.2.2.1), .int eo, .ref a8, .ref a9, .ref a10, .int ud, .int (nI (px fb L n 1 3 (((sk fb L τ.1) + 1), τ.2)).1.2.2.2), .int 3, .int se, .ref a15])) :: (a8, .inl (k 0, 1798, .inl d)) :: (a9, .inl (k 0, 1798, .inl (emL (emL dr cs) (px fb L n 1 3 (((sk fb L τ.1) + 1), τ.2)).2))) :: (a1, .inl (k 0, 900, .inl fb)) :: wr) H := hP
                refine lv_aload_n hx hb dX5_sum_58 rfl (lv_at hl 1 rfl) ?_
                refine lv_iload_n hx hb dX5_sum_59 rfl (lv_at hl 0 rfl) ?_
                refine lv_if_eq (tgt := 67) hx hb dX5_sum_60 (by decide) (fun c_60 => ?_) (fun c_60 => ?_)
                · refine lv_iconst (v := 3) hx hb dX5_sum_67 rfl ?_
                  refine w_callV (As := [.int 3]) (rest := []) C (m_emit l D k o a1 a8 a9 a10 a15 t bl eo ud 3 se wr d (emL (emL dr cs) (px fb L n 1 3 (((sk fb L τ.1) + 1), τ.2)).2) fb L hL ((px fb L n 1 3 (((sk fb L τ.1) + 1), τ.2)).1) A (va_D_of hD rfl) q.1 3 (fun z => by obtain ⟨-, z2, z3, z4⟩ := q.2 z; have z2 : sk fb L τ.1 + 1 + 1 ≤ _ := z2; have z4 : _ ≤ 3 * (L - (sk fb L τ.1 + 1)) + 1 := z4; obtain ⟨y1, y2⟩ := emL_n (dr := emL dr cs) (px fb L n 1 3 (sk fb L τ.1 + 1, τ.2)).2 d1 (by omega); exact ⟨y1, by omega⟩)) (cwV 1 hts (lw_V q1823 q1825 qs47 q76 q1826) rfl rfl rfl (by decide +kernel) ⟨Nat.le_of_ble_eq_true rfl, Nat.le_of_ble_eq_true rfl⟩) hK (va_recv hK hP (ci := 0) (q0 := 0) rfl rfl) hP hS (fun _ h => h) rfl hl.1 rfl (Nat.le_of_ble_eq_true rfl) dX5_sum_68 ⟨Nat.le_of_ble_eq_true rfl, Nat.le_of_ble_eq_true rfl⟩ (fun H locs hP hS _ _ => ?_)
                  have hP : va_P D clA ((o, .inr (0, [.int t, .ref a1, .int bl, .int (nI L), .int (nI (px fb L n 1 3 (((sk fb L τ.1) + 1), τ.2)).1.1), .int ((px fb L n 1 3 (((sk fb L τ.1) + 1), τ.2)).1.2.1), .int ((px fb L n 1 3 (((sk fb L τ.1) + 1), τ.2)).1.2.2.1), .int eo, .ref a8, .ref a9, .ref a10, .int ud, .int (nI (px fb L n 1 3 (((sk fb L τ.1) + 1), τ.2)).1.2.2.2), .int 3, .int se, .ref a15])) :: (a8, .inl (k 0, 1798, .inl d)) :: (a9, .inl (k 0, 1798, .inl (emS (emL (emL dr cs) (px fb L n 1 3 (((sk fb L τ.1) + 1), τ.2)).2) 3 ((px fb L n 1 3 (((sk fb L τ.1) + 1), τ.2)).1)))) :: (a1, .inl (k 0, 900, .inl fb)) :: wr) H := hP
                  refine lv_goto (tgt := 4) hx hb dX5_sum_71 (by decide) ?_
                  have hP : va_P D clA ((o, .inr (0, [.int t, .ref a1, .int bl, .int (nI L), .int (nI (px fb L n 1 3 (((sk fb L τ.1) + 1), τ.2)).1.1), .int ((px fb L n 1 3 (((sk fb L τ.1) + 1), τ.2)).1.2.1), .int ((px fb L n 1 3 (((sk fb L τ.1) + 1), τ.2)).1.2.2.1), .int eo, .ref a8, .ref a9, .ref a10, .int ud, .int (nI (px fb L n 1 3 (((sk fb L τ.1) + 1), τ.2)).1.2.2.2), .int 3, .int se, .ref a15])) :: (a8, .inl (k 0, 1798, .inl d)) :: (a9, .inl (k 0, 1798, .inl (emL dr (cs ++ ((px fb L n 1 3 (sk fb L τ.1 + 1, τ.2)).2 ++ ifp ((px fb L n 1 3 (sk fb L τ.1 + 1, τ.2)).1.2.1 = 0) [3] []))))) :: (a1, .inl (k 0, 900, .inl fb)) :: wr) H := by rw [emL_app, emL_app, ← emS_L]; exact hP
                  simp only [px, ifp_t b_8, ifp_t ho, ifp_f c_17] at he1 he2
                  exact ih_4 (px fb L n 1 3 (sk fb L τ.1 + 1, τ.2)).1 (cs ++ ((px fb L n 1 3 (sk fb L τ.1 + 1, τ.2)).2 ++ ifp ((px fb L n 1 3 (sk fb L τ.1 + 1, τ.2)).1.2.1 = 0) [3] [])) q.1 (fun z => by have z2 : sk fb L τ.1 + 1 + 1 ≤ _ := (q.2 z).2.1; show 3 * (L - (px fb L n 1 3 (sk fb L τ.1 + 1, τ.2)).1.1) + 1 ≤ n; omega) (fun z => by obtain ⟨-, z2, z3, z4⟩ := q.2 z; have z2 : sk fb L τ.1 + 1 + 1 ≤ _ := z2; have z4 : _ ≤ 3 * (L - (sk fb L τ.1 + 1)) + 1 := z4; rw [ifp_t z, List.length_append, List.length_append]; simp only [List.length_cons, List.length_nil]; omega) he1 (by rw [List.append_assoc]; exact he2) (by omega) _ _ hP hS ls (lv_sub hl [1] rfl)
                · exact absurd c_60 (by decide)
              · exact absurd c_35 c_17
    exact loop_4 f (px fb L f 1 3 σ).1 (px fb L f 1 3 σ).2 q0.1 (fun z => by have z2 : σ.1 + 1 ≤ _ := (q0.2 z).2.1; show 3 * (L - (px fb L f 1 3 σ).1.1) + 1 ≤ f; omega) (fun z => by have z2 : _ ≤ 3 * (L - σ.1) + 1 := (q0.2 z).2.2.2; omega) (by simp only [px]) (by simp only [px]) (by omega) _ _ hP hS ls (lv_sub hl [0] rfl)
  · skip
    refine lv_aload_n hx hb dX5_sum_0 rfl (lv_at hl 0 rfl) ?_
    refine w_callV (As := []) (rest := []) C (m_termE l D k o a1 a8 a9 a10 a15 t bl eo ud 3 se wr d dr fb L hL σ A (va_D_of hD rfl) hok hg0) (cwV 0 hts (lw_V q1808 q1810 qs44 q76 q1811) rfl rfl rfl (by decide +kernel) ⟨Nat.le_of_ble_eq_true rfl, Nat.le_of_ble_eq_true rfl⟩) hK (va_recv hK hP (ci := 0) (q0 := 0) rfl rfl) hP hS (fun _ h => h) rfl hl.1 rfl (Nat.le_of_ble_eq_true rfl) dX5_sum_1 ⟨Nat.le_of_ble_eq_true rfl, Nat.le_of_ble_eq_true rfl⟩ (fun H locs hP hS _ _ => ?_)
    have hP : va_P D clA ((o, .inr (0, [.int t, .ref a1, .int bl, .int (nI L), .int (nI σ.1), .int σ.2.1, .int σ.2.2.1, .int eo, .ref a8, .ref a9, .ref a10, .int ud, .int (nI σ.2.2.2), .int 3, .int se, .ref a15])) :: (a8, .inl (k 0, 1798, .inl d)) :: (a9, .inl (k 0, 1798, .inl dr)) :: (a1, .inl (k 0, 900, .inl fb)) :: wr) H := hP
    refine lv_aload_n hx hb dX5_sum_4 rfl (lv_at hl 0 rfl) ?_
    refine r_callV (As := []) (rest := []) C (m_isGood l D k o σ.2.1 ([.int t, .ref a1, .int bl, .int (nI L), .int (nI σ.1), .int σ.2.1, .int σ.2.2.1, .int eo, .ref a8, .ref a9, .ref a10, .int ud, .int (nI σ.2.2.2), .int 3, .int se, .ref a15] : List Value) rfl) (cwV 0 hts (lw_V q1731 q1733 qs32 q76 q1734) rfl rfl rfl (by decide +kernel) ⟨Nat.le_of_ble_eq_true rfl, Nat.le_of_ble_eq_true rfl⟩) hK (va_recv hK hP (ci := 0) (q0 := 0) rfl rfl) (hP.sub [0] rfl) rfl hl.1 rfl (Nat.le_of_ble_eq_true rfl) dX5_sum_5 ⟨Nat.le_of_ble_eq_true rfl, Nat.le_of_ble_eq_true rfl⟩ ?_
    refine lv_if_eq (tgt := 74) hx hb dX5_sum_8 (by decide) (fun c_8 => ?_) (fun c_8 => ?_)
    · have b_8 := bI_0.mp c_8
      exact w_vret C (by rw [px_bad hg0]; exact hP) hS dX5_sum_74
    · exact absurd (bI_nz c_8) hg0
set_option maxHeartbeats 16000000 in
theorem m_factor_2 (l : Launch) (D : va_G) (k : Nat → ClassId) (o a1 a8 a9 a10 a15 : Nat) (t bl eo ud se : Int32) (wr : va_W) (d dr fb : Nat → Int32) (L : Nat) (hL : L ≤ 900) (σ : PS) (A : Nat → Prop) (hD : va_D A ((o, .inr (0, [.int t, .ref a1, .int bl, .int (nI L), .int (nI σ.1), .int σ.2.1, .int σ.2.2.1, .int eo, .ref a8, .ref a9, .ref a10, .int ud, .int (nI σ.2.2.2), .int 2, .int se, .ref a15])) :: (a8, .inl (k 0, 1798, .inl d)) :: (a9, .inl (k 0, 1798, .inl dr)) :: (a1, .inl (k 0, 900, .inl fb)) :: wr)) (hok : okS L σ) (sA sV : Nat → Nat) (f : Nat) (hf : σ.2.1 = 0 → nee 0 (L - σ.1) ≤ f) (h5 : σ.2.1 = 0 → dr 5 = nI (dN dr 5) ∧ 2 * dN dr 5 + 3 * (L - σ.1) + 1 ≤ 3000) : xM l D k yX5_factor cX5_factor 4 none 11 237 [.ref o] ((o, .inr (0, [.int t, .ref a1, .int bl, .int (nI L), .int (nI σ.1), .int σ.2.1, .int σ.2.2.1, .int eo, .ref a8, .ref a9, .ref a10, .int ud, .int (nI σ.2.2.2), .int 2, .int se, .ref a15])) :: (a8, .inl (k 0, 1798, .inl d)) :: (a9, .inl (k 0, 1798, .inl dr)) :: (a1, .inl (k 0, 900, .inl fb)) :: wr) (MS A sA sV) (none) ((o, .inr (0, [.int t, .ref a1, .int bl, .int (nI L), .int (nI (px fb L f 0 2 σ).1.1), .int ((px fb L f 0 2 σ).1.2.1), .int ((px fb L f 0 2 σ).1.2.2.1), .int eo, .ref a8, .ref a9, .ref a10, .int ud, .int (nI (px fb L f 0 2 σ).1.2.2.2), .int 2, .int se, .ref a15])) :: (a8, .inl (k 0, 1798, .inl d)) :: (a9, .inl (k 0, 1798, .inl (emL dr (px fb L f 0 2 σ).2))) :: (a1, .inl (k 0, 900, .inl fb)) :: wr) A := by
  refine xM_of (by decide) (Nat.le_of_ble_eq_true rfl) ?_
  intro p e s m below meth c ls C hK hX hP hS hl
  obtain ⟨hE, hT⟩ := id hX
  obtain ⟨hx, hb, hr, hml, hown, hts, hlk⟩ := id C
  have hl : lv_has ls 4 [(0, .ref o)] := hl
  refine lv_aload_n hx hb dX5_factor_0 rfl (lv_at hl 0 rfl) ?_
  refine r_callV (As := []) (rest := []) C (m_isGood l D k o σ.2.1 ([.int t, .ref a1, .int bl, .int (nI L), .int (nI σ.1), .int σ.2.1, .int σ.2.2.1, .int eo, .ref a8, .ref a9, .ref a10, .int ud, .int (nI σ.2.2.2), .int 2, .int se, .ref a15] : List Value) rfl) (cwV 0 hts (lw_V q1731 q1733 qs32 q76 q1734) rfl rfl rfl (by decide +kernel) ⟨Nat.le_of_ble_eq_true rfl, Nat.le_of_ble_eq_true rfl⟩) hK (va_recv hK hP (ci := 0) (q0 := 0) rfl rfl) (hP.sub [0] rfl) rfl hl.1 rfl (Nat.le_of_ble_eq_true rfl) dX5_factor_1 ⟨Nat.le_of_ble_eq_true rfl, Nat.le_of_ble_eq_true rfl⟩ ?_
  refine lv_if_ne (tgt := 8) hx hb dX5_factor_4 (by decide) (fun c_4 => ?_) (fun c_4 => ?_)
  · have b_4 := bI_nz c_4
    have hp := hok.1 b_4
    have hs := sk_in (fb := fb) hp
    have hf := hf b_4
    obtain ⟨c1, c2⟩ := h5 b_4
    obtain ⟨f, rfl⟩ : ∃ g, f = g + 1 := ⟨f - 1, by unfold nee at hf; rw [if_neg (by decide), if_neg (by decide)] at hf; omega⟩
    have hf : 3 * (L - σ.1) + 1 ≤ f + 1 := hf
    have hoks := okS_sk (fb := fb) hL hok b_4
    have hss : sk fb L (sk fb L σ.1) = sk fb L σ.1 := sk_sk hp
    refine lv_aload_n hx hb dX5_factor_8 rfl (lv_at hl 0 rfl) ?_
    refine w_callV (As := []) (rest := []) C (m_next l D k o a1 a8 a9 a10 a15 t bl σ.2.1 σ.2.2.1 eo ud (nI σ.2.2.2) 2 se wr d dr fb L hL σ.1 A (va_D_of hD rfl) hp) (cwV 0 hts (lw_V q1735 q1737 qs33 q76 q1738) rfl rfl rfl (by decide +kernel) ⟨Nat.le_of_ble_eq_true rfl, Nat.le_of_ble_eq_true rfl⟩) hK (va_recv hK hP (ci := 0) (q0 := 0) rfl rfl) hP hS (fun _ h => h) rfl hl.1 rfl (Nat.le_of_ble_eq_true rfl) dX5_factor_9 ⟨Nat.le_of_ble_eq_true rfl, Nat.le_of_ble_eq_true rfl⟩ (fun H locs hP hS _ _ => ?_)
    have hP : va_P D clA ((o, .inr (0, [.int t, .ref a1, .int bl, .int (nI L), .int (nI (sk fb L σ.1)), .int σ.2.1, .int σ.2.2.1, .int eo, .ref a8, .ref a9, .ref a10, .int ud, .int (nI σ.2.2.2), .int 2, .int se, .ref a15])) :: (a8, .inl (k 0, 1798, .inl d)) :: (a9, .inl (k 0, 1798, .inl dr)) :: (a1, .inl (k 0, 900, .inl fb)) :: wr) H := hP
    refine lv_istore_n (lv' := [(1, .int (byt fb L (sk fb L σ.1))), (0, .ref o)]) hx hb dX5_factor_12 rfl hl (by decide) rfl (fun ls hl => ?_)
    refine lv_iload_n hx hb dX5_factor_13 rfl (lv_at hl 0 rfl) ?_
    refine lv_bipush (v := 40) hx hb dX5_factor_14 rfl ?_
    refine lv_icmp_ne (tgt := 78) hx hb dX5_factor_16 (by decide) (fun c_16 => ?_) (fun c_16 => ?_)
    · refine lv_iload_n hx hb dX5_factor_78 rfl (lv_at hl 0 rfl) ?_
      refine r_callS (As := [.int (byt fb L (sk fb L σ.1))]) (rest := []) C (m_isDigit l D k (byt fb L (sk fb L σ.1))) (va_cwS 1 hts (lw_S q1772 q1773 q76 q1774) rfl rfl rfl (by decide +kernel) ⟨Nat.le_of_ble_eq_true rfl, Nat.le_of_ble_eq_true rfl⟩) hK trivial rfl hl.1 rfl (Nat.le_of_ble_eq_true rfl) dX5_factor_79 ⟨Nat.le_of_ble_eq_true rfl, Nat.le_of_ble_eq_true rfl⟩ ?_
      refine lv_if_eq (tgt := 89) hx hb dX5_factor_82 (by decide) (fun c_82 => ?_) (fun c_82 => ?_)
      · have b_82 := bI_0.mp c_82
        refine lv_aload_n hx hb dX5_factor_89 rfl (lv_at hl 1 rfl) ?_
        refine va_ldcS hx hb hown (index := 101) (hX.2 0 (by decide)).1 dX5_factor_90 ?_
        refine x_callV (As := [.ref (sA 0)]) (rest := []) C (m_takeWordM l D k o a1 a8 a9 a10 a15 t bl eo ud 2 se wr d dr fb L hL ((sk fb L σ.1), σ.2) A (va_D_of hD rfl) hoks sA sV 0 (by decide)) (cwV 1 hts (lw_V q1748 q1750 qs36 q76 q1751) rfl rfl rfl (by decide +kernel) ⟨Nat.le_of_ble_eq_true rfl, Nat.le_of_ble_eq_true rfl⟩) hK (va_recv hK hP (ci := 0) (q0 := 0) rfl rfl) mv2_MS hP (fun U hU hW => MS_to hX hS (fun _ h => h) U hU hW) hS (fun _ h => h) rfl hl.1 rfl (Nat.le_of_ble_eq_true rfl) dX5_factor_92 ⟨Nat.le_of_ble_eq_true rfl, Nat.le_of_ble_eq_true rfl⟩ (fun H locs hP hS _ _ => ?_)
        have hP : va_P D clA ((o, .inr (0, [.int t, .ref a1, .int bl, .int (nI L), .int (nI (TS fb L 0 ((sk fb L σ.1), σ.2)).1), .int ((TS fb L 0 ((sk fb L σ.1), σ.2)).2.1), .int ((TS fb L 0 ((sk fb L σ.1), σ.2)).2.2.1), .int eo, .ref a8, .ref a9, .ref a10, .int ud, .int (nI (TS fb L 0 ((sk fb L σ.1), σ.2)).2.2.2), .int 2, .int se, .ref a15])) :: (a8, .inl (k 0, 1798, .inl d)) :: (a9, .inl (k 0, 1798, .inl dr)) :: (a1, .inl (k 0, 900, .inl fb)) :: wr) H := hP
        refine lv_if_eq (tgt := 102) hx hb dX5_factor_95 (by decide) (fun c_95 => ?_) (fun c_95 => ?_)
        · have b_95 := bI_0.mp c_95
          rw [TS_no (σ := (sk fb L σ.1, σ.2)) b_4 b_95, hss] at hP
          refine lv_aload_n hx hb dX5_factor_102 rfl (lv_at hl 1 rfl) ?_
          refine va_ldcS hx hb hown (index := 107) (hX.2 1 (by decide)).1 dX5_factor_103 ?_
          refine x_callV (As := [.ref (sA 1)]) (rest := []) C (m_takeWordM l D k o a1 a8 a9 a10 a15 t bl eo ud 2 se wr d dr fb L hL ((sk fb L σ.1), σ.2) A (va_D_of hD rfl) hoks sA sV 1 (by decide)) (cwV 1 hts (lw_V q1748 q1750 qs36 q76 q1751) rfl rfl rfl (by decide +kernel) ⟨Nat.le_of_ble_eq_true rfl, Nat.le_of_ble_eq_true rfl⟩) hK (va_recv hK hP (ci := 0) (q0 := 0) rfl rfl) mv2_MS hP (fun U hU hW => MS_to hX hS (fun _ h => h) U hU hW) hS (fun _ h => h) rfl hl.1 rfl (Nat.le_of_ble_eq_true rfl) dX5_factor_105 ⟨Nat.le_of_ble_eq_true rfl, Nat.le_of_ble_eq_true rfl⟩ (fun H locs hP hS _ _ => ?_)
          have hP : va_P D clA ((o, .inr (0, [.int t, .ref a1, .int bl, .int (nI L), .int (nI (TS fb L 1 ((sk fb L σ.1), σ.2)).1), .int ((TS fb L 1 ((sk fb L σ.1), σ.2)).2.1), .int ((TS fb L 1 ((sk fb L σ.1), σ.2)).2.2.1), .int eo, .ref a8, .ref a9, .ref a10, .int ud, .int (nI (TS fb L 1 ((sk fb L σ.1), σ.2)).2.2.2), .int 2, .int se, .ref a15])) :: (a8, .inl (k 0, 1798, .inl d)) :: (a9, .inl (k 0, 1798, .inl dr)) :: (a1, .inl (k 0, 900, .inl fb)) :: wr) H := hP
          refine lv_if_eq (tgt := 115) hx hb dX5_factor_108 (by decide) (fun c_108 => ?_) (fun c_108 => ?_)
          · have b_108 := bI_0.mp c_108
            rw [TS_no (σ := (sk fb L σ.1, σ.2)) b_4 b_108, hss] at hP
            refine lv_aload_n hx hb dX5_factor_115 rfl (lv_at hl 1 rfl) ?_
            refine va_ldcS hx hb hown (index := 109) (hX.2 2 (by decide)).1 dX5_factor_116 ?_
            refine x_callV (As := [.ref (sA 2)]) (rest := []) C (m_takeWordM l D k o a1 a8 a9 a10 a15 t bl eo ud 2 se wr d dr fb L hL ((sk fb L σ.1), σ.2) A (va_D_of hD rfl) hoks sA sV 2 (by decide)) (cwV 1 hts (lw_V q1748 q1750 qs36 q76 q1751) rfl rfl rfl (by decide +kernel) ⟨Nat.le_of_ble_eq_true rfl, Nat.le_of_ble_eq_true rfl⟩) hK (va_recv hK hP (ci := 0) (q0 := 0) rfl rfl) mv2_MS hP (fun U hU hW => MS_to hX hS (fun _ h => h) U hU hW) hS (fun _ h => h) rfl hl.1 rfl (Nat.le_of_ble_eq_true rfl) dX5_factor_118 ⟨Nat.le_of_ble_eq_true rfl, Nat.le_of_ble_eq_true rfl⟩ (fun H locs hP hS _ _ => ?_)
            have hP : va_P D clA ((o, .inr (0, [.int t, .ref a1, .int bl, .int (nI L), .int (nI (TS fb L 2 ((sk fb L σ.1), σ.2)).1), .int ((TS fb L 2 ((sk fb L σ.1), σ.2)).2.1), .int ((TS fb L 2 ((sk fb L σ.1), σ.2)).2.2.1), .int eo, .ref a8, .ref a9, .ref a10, .int ud, .int (nI (TS fb L 2 ((sk fb L σ.1), σ.2)).2.2.2), .int 2, .int se, .ref a15])) :: (a8, .inl (k 0, 1798, .inl d)) :: (a9, .inl (k 0, 1798, .inl dr)) :: (a1, .inl (k 0, 900, .inl fb)) :: wr) H := hP
            refine lv_if_eq (tgt := 128) hx hb dX5_factor_121 (by decide) (fun c_121 => ?_) (fun c_121 => ?_)
            · have b_121 := bI_0.mp c_121
              rw [TS_no (σ := (sk fb L σ.1, σ.2)) b_4 b_121, hss] at hP
              refine lv_iconst (v := (-1)) hx hb dX5_factor_128 rfl ?_
              refine lv_istore_n (lv' := [(2, .int (-1)), (1, .int (byt fb L (sk fb L σ.1))), (0, .ref o)]) hx hb dX5_factor_129 rfl hl (by decide) rfl (fun ls hl => ?_)
              refine lv_iload_n hx hb dX5_factor_130 rfl (lv_at hl 0 rfl) ?_
              refine lv_if_ge (tgt := 145) hx hb dX5_factor_131 (by decide) (fun c_131 => ?_) (fun c_131 => ?_)
              · exact absurd c_131 (by decide)
              · refine lv_aload_n hx hb dX5_factor_134 rfl (lv_at hl 2 rfl) ?_
                refine lv_iconst (v := 0) hx hb dX5_factor_135 rfl ?_
                refine lv_sipush (v := 9999) hx hb dX5_factor_136 rfl ?_
                refine w_callV (As := [.int 0, .int 9999]) (rest := []) C (m_number l D k o a1 a8 a9 a10 a15 t bl eo ud 2 se wr d dr fb L hL ((sk fb L σ.1), σ.2) A (va_D_of hD rfl) hoks 0 9999) (cwV 2 hts (lw_V q1768 q1770 qs38 q76 q1771) rfl rfl rfl (by decide +kernel) ⟨Nat.le_of_ble_eq_true rfl, Nat.le_of_ble_eq_true rfl⟩) hK (va_recv hK hP (ci := 0) (q0 := 0) rfl rfl) hP hS (fun _ h => h) rfl hl.1 rfl (Nat.le_of_ble_eq_true rfl) dX5_factor_139 ⟨Nat.le_of_ble_eq_true rfl, Nat.le_of_ble_eq_true rfl⟩ (fun H locs hP hS _ _ => ?_)
                have hP : va_P D clA ((o, .inr (0, [.int t, .ref a1, .int bl, .int (nI L), .int (nI (nmS fb L 0 9999 ((sk fb L σ.1), σ.2)).2.1), .int ((nmS fb L 0 9999 ((sk fb L σ.1), σ.2)).2.2.1), .int ((nmS fb L 0 9999 ((sk fb L σ.1), σ.2)).2.2.2.1), .int eo, .ref a8, .ref a9, .ref a10, .int ud, .int (nI (nmS fb L 0 9999 ((sk fb L σ.1), σ.2)).2.2.2.2), .int 2, .int se, .ref a15])) :: (a8, .inl (k 0, 1798, .inl d)) :: (a9, .inl (k 0, 1798, .inl dr)) :: (a1, .inl (k 0, 900, .inl fb)) :: wr) H := hP
                refine lv_goto (tgt := 146) hx hb dX5_factor_142 (by decide) ?_
                refine lv_istore_n (lv' := [(3, .int ((nmS fb L 0 9999 ((sk fb L σ.1), σ.2)).1)), (2, .int (-1)), (1, .int (byt fb L (sk fb L σ.1))), (0, .ref o)]) hx hb dX5_factor_146 rfl hl (by decide) rfl (fun ls hl => ?_)
                refine lv_aload_n hx hb dX5_factor_147 rfl (lv_at hl 3 rfl) ?_
                refine lv_iload_n hx hb dX5_factor_148 rfl (lv_at hl 1 rfl) ?_
                refine lv_if_ge (tgt := 156) hx hb dX5_factor_149 (by decide) (fun c_149 => ?_) (fun c_149 => ?_)
                · exact absurd c_149 (by decide)
                · refine lv_iconst (v := 0) hx hb dX5_factor_152 rfl ?_
                  refine lv_goto (tgt := 157) hx hb dX5_factor_153 (by decide) ?_
                  refine w_callV (As := [.int 0]) (rest := []) C (m_emit l D k o a1 a8 a9 a10 a15 t bl eo ud 2 se wr d dr fb L hL ((nmS fb L 0 9999 ((sk fb L σ.1), σ.2)).2) A (va_D_of hD rfl) (okS_nm hL hoks) 0 (fun z => ⟨c1, by omega⟩)) (cwV 1 hts (lw_V q1823 q1825 qs47 q76 q1826) rfl rfl rfl (by decide +kernel) ⟨Nat.le_of_ble_eq_true rfl, Nat.le_of_ble_eq_true rfl⟩) hK (va_recv hK hP (ci := 0) (q0 := 0) rfl rfl) hP hS (fun _ h => h) rfl hl.1 rfl (Nat.le_of_ble_eq_true rfl) dX5_factor_157 ⟨Nat.le_of_ble_eq_true rfl, Nat.le_of_ble_eq_true rfl⟩ (fun H locs hP hS _ _ => ?_)
                  have hP : va_P D clA ((o, .inr (0, [.int t, .ref a1, .int bl, .int (nI L), .int (nI (nmS fb L 0 9999 ((sk fb L σ.1), σ.2)).2.1), .int ((nmS fb L 0 9999 ((sk fb L σ.1), σ.2)).2.2.1), .int ((nmS fb L 0 9999 ((sk fb L σ.1), σ.2)).2.2.2.1), .int eo, .ref a8, .ref a9, .ref a10, .int ud, .int (nI (nmS fb L 0 9999 ((sk fb L σ.1), σ.2)).2.2.2.2), .int 2, .int se, .ref a15])) :: (a8, .inl (k 0, 1798, .inl d)) :: (a9, .inl (k 0, 1798, .inl (emS dr 0 ((nmS fb L 0 9999 ((sk fb L σ.1), σ.2)).2)))) :: (a1, .inl (k 0, 900, .inl fb)) :: wr) H := hP
                  refine lv_aload_n hx hb dX5_factor_160 rfl (lv_at hl 3 rfl) ?_
                  refine lv_iload_n hx hb dX5_factor_161 rfl (lv_at hl 0 rfl) ?_
                  refine w_callV (As := [.int ((nmS fb L 0 9999 ((sk fb L σ.1), σ.2)).1)]) (rest := []) C (m_emit l D k o a1 a8 a9 a10 a15 t bl eo ud 2 se wr d (emS dr 0 ((nmS fb L 0 9999 ((sk fb L σ.1), σ.2)).2)) fb L hL ((nmS fb L 0 9999 ((sk fb L σ.1), σ.2)).2) A (va_D_of hD rfl) (okS_nm hL hoks) ((nmS fb L 0 9999 ((sk fb L σ.1), σ.2)).1) (fun z => by simp only [emS, ifp_t z]; have g1 := (nm_fwd hoks z).2.1; have g2 := (okS_nm (fb := fb) (lo := 0) (hi := 9999) hL hoks).1 z; have g1 : sk fb L σ.1 < _ := g1; exact ⟨(em1_n (by omega)).1, by rw [(em1_n (dr := dr) (v := 0) (by omega)).2]; omega⟩)) (cwV 1 hts (lw_V q1823 q1825 qs47 q76 q1826) rfl rfl rfl (by decide +kernel) ⟨Nat.le_of_ble_eq_true rfl, Nat.le_of_ble_eq_true rfl⟩) hK (va_recv hK hP (ci := 0) (q0 := 0) rfl rfl) hP hS (fun _ h => h) rfl hl.1 rfl (Nat.le_of_ble_eq_true rfl) dX5_factor_162 ⟨Nat.le_of_ble_eq_true rfl, Nat.le_of_ble_eq_true rfl⟩ (fun H locs hP hS _ _ => ?_)
                  have hP : va_P D clA ((o, .inr (0, [.int t, .ref a1, .int bl, .int (nI L), .int (nI (nmS fb L 0 9999 ((sk fb L σ.1), σ.2)).2.1), .int ((nmS fb L 0 9999 ((sk fb L σ.1), σ.2)).2.2.1), .int ((nmS fb L 0 9999 ((sk fb L σ.1), σ.2)).2.2.2.1), .int eo, .ref a8, .ref a9, .ref a10, .int ud, .int (nI (nmS fb L 0 9999 ((sk fb L σ.1), σ.2)).2.2.2.2), .int 2, .int se, .ref a15])) :: (a8, .inl (k 0, 1798, .inl d)) :: (a9, .inl (k 0, 1798, .inl (emS (emS dr 0 ((nmS fb L 0 9999 ((sk fb L σ.1), σ.2)).2)) ((nmS fb L 0 9999 ((sk fb L σ.1), σ.2)).1) ((nmS fb L 0 9999 ((sk fb L σ.1), σ.2)).2)))) :: (a1, .inl (k 0, 900, .inl fb)) :: wr) H := hP
                  exact w_vret C (by first | (simp only [px, ifp_t b_4, ifp_f c_16, ifp_t (show dig _ from b_82)]; rw [← lit_em]; exact hP) | (simp only [px, ifp_t b_4, ifp_f c_16, ifp_f (show ¬ dig _ from b_82), ifp_f b_95, ifp_f b_108, ifp_f b_121]; rw [← lit_em]; exact hP)) hS dX5_factor_165
            · have b_121 := bI_nz c_121
              have hw := (okS_TS (fb := fb) (i := 2) hL hoks).1 (by rw [TS_er]; exact b_4)
              rw [TS_yes b_121] at hw
              have hw : sk fb L (sk fb L σ.1) + 6 ≤ L := hw
              refine lv_iconst (v := 2) hx hb dX5_factor_124 rfl ?_
              refine lv_goto (tgt := 129) hx hb dX5_factor_125 (by decide) ?_
              refine lv_istore_n (lv' := [(2, .int 2), (1, .int (byt fb L (sk fb L σ.1))), (0, .ref o)]) hx hb dX5_factor_129 rfl hl (by decide) rfl (fun ls hl => ?_)
              refine lv_iload_n hx hb dX5_factor_130 rfl (lv_at hl 0 rfl) ?_
              refine lv_if_ge (tgt := 145) hx hb dX5_factor_131 (by decide) (fun c_131 => ?_) (fun c_131 => ?_)
              · refine lv_iload_n hx hb dX5_factor_145 rfl (lv_at hl 0 rfl) ?_
                refine lv_istore_n (lv' := [(3, .int 2), (2, .int 2), (1, .int (byt fb L (sk fb L σ.1))), (0, .ref o)]) hx hb dX5_factor_146 rfl hl (by decide) rfl (fun ls hl => ?_)
                refine lv_aload_n hx hb dX5_factor_147 rfl (lv_at hl 3 rfl) ?_
                refine lv_iload_n hx hb dX5_factor_148 rfl (lv_at hl 1 rfl) ?_
                refine lv_if_ge (tgt := 156) hx hb dX5_factor_149 (by decide) (fun c_149 => ?_) (fun c_149 => ?_)
                · refine lv_iconst (v := 1) hx hb dX5_factor_156 rfl ?_
                  refine w_callV (As := [.int 1]) (rest := []) C (m_emit l D k o a1 a8 a9 a10 a15 t bl eo ud 2 se wr d dr fb L hL (TS fb L 2 ((sk fb L σ.1), σ.2)) A (va_D_of hD rfl) (okS_TS hL hoks) 1 (fun _ => ⟨c1, by omega⟩)) (cwV 1 hts (lw_V q1823 q1825 qs47 q76 q1826) rfl rfl rfl (by decide +kernel) ⟨Nat.le_of_ble_eq_true rfl, Nat.le_of_ble_eq_true rfl⟩) hK (va_recv hK hP (ci := 0) (q0 := 0) rfl rfl) hP hS (fun _ h => h) rfl hl.1 rfl (Nat.le_of_ble_eq_true rfl) dX5_factor_157 ⟨Nat.le_of_ble_eq_true rfl, Nat.le_of_ble_eq_true rfl⟩ (fun H locs hP hS _ _ => ?_)
                  have hP : va_P D clA ((o, .inr (0, [.int t, .ref a1, .int bl, .int (nI L), .int (nI (TS fb L 2 ((sk fb L σ.1), σ.2)).1), .int ((TS fb L 2 ((sk fb L σ.1), σ.2)).2.1), .int ((TS fb L 2 ((sk fb L σ.1), σ.2)).2.2.1), .int eo, .ref a8, .ref a9, .ref a10, .int ud, .int (nI (TS fb L 2 ((sk fb L σ.1), σ.2)).2.2.2), .int 2, .int se, .ref a15])) :: (a8, .inl (k 0, 1798, .inl d)) :: (a9, .inl (k 0, 1798, .inl (emS dr 1 (TS fb L 2 ((sk fb L σ.1), σ.2))))) :: (a1, .inl (k 0, 900, .inl fb)) :: wr) H := hP
                  refine lv_aload_n hx hb dX5_factor_160 rfl (lv_at hl 3 rfl) ?_
                  refine lv_iload_n hx hb dX5_factor_161 rfl (lv_at hl 0 rfl) ?_
                  refine w_callV (As := [.int 2]) (rest := []) C (m_emit l D k o a1 a8 a9 a10 a15 t bl eo ud 2 se wr d (emS dr 1 (TS fb L 2 ((sk fb L σ.1), σ.2))) fb L hL (TS fb L 2 ((sk fb L σ.1), σ.2)) A (va_D_of hD rfl) (okS_TS hL hoks) 2 (fun z => by simp only [emS, ifp_t z]; exact ⟨(em1_n (by omega)).1, by rw [(em1_n (dr := dr) (v := 1) (by omega)).2]; omega⟩)) (cwV 1 hts (lw_V q1823 q1825 qs47 q76 q1826) rfl rfl rfl (by decide +kernel) ⟨Nat.le_of_ble_eq_true rfl, Nat.le_of_ble_eq_true rfl⟩) hK (va_recv hK hP (ci := 0) (q0 := 0) rfl rfl) hP hS (fun _ h => h) rfl hl.1 rfl (Nat.le_of_ble_eq_true rfl) dX5_factor_162 ⟨Nat.le_of_ble_eq_true rfl, Nat.le_of_ble_eq_true rfl⟩ (fun H locs hP hS _ _ => ?_)
                  have hP : va_P D clA ((o, .inr (0, [.int t, .ref a1, .int bl, .int (nI L), .int (nI (TS fb L 2 ((sk fb L σ.1), σ.2)).1), .int ((TS fb L 2 ((sk fb L σ.1), σ.2)).2.1), .int ((TS fb L 2 ((sk fb L σ.1), σ.2)).2.2.1), .int eo, .ref a8, .ref a9, .ref a10, .int ud, .int (nI (TS fb L 2 ((sk fb L σ.1), σ.2)).2.2.2), .int 2, .int se, .ref a15])) :: (a8, .inl (k 0, 1798, .inl d)) :: (a9, .inl (k 0, 1798, .inl (emS (emS dr 1 (TS fb L 2 ((sk fb L σ.1), σ.2))) 2 (TS fb L 2 ((sk fb L σ.1), σ.2))))) :: (a1, .inl (k 0, 900, .inl fb)) :: wr) H := hP
                  exact w_vret C (by simp only [px, ifp_t b_4, ifp_f c_16, ifp_f (show ¬ dig _ from b_82), ifp_f b_95, ifp_f b_108, ifp_t b_121]; simp only [emS, ifp_t (show (TS fb L 2 (sk fb L σ.1, σ.2)).2.1 = 0 by rw [TS_er]; exact b_4)] at hP; exact hP) hS dX5_factor_165
                · exact absurd c_149 (by decide)
              · exact absurd c_131 (by decide)
          · have b_108 := bI_nz c_108
            have hw := (okS_TS (fb := fb) (i := 1) hL hoks).1 (by rw [TS_er]; exact b_4)
            rw [TS_yes b_108] at hw
            have hw : sk fb L (sk fb L σ.1) + 4 ≤ L := hw
            refine lv_iconst (v := 1) hx hb dX5_factor_111 rfl ?_
            refine lv_goto (tgt := 129) hx hb dX5_factor_112 (by decide) ?_
            refine lv_istore_n (lv' := [(2, .int 1), (1, .int (byt fb L (sk fb L σ.1))), (0, .ref o)]) hx hb dX5_factor_129 rfl hl (by decide) rfl (fun ls hl => ?_)
            refine lv_iload_n hx hb dX5_factor_130 rfl (lv_at hl 0 rfl) ?_
            refine lv_if_ge (tgt := 145) hx hb dX5_factor_131 (by decide) (fun c_131 => ?_) (fun c_131 => ?_)
            · refine lv_iload_n hx hb dX5_factor_145 rfl (lv_at hl 0 rfl) ?_
              refine lv_istore_n (lv' := [(3, .int 1), (2, .int 1), (1, .int (byt fb L (sk fb L σ.1))), (0, .ref o)]) hx hb dX5_factor_146 rfl hl (by decide) rfl (fun ls hl => ?_)
              refine lv_aload_n hx hb dX5_factor_147 rfl (lv_at hl 3 rfl) ?_
              refine lv_iload_n hx hb dX5_factor_148 rfl (lv_at hl 1 rfl) ?_
              refine lv_if_ge (tgt := 156) hx hb dX5_factor_149 (by decide) (fun c_149 => ?_) (fun c_149 => ?_)
              · refine lv_iconst (v := 1) hx hb dX5_factor_156 rfl ?_
                refine w_callV (As := [.int 1]) (rest := []) C (m_emit l D k o a1 a8 a9 a10 a15 t bl eo ud 2 se wr d dr fb L hL (TS fb L 1 ((sk fb L σ.1), σ.2)) A (va_D_of hD rfl) (okS_TS hL hoks) 1 (fun _ => ⟨c1, by omega⟩)) (cwV 1 hts (lw_V q1823 q1825 qs47 q76 q1826) rfl rfl rfl (by decide +kernel) ⟨Nat.le_of_ble_eq_true rfl, Nat.le_of_ble_eq_true rfl⟩) hK (va_recv hK hP (ci := 0) (q0 := 0) rfl rfl) hP hS (fun _ h => h) rfl hl.1 rfl (Nat.le_of_ble_eq_true rfl) dX5_factor_157 ⟨Nat.le_of_ble_eq_true rfl, Nat.le_of_ble_eq_true rfl⟩ (fun H locs hP hS _ _ => ?_)
                have hP : va_P D clA ((o, .inr (0, [.int t, .ref a1, .int bl, .int (nI L), .int (nI (TS fb L 1 ((sk fb L σ.1), σ.2)).1), .int ((TS fb L 1 ((sk fb L σ.1), σ.2)).2.1), .int ((TS fb L 1 ((sk fb L σ.1), σ.2)).2.2.1), .int eo, .ref a8, .ref a9, .ref a10, .int ud, .int (nI (TS fb L 1 ((sk fb L σ.1), σ.2)).2.2.2), .int 2, .int se, .ref a15])) :: (a8, .inl (k 0, 1798, .inl d)) :: (a9, .inl (k 0, 1798, .inl (emS dr 1 (TS fb L 1 ((sk fb L σ.1), σ.2))))) :: (a1, .inl (k 0, 900, .inl fb)) :: wr) H := hP
                refine lv_aload_n hx hb dX5_factor_160 rfl (lv_at hl 3 rfl) ?_
                refine lv_iload_n hx hb dX5_factor_161 rfl (lv_at hl 0 rfl) ?_
                refine w_callV (As := [.int 1]) (rest := []) C (m_emit l D k o a1 a8 a9 a10 a15 t bl eo ud 2 se wr d (emS dr 1 (TS fb L 1 ((sk fb L σ.1), σ.2))) fb L hL (TS fb L 1 ((sk fb L σ.1), σ.2)) A (va_D_of hD rfl) (okS_TS hL hoks) 1 (fun z => by simp only [emS, ifp_t z]; exact ⟨(em1_n (by omega)).1, by rw [(em1_n (dr := dr) (v := 1) (by omega)).2]; omega⟩)) (cwV 1 hts (lw_V q1823 q1825 qs47 q76 q1826) rfl rfl rfl (by decide +kernel) ⟨Nat.le_of_ble_eq_true rfl, Nat.le_of_ble_eq_true rfl⟩) hK (va_recv hK hP (ci := 0) (q0 := 0) rfl rfl) hP hS (fun _ h => h) rfl hl.1 rfl (Nat.le_of_ble_eq_true rfl) dX5_factor_162 ⟨Nat.le_of_ble_eq_true rfl, Nat.le_of_ble_eq_true rfl⟩ (fun H locs hP hS _ _ => ?_)
                have hP : va_P D clA ((o, .inr (0, [.int t, .ref a1, .int bl, .int (nI L), .int (nI (TS fb L 1 ((sk fb L σ.1), σ.2)).1), .int ((TS fb L 1 ((sk fb L σ.1), σ.2)).2.1), .int ((TS fb L 1 ((sk fb L σ.1), σ.2)).2.2.1), .int eo, .ref a8, .ref a9, .ref a10, .int ud, .int (nI (TS fb L 1 ((sk fb L σ.1), σ.2)).2.2.2), .int 2, .int se, .ref a15])) :: (a8, .inl (k 0, 1798, .inl d)) :: (a9, .inl (k 0, 1798, .inl (emS (emS dr 1 (TS fb L 1 ((sk fb L σ.1), σ.2))) 1 (TS fb L 1 ((sk fb L σ.1), σ.2))))) :: (a1, .inl (k 0, 900, .inl fb)) :: wr) H := hP
                exact w_vret C (by simp only [px, ifp_t b_4, ifp_f c_16, ifp_f (show ¬ dig _ from b_82), ifp_f b_95, ifp_t b_108]; simp only [emS, ifp_t (show (TS fb L 1 (sk fb L σ.1, σ.2)).2.1 = 0 by rw [TS_er]; exact b_4)] at hP; exact hP) hS dX5_factor_165
              · exact absurd c_149 (by decide)
            · exact absurd c_131 (by decide)
        · have b_95 := bI_nz c_95
          have hw := (okS_TS (fb := fb) (i := 0) hL hoks).1 (by rw [TS_er]; exact b_4)
          rw [TS_yes b_95] at hw
          have hw : sk fb L (sk fb L σ.1) + 6 ≤ L := hw
          refine lv_iconst (v := 0) hx hb dX5_factor_98 rfl ?_
          refine lv_goto (tgt := 129) hx hb dX5_factor_99 (by decide) ?_
          refine lv_istore_n (lv' := [(2, .int 0), (1, .int (byt fb L (sk fb L σ.1))), (0, .ref o)]) hx hb dX5_factor_129 rfl hl (by decide) rfl (fun ls hl => ?_)
          refine lv_iload_n hx hb dX5_factor_130 rfl (lv_at hl 0 rfl) ?_
          refine lv_if_ge (tgt := 145) hx hb dX5_factor_131 (by decide) (fun c_131 => ?_) (fun c_131 => ?_)
          · refine lv_iload_n hx hb dX5_factor_145 rfl (lv_at hl 0 rfl) ?_
            refine lv_istore_n (lv' := [(3, .int 0), (2, .int 0), (1, .int (byt fb L (sk fb L σ.1))), (0, .ref o)]) hx hb dX5_factor_146 rfl hl (by decide) rfl (fun ls hl => ?_)
            refine lv_aload_n hx hb dX5_factor_147 rfl (lv_at hl 3 rfl) ?_
            refine lv_iload_n hx hb dX5_factor_148 rfl (lv_at hl 1 rfl) ?_
            refine lv_if_ge (tgt := 156) hx hb dX5_factor_149 (by decide) (fun c_149 => ?_) (fun c_149 => ?_)
            · refine lv_iconst (v := 1) hx hb dX5_factor_156 rfl ?_
              refine w_callV (As := [.int 1]) (rest := []) C (m_emit l D k o a1 a8 a9 a10 a15 t bl eo ud 2 se wr d dr fb L hL (TS fb L 0 ((sk fb L σ.1), σ.2)) A (va_D_of hD rfl) (okS_TS hL hoks) 1 (fun _ => ⟨c1, by omega⟩)) (cwV 1 hts (lw_V q1823 q1825 qs47 q76 q1826) rfl rfl rfl (by decide +kernel) ⟨Nat.le_of_ble_eq_true rfl, Nat.le_of_ble_eq_true rfl⟩) hK (va_recv hK hP (ci := 0) (q0 := 0) rfl rfl) hP hS (fun _ h => h) rfl hl.1 rfl (Nat.le_of_ble_eq_true rfl) dX5_factor_157 ⟨Nat.le_of_ble_eq_true rfl, Nat.le_of_ble_eq_true rfl⟩ (fun H locs hP hS _ _ => ?_)
              have hP : va_P D clA ((o, .inr (0, [.int t, .ref a1, .int bl, .int (nI L), .int (nI (TS fb L 0 ((sk fb L σ.1), σ.2)).1), .int ((TS fb L 0 ((sk fb L σ.1), σ.2)).2.1), .int ((TS fb L 0 ((sk fb L σ.1), σ.2)).2.2.1), .int eo, .ref a8, .ref a9, .ref a10, .int ud, .int (nI (TS fb L 0 ((sk fb L σ.1), σ.2)).2.2.2), .int 2, .int se, .ref a15])) :: (a8, .inl (k 0, 1798, .inl d)) :: (a9, .inl (k 0, 1798, .inl (emS dr 1 (TS fb L 0 ((sk fb L σ.1), σ.2))))) :: (a1, .inl (k 0, 900, .inl fb)) :: wr) H := hP
              refine lv_aload_n hx hb dX5_factor_160 rfl (lv_at hl 3 rfl) ?_
              refine lv_iload_n hx hb dX5_factor_161 rfl (lv_at hl 0 rfl) ?_
              refine w_callV (As := [.int 0]) (rest := []) C (m_emit l D k o a1 a8 a9 a10 a15 t bl eo ud 2 se wr d (emS dr 1 (TS fb L 0 ((sk fb L σ.1), σ.2))) fb L hL (TS fb L 0 ((sk fb L σ.1), σ.2)) A (va_D_of hD rfl) (okS_TS hL hoks) 0 (fun z => by simp only [emS, ifp_t z]; exact ⟨(em1_n (by omega)).1, by rw [(em1_n (dr := dr) (v := 1) (by omega)).2]; omega⟩)) (cwV 1 hts (lw_V q1823 q1825 qs47 q76 q1826) rfl rfl rfl (by decide +kernel) ⟨Nat.le_of_ble_eq_true rfl, Nat.le_of_ble_eq_true rfl⟩) hK (va_recv hK hP (ci := 0) (q0 := 0) rfl rfl) hP hS (fun _ h => h) rfl hl.1 rfl (Nat.le_of_ble_eq_true rfl) dX5_factor_162 ⟨Nat.le_of_ble_eq_true rfl, Nat.le_of_ble_eq_true rfl⟩ (fun H locs hP hS _ _ => ?_)
              have hP : va_P D clA ((o, .inr (0, [.int t, .ref a1, .int bl, .int (nI L), .int (nI (TS fb L 0 ((sk fb L σ.1), σ.2)).1), .int ((TS fb L 0 ((sk fb L σ.1), σ.2)).2.1), .int ((TS fb L 0 ((sk fb L σ.1), σ.2)).2.2.1), .int eo, .ref a8, .ref a9, .ref a10, .int ud, .int (nI (TS fb L 0 ((sk fb L σ.1), σ.2)).2.2.2), .int 2, .int se, .ref a15])) :: (a8, .inl (k 0, 1798, .inl d)) :: (a9, .inl (k 0, 1798, .inl (emS (emS dr 1 (TS fb L 0 ((sk fb L σ.1), σ.2))) 0 (TS fb L 0 ((sk fb L σ.1), σ.2))))) :: (a1, .inl (k 0, 900, .inl fb)) :: wr) H := hP
              exact w_vret C (by simp only [px, ifp_t b_4, ifp_f c_16, ifp_f (show ¬ dig _ from b_82), ifp_t b_95]; simp only [emS, ifp_t (show (TS fb L 0 (sk fb L σ.1, σ.2)).2.1 = 0 by rw [TS_er]; exact b_4)] at hP; exact hP) hS dX5_factor_165
            · exact absurd c_149 (by decide)
          · exact absurd c_131 (by decide)
      · have b_82 := bI_nz c_82
        refine lv_iconst (v := (-1)) hx hb dX5_factor_85 rfl ?_
        refine lv_goto (tgt := 129) hx hb dX5_factor_86 (by decide) ?_
        refine lv_istore_n (lv' := [(2, .int (-1)), (1, .int (byt fb L (sk fb L σ.1))), (0, .ref o)]) hx hb dX5_factor_129 rfl hl (by decide) rfl (fun ls hl => ?_)
        refine lv_iload_n hx hb dX5_factor_130 rfl (lv_at hl 0 rfl) ?_
        refine lv_if_ge (tgt := 145) hx hb dX5_factor_131 (by decide) (fun c_131 => ?_) (fun c_131 => ?_)
        · exact absurd c_131 (by decide)
        · refine lv_aload_n hx hb dX5_factor_134 rfl (lv_at hl 2 rfl) ?_
          refine lv_iconst (v := 0) hx hb dX5_factor_135 rfl ?_
          refine lv_sipush (v := 9999) hx hb dX5_factor_136 rfl ?_
          refine w_callV (As := [.int 0, .int 9999]) (rest := []) C (m_number l D k o a1 a8 a9 a10 a15 t bl eo ud 2 se wr d dr fb L hL ((sk fb L σ.1), σ.2) A (va_D_of hD rfl) hoks 0 9999) (cwV 2 hts (lw_V q1768 q1770 qs38 q76 q1771) rfl rfl rfl (by decide +kernel) ⟨Nat.le_of_ble_eq_true rfl, Nat.le_of_ble_eq_true rfl⟩) hK (va_recv hK hP (ci := 0) (q0 := 0) rfl rfl) hP hS (fun _ h => h) rfl hl.1 rfl (Nat.le_of_ble_eq_true rfl) dX5_factor_139 ⟨Nat.le_of_ble_eq_true rfl, Nat.le_of_ble_eq_true rfl⟩ (fun H locs hP hS _ _ => ?_)
          have hP : va_P D clA ((o, .inr (0, [.int t, .ref a1, .int bl, .int (nI L), .int (nI (nmS fb L 0 9999 ((sk fb L σ.1), σ.2)).2.1), .int ((nmS fb L 0 9999 ((sk fb L σ.1), σ.2)).2.2.1), .int ((nmS fb L 0 9999 ((sk fb L σ.1), σ.2)).2.2.2.1), .int eo, .ref a8, .ref a9, .ref a10, .int ud, .int (nI (nmS fb L 0 9999 ((sk fb L σ.1), σ.2)).2.2.2.2), .int 2, .int se, .ref a15])) :: (a8, .inl (k 0, 1798, .inl d)) :: (a9, .inl (k 0, 1798, .inl dr)) :: (a1, .inl (k 0, 900, .inl fb)) :: wr) H := hP
          refine lv_goto (tgt := 146) hx hb dX5_factor_142 (by decide) ?_
          refine lv_istore_n (lv' := [(3, .int ((nmS fb L 0 9999 ((sk fb L σ.1), σ.2)).1)), (2, .int (-1)), (1, .int (byt fb L (sk fb L σ.1))), (0, .ref o)]) hx hb dX5_factor_146 rfl hl (by decide) rfl (fun ls hl => ?_)
          refine lv_aload_n hx hb dX5_factor_147 rfl (lv_at hl 3 rfl) ?_
          refine lv_iload_n hx hb dX5_factor_148 rfl (lv_at hl 1 rfl) ?_
          refine lv_if_ge (tgt := 156) hx hb dX5_factor_149 (by decide) (fun c_149 => ?_) (fun c_149 => ?_)
          · exact absurd c_149 (by decide)
          · refine lv_iconst (v := 0) hx hb dX5_factor_152 rfl ?_
            refine lv_goto (tgt := 157) hx hb dX5_factor_153 (by decide) ?_
            refine w_callV (As := [.int 0]) (rest := []) C (m_emit l D k o a1 a8 a9 a10 a15 t bl eo ud 2 se wr d dr fb L hL ((nmS fb L 0 9999 ((sk fb L σ.1), σ.2)).2) A (va_D_of hD rfl) (okS_nm hL hoks) 0 (fun z => ⟨c1, by omega⟩)) (cwV 1 hts (lw_V q1823 q1825 qs47 q76 q1826) rfl rfl rfl (by decide +kernel) ⟨Nat.le_of_ble_eq_true rfl, Nat.le_of_ble_eq_true rfl⟩) hK (va_recv hK hP (ci := 0) (q0 := 0) rfl rfl) hP hS (fun _ h => h) rfl hl.1 rfl (Nat.le_of_ble_eq_true rfl) dX5_factor_157 ⟨Nat.le_of_ble_eq_true rfl, Nat.le_of_ble_eq_true rfl⟩ (fun H locs hP hS _ _ => ?_)
            have hP : va_P D clA ((o, .inr (0, [.int t, .ref a1, .int bl, .int (nI L), .int (nI (nmS fb L 0 9999 ((sk fb L σ.1), σ.2)).2.1), .int ((nmS fb L 0 9999 ((sk fb L σ.1), σ.2)).2.2.1), .int ((nmS fb L 0 9999 ((sk fb L σ.1), σ.2)).2.2.2.1), .int eo, .ref a8, .ref a9, .ref a10, .int ud, .int (nI (nmS fb L 0 9999 ((sk fb L σ.1), σ.2)).2.2.2.2), .int 2, .int se, .ref a15])) :: (a8, .inl (k 0, 1798, .inl d)) :: (a9, .inl (k 0, 1798, .inl (emS dr 0 ((nmS fb L 0 9999 ((sk fb L σ.1), σ.2)).2)))) :: (a1, .inl (k 0, 900, .inl fb)) :: wr) H := hP
            refine lv_aload_n hx hb dX5_factor_160 rfl (lv_at hl 3 rfl) ?_
            refine lv_iload_n hx hb dX5_factor_161 rfl (lv_at hl 0 rfl) ?_
            refine w_callV (As := [.int ((nmS fb L 0 9999 ((sk fb L σ.1), σ.2)).1)]) (rest := []) C (m_emit l D k o a1 a8 a9 a10 a15 t bl eo ud 2 se wr d (emS dr 0 ((nmS fb L 0 9999 ((sk fb L σ.1), σ.2)).2)) fb L hL ((nmS fb L 0 9999 ((sk fb L σ.1), σ.2)).2) A (va_D_of hD rfl) (okS_nm hL hoks) ((nmS fb L 0 9999 ((sk fb L σ.1), σ.2)).1) (fun z => by simp only [emS, ifp_t z]; have g1 := (nm_fwd hoks z).2.1; have g2 := (okS_nm (fb := fb) (lo := 0) (hi := 9999) hL hoks).1 z; have g1 : sk fb L σ.1 < _ := g1; exact ⟨(em1_n (by omega)).1, by rw [(em1_n (dr := dr) (v := 0) (by omega)).2]; omega⟩)) (cwV 1 hts (lw_V q1823 q1825 qs47 q76 q1826) rfl rfl rfl (by decide +kernel) ⟨Nat.le_of_ble_eq_true rfl, Nat.le_of_ble_eq_true rfl⟩) hK (va_recv hK hP (ci := 0) (q0 := 0) rfl rfl) hP hS (fun _ h => h) rfl hl.1 rfl (Nat.le_of_ble_eq_true rfl) dX5_factor_162 ⟨Nat.le_of_ble_eq_true rfl, Nat.le_of_ble_eq_true rfl⟩ (fun H locs hP hS _ _ => ?_)
            have hP : va_P D clA ((o, .inr (0, [.int t, .ref a1, .int bl, .int (nI L), .int (nI (nmS fb L 0 9999 ((sk fb L σ.1), σ.2)).2.1), .int ((nmS fb L 0 9999 ((sk fb L σ.1), σ.2)).2.2.1), .int ((nmS fb L 0 9999 ((sk fb L σ.1), σ.2)).2.2.2.1), .int eo, .ref a8, .ref a9, .ref a10, .int ud, .int (nI (nmS fb L 0 9999 ((sk fb L σ.1), σ.2)).2.2.2.2), .int 2, .int se, .ref a15])) :: (a8, .inl (k 0, 1798, .inl d)) :: (a9, .inl (k 0, 1798, .inl (emS (emS dr 0 ((nmS fb L 0 9999 ((sk fb L σ.1), σ.2)).2)) ((nmS fb L 0 9999 ((sk fb L σ.1), σ.2)).1) ((nmS fb L 0 9999 ((sk fb L σ.1), σ.2)).2)))) :: (a1, .inl (k 0, 900, .inl fb)) :: wr) H := hP
            exact w_vret C (by first | (simp only [px, ifp_t b_4, ifp_f c_16, ifp_t (show dig _ from b_82)]; rw [← lit_em]; exact hP) | (simp only [px, ifp_t b_4, ifp_f c_16, ifp_f (show ¬ dig _ from b_82), ifp_f b_95, ifp_f b_108, ifp_f b_121]; rw [← lit_em]; exact hP)) hS dX5_factor_165
    · have hlt := byt_lt c_16 (by decide)
      have hok1 := okS_s1 hL hok c_16 (by decide)
      have q := px_ok (fb := fb) hL f 2 3 _ hok1 (fun _ => by show 3 * (L - (sk fb L σ.1 + 1)) + 3 ≤ f; omega)
      refine lv_aload_n hx hb dX5_factor_19 rfl (lv_at hl 1 rfl) ?_
      refine va_get hx hb hts in_X5 hown hK hP 0 rfl rfl 13 (by decide) (hts _ q1675) (fun _ h => h) rfl dX5_factor_20 ?_
      refine lv_iconst (v := 4) hx hb dX5_factor_23 rfl ?_
      refine lv_icmp_ne (tgt := 37) hx hb dX5_factor_24 (by decide) (fun c_24 => ?_) (fun c_24 => ?_)
      · refine lv_aload_n hx hb dX5_factor_37 rfl (lv_at hl 1 rfl) ?_
        refine lv_dup hx hb dX5_factor_38 rfl ?_
        refine va_get hx hb hts in_X5 hown hK hP 0 rfl rfl 4 (by decide) (hts _ q1666) (fun _ h => h) rfl dX5_factor_39 ?_
        refine lv_iconst (v := 1) hx hb dX5_factor_42 rfl ?_
        refine lv_iadd hx hb dX5_factor_43 ?_
        refine w_topi (y := nI ((sk fb L σ.1) + 1)) (nI_add (sk fb L σ.1) 1) ?_
        refine va_put hx hb hts in_X5 tyX5 tyX5_ok nmX5 hown hK hP (va_D_of hD rfl) hS 0 rfl rfl 4 (by decide) (hts _ q1666) (fun _ h => h) rfl rfl rfl rfl (Nat.le_of_ble_eq_true rfl) dX5_factor_44 (fun H locs hP _ hS => ?_)
        have hP : va_P D clA ((o, .inr (0, [.int t, .ref a1, .int bl, .int (nI L), .int (nI ((sk fb L σ.1) + 1)), .int σ.2.1, .int σ.2.2.1, .int eo, .ref a8, .ref a9, .ref a10, .int ud, .int (nI σ.2.2.2), .int 2, .int se, .ref a15])) :: (a8, .inl (k 0, 1798, .inl d)) :: (a9, .inl (k 0, 1798, .inl dr)) :: (a1, .inl (k 0, 900, .inl fb)) :: wr) H := hP
        refine lv_aload_n hx hb dX5_factor_47 rfl (lv_at hl 1 rfl) ?_
        refine lv_dup hx hb dX5_factor_48 rfl ?_
        refine va_get hx hb hts in_X5 hown hK hP 0 rfl rfl 13 (by decide) (hts _ q1675) (fun _ h => h) rfl dX5_factor_49 ?_
        refine lv_iconst (v := 1) hx hb dX5_factor_52 rfl ?_
        refine lv_iadd hx hb dX5_factor_53 ?_
        refine w_topi (y := 3) (by decide) ?_
        refine va_put hx hb hts in_X5 tyX5 tyX5_ok nmX5 hown hK hP (va_D_of hD rfl) hS 0 rfl rfl 13 (by decide) (hts _ q1675) (fun _ h => h) rfl rfl rfl rfl (Nat.le_of_ble_eq_true rfl) dX5_factor_54 (fun H locs hP _ hS => ?_)
        have hP : va_P D clA ((o, .inr (0, [.int t, .ref a1, .int bl, .int (nI L), .int (nI ((sk fb L σ.1) + 1)), .int σ.2.1, .int σ.2.2.1, .int eo, .ref a8, .ref a9, .ref a10, .int ud, .int (nI σ.2.2.2), .int 3, .int se, .ref a15])) :: (a8, .inl (k 0, 1798, .inl d)) :: (a9, .inl (k 0, 1798, .inl dr)) :: (a1, .inl (k 0, 900, .inl fb)) :: wr) H := hP
        refine lv_aload_n hx hb dX5_factor_57 rfl (lv_at hl 1 rfl) ?_
        refine x_callV (As := []) (rest := []) C (m_sum_3 l D k o a1 a8 a9 a10 a15 t bl eo ud se wr d dr fb L hL (((sk fb L σ.1) + 1), σ.2) A (va_D_of hD rfl) hok1 sA sV f (fun _ => by show 3 * (L - (sk fb L σ.1 + 1)) + 3 ≤ f; omega) (fun _ => ⟨c1, by show 2 * dN dr 5 + 3 * (L - (sk fb L σ.1 + 1)) + 1 ≤ 3000; omega⟩)) (cwV 0 hts (lw_V q1804 q1806 qs43 q76 q1807) rfl rfl rfl (by decide +kernel) ⟨Nat.le_of_ble_eq_true rfl, Nat.le_of_ble_eq_true rfl⟩) hK (va_recv hK hP (ci := 0) (q0 := 0) rfl rfl) mv2_MS hP (fun U hU hW => MS_to hX hS (fun _ h => h) U hU hW) hS (fun _ h => h) rfl hl.1 rfl (Nat.le_of_ble_eq_true rfl) dX5_factor_58 ⟨Nat.le_of_ble_eq_true rfl, Nat.le_of_ble_eq_true rfl⟩ (fun H locs hP hS _ _ => ?_)
        have hP : va_P D clA ((o, .inr (0, [.int t, .ref a1, .int bl, .int (nI L), .int (nI (px fb L f 2 3 (((sk fb L σ.1) + 1), σ.2)).1.1), .int ((px fb L f 2 3 (((sk fb L σ.1) + 1), σ.2)).1.2.1), .int ((px fb L f 2 3 (((sk fb L σ.1) + 1), σ.2)).1.2.2.1), .int eo, .ref a8, .ref a9, .ref a10, .int ud, .int (nI (px fb L f 2 3 (((sk fb L σ.1) + 1), σ.2)).1.2.2.2), .int 3, .int se, .ref a15])) :: (a8, .inl (k 0, 1798, .inl d)) :: (a9, .inl (k 0, 1798, .inl (emL dr (px fb L f 2 3 (((sk fb L σ.1) + 1), σ.2)).2))) :: (a1, .inl (k 0, 900, .inl fb)) :: wr) H := hP
        refine lv_aload_n hx hb dX5_factor_61 rfl (lv_at hl 1 rfl) ?_
        refine lv_bipush (v := 41) hx hb dX5_factor_62 rfl ?_
        refine w_callV (As := [.int 41]) (rest := []) C (m_expect l D k o a1 a8 a9 a10 a15 t bl eo ud 3 se wr d (emL dr (px fb L f 2 3 (((sk fb L σ.1) + 1), σ.2)).2) fb L hL ((px fb L f 2 3 (((sk fb L σ.1) + 1), σ.2)).1) A (va_D_of hD rfl) q.1 41) (cwV 1 hts (lw_V q1816 q1818 qs46 q76 q1819) rfl rfl rfl (by decide +kernel) ⟨Nat.le_of_ble_eq_true rfl, Nat.le_of_ble_eq_true rfl⟩) hK (va_recv hK hP (ci := 0) (q0 := 0) rfl rfl) hP hS (fun _ h => h) rfl hl.1 rfl (Nat.le_of_ble_eq_true rfl) dX5_factor_64 ⟨Nat.le_of_ble_eq_true rfl, Nat.le_of_ble_eq_true rfl⟩ (fun H locs hP hS _ _ => ?_)
        have hP : va_P D clA ((o, .inr (0, [.int t, .ref a1, .int bl, .int (nI L), .int (nI (exS fb L 41 ((px fb L f 2 3 (((sk fb L σ.1) + 1), σ.2)).1)).1), .int ((exS fb L 41 ((px fb L f 2 3 (((sk fb L σ.1) + 1), σ.2)).1)).2.1), .int ((exS fb L 41 ((px fb L f 2 3 (((sk fb L σ.1) + 1), σ.2)).1)).2.2.1), .int eo, .ref a8, .ref a9, .ref a10, .int ud, .int (nI (exS fb L 41 ((px fb L f 2 3 (((sk fb L σ.1) + 1), σ.2)).1)).2.2.2), .int 3, .int se, .ref a15])) :: (a8, .inl (k 0, 1798, .inl d)) :: (a9, .inl (k 0, 1798, .inl (emL dr (px fb L f 2 3 (((sk fb L σ.1) + 1), σ.2)).2))) :: (a1, .inl (k 0, 900, .inl fb)) :: wr) H := hP
        refine lv_aload_n hx hb dX5_factor_67 rfl (lv_at hl 1 rfl) ?_
        refine lv_dup hx hb dX5_factor_68 rfl ?_
        refine va_get hx hb hts in_X5 hown hK hP 0 rfl rfl 13 (by decide) (hts _ q1675) (fun _ h => h) rfl dX5_factor_69 ?_
        refine lv_iconst (v := 1) hx hb dX5_factor_72 rfl ?_
        refine lv_isub hx hb dX5_factor_73 ?_
        refine w_topi (y := 2) (by decide) ?_
        refine va_put hx hb hts in_X5 tyX5 tyX5_ok nmX5 hown hK hP (va_D_of hD rfl) hS 0 rfl rfl 13 (by decide) (hts _ q1675) (fun _ h => h) rfl rfl rfl rfl (Nat.le_of_ble_eq_true rfl) dX5_factor_74 (fun H locs hP _ hS => ?_)
        have hP : va_P D clA ((o, .inr (0, [.int t, .ref a1, .int bl, .int (nI L), .int (nI (exS fb L 41 ((px fb L f 2 3 (((sk fb L σ.1) + 1), σ.2)).1)).1), .int ((exS fb L 41 ((px fb L f 2 3 (((sk fb L σ.1) + 1), σ.2)).1)).2.1), .int ((exS fb L 41 ((px fb L f 2 3 (((sk fb L σ.1) + 1), σ.2)).1)).2.2.1), .int eo, .ref a8, .ref a9, .ref a10, .int ud, .int (nI (exS fb L 41 ((px fb L f 2 3 (((sk fb L σ.1) + 1), σ.2)).1)).2.2.2), .int 2, .int se, .ref a15])) :: (a8, .inl (k 0, 1798, .inl d)) :: (a9, .inl (k 0, 1798, .inl (emL dr (px fb L f 2 3 (((sk fb L σ.1) + 1), σ.2)).2))) :: (a1, .inl (k 0, 900, .inl fb)) :: wr) H := hP
        exact w_vret C (by simp only [px, ifp_t b_4, ifp_t c_16, ifp_F, Nat.reduceEqDiff]; exact hP) hS dX5_factor_77
      · exact absurd c_24 (by decide)
  · have b_4 := bI_0.mp c_4
    exact w_vret C (by rw [px_bad b_4]; exact hP) hS dX5_factor_7
set_option maxHeartbeats 16000000 in
theorem m_term_2 (l : Launch) (D : va_G) (k : Nat → ClassId) (o a1 a8 a9 a10 a15 : Nat) (t bl eo ud se : Int32) (wr : va_W) (d dr fb : Nat → Int32) (L : Nat) (hL : L ≤ 900) (σ : PS) (A : Nat → Prop) (hD : va_D A ((o, .inr (0, [.int t, .ref a1, .int bl, .int (nI L), .int (nI σ.1), .int σ.2.1, .int σ.2.2.1, .int eo, .ref a8, .ref a9, .ref a10, .int ud, .int (nI σ.2.2.2), .int 2, .int se, .ref a15])) :: (a8, .inl (k 0, 1798, .inl d)) :: (a9, .inl (k 0, 1798, .inl dr)) :: (a1, .inl (k 0, 900, .inl fb)) :: wr)) (hok : okS L σ) (sA sV : Nat → Nat) (f : Nat) (hf : σ.2.1 = 0 → nee 1 (L - σ.1) ≤ f) (h5 : σ.2.1 = 0 → dr 5 = nI (dN dr 5) ∧ 2 * dN dr 5 + 3 * (L - σ.1) + 1 ≤ 3000) : xM l D k yX5_term cX5_term 2 none 12 260 [.ref o] ((o, .inr (0, [.int t, .ref a1, .int bl, .int (nI L), .int (nI σ.1), .int σ.2.1, .int σ.2.2.1, .int eo, .ref a8, .ref a9, .ref a10, .int ud, .int (nI σ.2.2.2), .int 2, .int se, .ref a15])) :: (a8, .inl (k 0, 1798, .inl d)) :: (a9, .inl (k 0, 1798, .inl dr)) :: (a1, .inl (k 0, 900, .inl fb)) :: wr) (MS A sA sV) (none) ((o, .inr (0, [.int t, .ref a1, .int bl, .int (nI L), .int (nI (px fb L f 1 2 σ).1.1), .int ((px fb L f 1 2 σ).1.2.1), .int ((px fb L f 1 2 σ).1.2.2.1), .int eo, .ref a8, .ref a9, .ref a10, .int ud, .int (nI (px fb L f 1 2 σ).1.2.2.2), .int 2, .int se, .ref a15])) :: (a8, .inl (k 0, 1798, .inl d)) :: (a9, .inl (k 0, 1798, .inl (emL dr (px fb L f 1 2 σ).2))) :: (a1, .inl (k 0, 900, .inl fb)) :: wr) A := by
  refine xM_of (by decide) (Nat.le_of_ble_eq_true rfl) ?_
  intro p e s m below meth c ls C hK hX hP hS hl
  obtain ⟨hE, hT⟩ := id hX
  obtain ⟨hx, hb, hr, hml, hown, hts, hlk⟩ := id C
  have hl : lv_has ls 2 [(0, .ref o)] := hl
  rcases Classical.em (σ.2.1 = 0) with hg0 | hg0
  · have hp0 := hok.1 hg0
    have hf := hf hg0
    obtain ⟨c1, c2⟩ := h5 hg0
    obtain ⟨f, rfl⟩ : ∃ g, f = g + 1 := ⟨f - 1, by have hf : 3 * (L - σ.1) + 2 ≤ f := hf; omega⟩
    have hf : 3 * (L - σ.1) + 2 ≤ f + 1 := hf
    have q0 := px_ok (fb := fb) hL f 0 2 σ hok (fun _ => by show 3 * (L - σ.1) + 1 ≤ f; omega)
    refine lv_aload_n hx hb dX5_term_0 rfl (lv_at hl 0 rfl) ?_
    refine x_callV (As := []) (rest := []) C (m_factor_2 l D k o a1 a8 a9 a10 a15 t bl eo ud se wr d dr fb L hL σ A (va_D_of hD rfl) hok sA sV f (fun _ => by show 3 * (L - σ.1) + 1 ≤ f; omega) h5) (cwV 0 hts (lw_V q1812 q1814 qs45 q76 q1815) rfl rfl rfl (by decide +kernel) ⟨Nat.le_of_ble_eq_true rfl, Nat.le_of_ble_eq_true rfl⟩) hK (va_recv hK hP (ci := 0) (q0 := 0) rfl rfl) mv2_MS hP (fun U hU hW => MS_to hX hS (fun _ h => h) U hU hW) hS (fun _ h => h) rfl hl.1 rfl (Nat.le_of_ble_eq_true rfl) dX5_term_1 ⟨Nat.le_of_ble_eq_true rfl, Nat.le_of_ble_eq_true rfl⟩ (fun H locs hP hS _ _ => ?_)
    have hP : va_P D clA ((o, .inr (0, [.int t, .ref a1, .int bl, .int (nI L), .int (nI (px fb L f 0 2 σ).1.1), .int ((px fb L f 0 2 σ).1.2.1), .int ((px fb L f 0 2 σ).1.2.2.1), .int eo, .ref a8, .ref a9, .ref a10, .int ud, .int (nI (px fb L f 0 2 σ).1.2.2.2), .int 2, .int se, .ref a15])) :: (a8, .inl (k 0, 1798, .inl d)) :: (a9, .inl (k 0, 1798, .inl (emL dr (px fb L f 0 2 σ).2))) :: (a1, .inl (k 0, 900, .inl fb)) :: wr) H := hP
    have loop_4 : ∀ (n : Nat) (τ : PS) (cs : List Int32), (okS L τ) → (τ.2.1 = 0 → 3 * (L - τ.1) + 1 ≤ n) → (τ.2.1 = 0 → 2 * (dN dr 5 + cs.length) + 3 * (L - τ.1) ≤ 3000) → ((px fb L n 3 2 τ).1 = (px fb L (f + 1) 1 2 σ).1) → (cs ++ (px fb L n 3 2 τ).2 = (px fb L (f + 1) 1 2 σ).2) → (1 ≤ n) → ∀ (H : Heap) (locs : List Loc), va_P D clA ((o, .inr (0, [.int t, .ref a1, .int bl, .int (nI L), .int (nI τ.1), .int τ.2.1, .int τ.2.2.1, .int eo, .ref a8, .ref a9, .ref a10, .int ud, .int (nI τ.2.2.2), .int 2, .int se, .ref a15])) :: (a8, .inl (k 0, 1798, .inl d)) :: (a9, .inl (k 0, 1798, .inl (emL dr cs))) :: (a1, .inl (k 0, 900, .inl fb)) :: wr) H → va_S A s.heap H locs → ∀ (ls : Array Slot), lv_has ls 2 [(0, .ref o)] → W p l e (Rm 12 260 0 0) s m ([.ref o] : List Value).toArray below meth c H locs 0 0 (MQ below (wQ D (none) ((o, .inr (0, [.int t, .ref a1, .int bl, .int (nI L), .int (nI (px fb L (f + 1) 1 2 σ).1.1), .int ((px fb L (f + 1) 1 2 σ).1.2.1), .int ((px fb L (f + 1) 1 2 σ).1.2.2.1), .int eo, .ref a8, .ref a9, .ref a10, .int ud, .int (nI (px fb L (f + 1) 1 2 σ).1.2.2.2), .int 2, .int se, .ref a15])) :: (a8, .inl (k 0, 1798, .inl d)) :: (a9, .inl (k 0, 1798, .inl (emL dr (px fb L (f + 1) 1 2 σ).2))) :: (a1, .inl (k 0, 900, .inl fb)) :: wr) A) ([.ref o] : List Value).toArray s 0 0 A) (F0 m 4 ls []) := by
      intro n
      induction n with
      | zero =>
        intro τ cs ok2 hf2 hr2 he1 he2 hn
        exact absurd hn (by omega)
      | succ n ih_4 =>
        intro τ cs ok2 hf2 hr2 he1 he2 hn H locs hP hS ls hl
        refine lv_aload_n hx hb dX5_term_4 rfl (lv_at hl 0 rfl) ?_
        refine r_callV (As := []) (rest := []) C (m_isGood l D k o τ.2.1 ([.int t, .ref a1, .int bl, .int (nI L), .int (nI τ.1), .int τ.2.1, .int τ.2.2.1, .int eo, .ref a8, .ref a9, .ref a10, .int ud, .int (nI τ.2.2.2), .int 2, .int se, .ref a15] : List Value) rfl) (cwV 0 hts (lw_V q1731 q1733 qs32 q76 q1734) rfl rfl rfl (by decide +kernel) ⟨Nat.le_of_ble_eq_true rfl, Nat.le_of_ble_eq_true rfl⟩) hK (va_recv hK hP (ci := 0) (q0 := 0) rfl rfl) (hP.sub [0] rfl) rfl hl.1 rfl (Nat.le_of_ble_eq_true rfl) dX5_term_5 ⟨Nat.le_of_ble_eq_true rfl, Nat.le_of_ble_eq_true rfl⟩ ?_
        refine lv_if_eq (tgt := 74) hx hb dX5_term_8 (by decide) (fun c_8 => ?_) (fun c_8 => ?_)
        · have b_8 := bI_0.mp c_8
          exact w_vret C (by rw [px_bad b_8] at he1 he2; rw [List.append_nil] at he2; rw [← he1, ← he2]; exact hP) hS dX5_term_74
        · have b_8 := bI_nz c_8
          have hp := ok2.1 b_8
          have hs := sk_in (fb := fb) hp
          have hf2 := hf2 b_8
          have hr2 := hr2 b_8
          obtain ⟨d1, d2⟩ := room5 c1 hr2
          have hss : sk fb L (sk fb L τ.1) = sk fb L τ.1 := sk_sk hp
          refine lv_aload_n hx hb dX5_term_11 rfl (lv_at hl 0 rfl) ?_
          refine w_callV (As := []) (rest := []) C (m_next l D k o a1 a8 a9 a10 a15 t bl τ.2.1 τ.2.2.1 eo ud (nI τ.2.2.2) 2 se wr d (emL dr cs) fb L hL τ.1 A (va_D_of hD rfl) hp) (cwV 0 hts (lw_V q1735 q1737 qs33 q76 q1738) rfl rfl rfl (by decide +kernel) ⟨Nat.le_of_ble_eq_true rfl, Nat.le_of_ble_eq_true rfl⟩) hK (va_recv hK hP (ci := 0) (q0 := 0) rfl rfl) hP hS (fun _ h => h) rfl hl.1 rfl (Nat.le_of_ble_eq_true rfl) dX5_term_12 ⟨Nat.le_of_ble_eq_true rfl, Nat.le_of_ble_eq_true rfl⟩ (fun H locs hP hS _ _ => ?_)
          have hP : va_P D clA ((o, .inr (0, [.int t, .ref a1, .int bl, .int (nI L), .int (nI (sk fb L τ.1)), .int τ.2.1, .int τ.2.2.1, .int eo, .ref a8, .ref a9, .ref a10, .int ud, .int (nI τ.2.2.2), .int 2, .int se, .ref a15])) :: (a8, .inl (k 0, 1798, .inl d)) :: (a9, .inl (k 0, 1798, .inl (emL dr cs))) :: (a1, .inl (k 0, 900, .inl fb)) :: wr) H := hP
          refine lv_bipush (v := 42) hx hb dX5_term_15 rfl ?_
          refine lv_icmp_eq (tgt := 29) hx hb dX5_term_17 (by decide) (fun c_17 => ?_) (fun c_17 => ?_)
          · have ho : byt fb L (sk fb L τ.1) = 42 ∨ byt fb L (sk fb L τ.1) = 47 := Or.inl c_17
            have hlt : sk fb L τ.1 < L := ho.elim (fun e => byt_lt e (by decide)) (fun e => byt_lt e (by decide))
            have ok3 : okS L (sk fb L τ.1 + 1, τ.2) := ho.elim (fun e => okS_s1 hL ok2 e (by decide)) (fun e => okS_s1 hL ok2 e (by decide))
            have q := px_ok (fb := fb) hL n 0 2 (sk fb L τ.1 + 1, τ.2) ok3 (fun _ => by show 3 * (L - (sk fb L τ.1 + 1)) + 1 ≤ n; omega)
            refine lv_aload_n hx hb dX5_term_29 rfl (lv_at hl 0 rfl) ?_
            refine w_callV (As := []) (rest := []) C (m_next l D k o a1 a8 a9 a10 a15 t bl τ.2.1 τ.2.2.1 eo ud (nI τ.2.2.2) 2 se wr d (emL dr cs) fb L hL (sk fb L τ.1) A (va_D_of hD rfl) hs.2) (cwV 0 hts (lw_V q1735 q1737 qs33 q76 q1738) rfl rfl rfl (by decide +kernel) ⟨Nat.le_of_ble_eq_true rfl, Nat.le_of_ble_eq_true rfl⟩) hK (va_recv hK hP (ci := 0) (q0 := 0) rfl rfl) hP hS (fun _ h => h) rfl hl.1 rfl (Nat.le_of_ble_eq_true rfl) dX5_term_30 ⟨Nat.le_of_ble_eq_true rfl, Nat.le_of_ble_eq_true rfl⟩ (fun H locs hP hS _ _ => ?_)
            rw [hss] at hP
            rw [hss]
            have hP : va_P D clA ((o, .inr (0, [.int t, .ref a1, .int bl, .int (nI L), .int (nI (sk fb L τ.1)), .int τ.2.1, .int τ.2.2.1, .int eo, .ref a8, .ref a9, .ref a10, .int ud, .int (nI τ.2.2.2), .int 2, .int se, .ref a15])) :: (a8, .inl (k 0, 1798, .inl d)) :: (a9, .inl (k 0, 1798, .inl (emL dr cs))) :: (a1, .inl (k 0, 900, .inl fb)) :: wr) H := hP
            refine lv_bipush (v := 42) hx hb dX5_term_33 rfl ?_
            refine lv_icmp_ne (tgt := 42) hx hb dX5_term_35 (by decide) (fun c_35 => ?_) (fun c_35 => ?_)
            · exact absurd c_17 c_35
            · refine lv_iconst (v := 1) hx hb dX5_term_38 rfl ?_
              refine lv_goto (tgt := 43) hx hb dX5_term_39 (by decide) ?_
              refine lv_istore_n (lv' := [(1, .int 1), (0, .ref o)]) hx hb dX5_term_43 rfl hl (by decide) rfl (fun ls hl => ?_)
              refine lv_aload_n hx hb dX5_term_44 rfl (lv_at hl 1 rfl) ?_
              refine lv_dup hx hb dX5_term_45 rfl ?_
              refine va_get hx hb hts in_X5 hown hK hP 0 rfl rfl 4 (by decide) (hts _ q1666) (fun _ h => h) rfl dX5_term_46 ?_
              refine lv_iconst (v := 1) hx hb dX5_term_49 rfl ?_
              refine lv_iadd hx hb dX5_term_50 ?_
              refine w_topi (y := nI ((sk fb L τ.1) + 1)) (nI_add (sk fb L τ.1) 1) ?_
              refine va_put hx hb hts in_X5 tyX5 tyX5_ok nmX5 hown hK hP (va_D_of hD rfl) hS 0 rfl rfl 4 (by decide) (hts _ q1666) (fun _ h => h) rfl rfl rfl rfl (Nat.le_of_ble_eq_true rfl) dX5_term_51 (fun H locs hP _ hS => ?_)
              have hP : va_P D clA ((o, .inr (0, [.int t, .ref a1, .int bl, .int (nI L), .int (nI ((sk fb L τ.1) + 1)), .int τ.2.1, .int τ.2.2.1, .int eo, .ref a8, .ref a9, .ref a10, .int ud, .int (nI τ.2.2.2), .int 2, .int se, .ref a15])) :: (a8, .inl (k 0, 1798, .inl d)) :: (a9, .inl (k 0, 1798, .inl (emL dr cs))) :: (a1, .inl (k 0, 900, .inl fb)) :: wr) H := hP
              refine lv_aload_n hx hb dX5_term_54 rfl (lv_at hl 1 rfl) ?_
              refine x_callV (As := []) (rest := []) C (m_factor_2 l D k o a1 a8 a9 a10 a15 t bl eo ud se wr d (emL dr cs) fb L hL (((sk fb L τ.1) + 1), τ.2) A (va_D_of hD rfl) ok3 sA sV n (fun _ => by show 3 * (L - (sk fb L τ.1 + 1)) + 1 ≤ n; omega) (fun _ => ⟨d1, by show 2 * dN (emL dr cs) 5 + 3 * (L - (sk fb L τ.1 + 1)) + 1 ≤ 3000; omega⟩)) (cwV 0 hts (lw_V q1812 q1814 qs45 q76 q1815) rfl rfl rfl (by decide +kernel) ⟨Nat.le_of_ble_eq_true rfl, Nat.le_of_ble_eq_true rfl⟩) hK (va_recv hK hP (ci := 0) (q0 := 0) rfl rfl) mv2_MS hP (fun U hU hW => MS_to hX hS (fun _ h => h) U hU hW) hS (fun _ h => h) rfl hl.1 rfl (Nat.le_of_ble_eq_true rfl) dX5_term_55 ⟨Nat.le_of_ble_eq_true rfl, Nat.le_of_ble_eq_true rfl⟩ (fun H locs hP hS _ _ => ?_)
              have hP : va_P D clA ((o, .inr (0, [.int t, .ref a1, .int bl, .int (nI L), .int (nI (px fb L n 0 2 (((sk fb L τ.1) + 1), τ.2)).1.1), .int ((px fb L n 0 2 (((sk fb L τ.1) + 1), τ.2)).1.2.1), .int ((px fb L n 0 2 (((sk fb L τ.1) + 1), τ.2)).1.2.2.1), .int eo, .ref a8, .ref a9, .ref a10, .int ud, .int (nI (px fb L n 0 2 (((sk fb L τ.1) + 1), τ.2)).1.2.2.2), .int 2, .int se, .ref a15])) :: (a8, .inl (k 0, 1798, .inl d)) :: (a9, .inl (k 0, 1798, .inl (emL (emL dr cs) (px fb L n 0 2 (((sk fb L τ.1) + 1), τ.2)).2))) :: (a1, .inl (k 0, 900, .inl fb)) :: wr) H := hP
              refine lv_aload_n hx hb dX5_term_58 rfl (lv_at hl 1 rfl) ?_
              refine lv_iload_n hx hb dX5_term_59 rfl (lv_at hl 0 rfl) ?_
              refine lv_if_eq (tgt := 67) hx hb dX5_term_60 (by decide) (fun c_60 => ?_) (fun c_60 => ?_)
              · exact absurd c_60 (by decide)
              · refine lv_iconst (v := 4) hx hb dX5_term_63 rfl ?_
                refine lv_goto (tgt := 68) hx hb dX5_term_64 (by decide) ?_
                refine w_callV (As := [.int 4]) (rest := []) C (m_emit l D k o a1 a8 a9 a10 a15 t bl eo ud 2 se wr d (emL (emL dr cs) (px fb L n 0 2 (((sk fb L τ.1) + 1), τ.2)).2) fb L hL ((px fb L n 0 2 (((sk fb L τ.1) + 1), τ.2)).1) A (va_D_of hD rfl) q.1 4 (fun z => by obtain ⟨-, z2, z3, z4⟩ := q.2 z; have z2 : sk fb L τ.1 + 1 + 1 ≤ _ := z2; have z4 : _ ≤ 3 * (L - (sk fb L τ.1 + 1)) + 1 := z4; obtain ⟨y1, y2⟩ := emL_n (dr := emL dr cs) (px fb L n 0 2 (sk fb L τ.1 + 1, τ.2)).2 d1 (by omega); exact ⟨y1, by omega⟩)) (cwV 1 hts (lw_V q1823 q1825 qs47 q76 q1826) rfl rfl rfl (by decide +kernel) ⟨Nat.le_of_ble_eq_true rfl, Nat.le_of_ble_eq_true rfl⟩) hK (va_recv hK hP (ci := 0) (q0 := 0) rfl rfl) hP hS (fun _ h => h) rfl hl.1 rfl (Nat.le_of_ble_eq_true rfl) dX5_term_68 ⟨Nat.le_of_ble_eq_true rfl, Nat.le_of_ble_eq_true rfl⟩ (fun H locs hP hS _ _ => ?_)
                have hP : va_P D clA ((o, .inr (0, [.int t, .ref a1, .int bl, .int (nI L), .int (nI (px fb L n 0 2 (((sk fb L τ.1) + 1), τ.2)).1.1), .int ((px fb L n 0 2 (((sk fb L τ.1) + 1), τ.2)).1.2.1), .int ((px fb L n 0 2 (((sk fb L τ.1) + 1), τ.2)).1.2.2.1), .int eo, .ref a8, .ref a9, .ref a10, .int ud, .int (nI (px fb L n 0 2 (((sk fb L τ.1) + 1), τ.2)).1.2.2.2), .int 2, .int se, .ref a15])) :: (a8, .inl (k 0, 1798, .inl d)) :: (a9, .inl (k 0, 1798, .inl (emS (emL (emL dr cs) (px fb L n 0 2 (((sk fb L τ.1) + 1), τ.2)).2) 4 ((px fb L n 0 2 (((sk fb L τ.1) + 1), τ.2)).1)))) :: (a1, .inl (k 0, 900, .inl fb)) :: wr) H := hP
                refine lv_goto (tgt := 4) hx hb dX5_term_71 (by decide) ?_
                have hP : va_P D clA ((o, .inr (0, [.int t, .ref a1, .int bl, .int (nI L), .int (nI (px fb L n 0 2 (((sk fb L τ.1) + 1), τ.2)).1.1), .int ((px fb L n 0 2 (((sk fb L τ.1) + 1), τ.2)).1.2.1), .int ((px fb L n 0 2 (((sk fb L τ.1) + 1), τ.2)).1.2.2.1), .int eo, .ref a8, .ref a9, .ref a10, .int ud, .int (nI (px fb L n 0 2 (((sk fb L τ.1) + 1), τ.2)).1.2.2.2), .int 2, .int se, .ref a15])) :: (a8, .inl (k 0, 1798, .inl d)) :: (a9, .inl (k 0, 1798, .inl (emL dr (cs ++ ((px fb L n 0 2 (sk fb L τ.1 + 1, τ.2)).2 ++ ifp ((px fb L n 0 2 (sk fb L τ.1 + 1, τ.2)).1.2.1 = 0) [4] []))))) :: (a1, .inl (k 0, 900, .inl fb)) :: wr) H := by rw [emL_app, emL_app, ← emS_L]; exact hP
                simp only [px, ifp_t b_8, ifp_t ho, ifp_t c_17] at he1 he2
                exact ih_4 (px fb L n 0 2 (sk fb L τ.1 + 1, τ.2)).1 (cs ++ ((px fb L n 0 2 (sk fb L τ.1 + 1, τ.2)).2 ++ ifp ((px fb L n 0 2 (sk fb L τ.1 + 1, τ.2)).1.2.1 = 0) [4] [])) q.1 (fun z => by have z2 : sk fb L τ.1 + 1 + 1 ≤ _ := (q.2 z).2.1; show 3 * (L - (px fb L n 0 2 (sk fb L τ.1 + 1, τ.2)).1.1) + 1 ≤ n; omega) (fun z => by obtain ⟨-, z2, z3, z4⟩ := q.2 z; have z2 : sk fb L τ.1 + 1 + 1 ≤ _ := z2; have z4 : _ ≤ 3 * (L - (sk fb L τ.1 + 1)) + 1 := z4; rw [ifp_t z, List.length_append, List.length_append]; simp only [List.length_cons, List.length_nil]; omega) he1 (by rw [List.append_assoc]; exact he2) (by omega) _ _ hP hS ls (lv_sub hl [1] rfl)
          · refine lv_aload_n hx hb dX5_term_20 rfl (lv_at hl 0 rfl) ?_
            refine w_callV (As := []) (rest := []) C (m_next l D k o a1 a8 a9 a10 a15 t bl τ.2.1 τ.2.2.1 eo ud (nI τ.2.2.2) 2 se wr d (emL dr cs) fb L hL (sk fb L τ.1) A (va_D_of hD rfl) hs.2) (cwV 0 hts (lw_V q1735 q1737 qs33 q76 q1738) rfl rfl rfl (by decide +kernel) ⟨Nat.le_of_ble_eq_true rfl, Nat.le_of_ble_eq_true rfl⟩) hK (va_recv hK hP (ci := 0) (q0 := 0) rfl rfl) hP hS (fun _ h => h) rfl hl.1 rfl (Nat.le_of_ble_eq_true rfl) dX5_term_21 ⟨Nat.le_of_ble_eq_true rfl, Nat.le_of_ble_eq_true rfl⟩ (fun H locs hP hS _ _ => ?_)
            rw [hss] at hP
            rw [hss]
            have hP : va_P D clA ((o, .inr (0, [.int t, .ref a1, .int bl, .int (nI L), .int (nI (sk fb L τ.1)), .int τ.2.1, .int τ.2.2.1, .int eo, .ref a8, .ref a9, .ref a10, .int ud, .int (nI τ.2.2.2), .int 2, .int se, .ref a15])) :: (a8, .inl (k 0, 1798, .inl d)) :: (a9, .inl (k 0, 1798, .inl (emL dr cs))) :: (a1, .inl (k 0, 900, .inl fb)) :: wr) H := hP
            refine lv_bipush (v := 47) hx hb dX5_term_24 rfl ?_
            refine lv_icmp_ne (tgt := 74) hx hb dX5_term_26 (by decide) (fun c_26 => ?_) (fun c_26 => ?_)
            · exact w_vret C (by simp only [px, ifp_t b_8, ifp_f (show ¬ (byt fb L (sk fb L τ.1) = 42 ∨ byt fb L (sk fb L τ.1) = 47) from fun h => h.elim c_17 c_26)] at he1 he2; rw [List.append_nil] at he2; have e1 : (sk fb L τ.1, τ.2) = (px fb L (f + 1) 1 2 σ).1 := he1; have e2 : cs = (px fb L (f + 1) 1 2 σ).2 := he2; rw [← e1, ← e2]; exact hP) hS dX5_term_74
            · have ho : byt fb L (sk fb L τ.1) = 42 ∨ byt fb L (sk fb L τ.1) = 47 := Or.inr c_26
              have hlt : sk fb L τ.1 < L := ho.elim (fun e => byt_lt e (by decide)) (fun e => byt_lt e (by decide))
              have ok3 : okS L (sk fb L τ.1 + 1, τ.2) := ho.elim (fun e => okS_s1 hL ok2 e (by decide)) (fun e => okS_s1 hL ok2 e (by decide))
              have q := px_ok (fb := fb) hL n 0 2 (sk fb L τ.1 + 1, τ.2) ok3 (fun _ => by show 3 * (L - (sk fb L τ.1 + 1)) + 1 ≤ n; omega)
              refine lv_aload_n hx hb dX5_term_29 rfl (lv_at hl 0 rfl) ?_
              refine w_callV (As := []) (rest := []) C (m_next l D k o a1 a8 a9 a10 a15 t bl τ.2.1 τ.2.2.1 eo ud (nI τ.2.2.2) 2 se wr d (emL dr cs) fb L hL (sk fb L τ.1) A (va_D_of hD rfl) hs.2) (cwV 0 hts (lw_V q1735 q1737 qs33 q76 q1738) rfl rfl rfl (by decide +kernel) ⟨Nat.le_of_ble_eq_true rfl, Nat.le_of_ble_eq_true rfl⟩) hK (va_recv hK hP (ci := 0) (q0 := 0) rfl rfl) hP hS (fun _ h => h) rfl hl.1 rfl (Nat.le_of_ble_eq_true rfl) dX5_term_30 ⟨Nat.le_of_ble_eq_true rfl, Nat.le_of_ble_eq_true rfl⟩ (fun H locs hP hS _ _ => ?_)
              rw [hss] at hP
              rw [hss]
              have hP : va_P D clA ((o, .inr (0, [.int t, .ref a1, .int bl, .int (nI L), .int (nI (sk fb L τ.1)), .int τ.2.1, .int τ.2.2.1, .int eo, .ref a8, .ref a9, .ref a10, .int ud, .int (nI τ.2.2.2), .int 2, .int se, .ref a15])) :: (a8, .inl (k 0, 1798, .inl d)) :: (a9, .inl (k 0, 1798, .inl (emL dr cs))) :: (a1, .inl (k 0, 900, .inl fb)) :: wr) H := hP
              refine lv_bipush (v := 42) hx hb dX5_term_33 rfl ?_
              refine lv_icmp_ne (tgt := 42) hx hb dX5_term_35 (by decide) (fun c_35 => ?_) (fun c_35 => ?_)
              · refine lv_iconst (v := 0) hx hb dX5_term_42 rfl ?_
                refine lv_istore_n (lv' := [(1, .int 0), (0, .ref o)]) hx hb dX5_term_43 rfl hl (by decide) rfl (fun ls hl => ?_)
                refine lv_aload_n hx hb dX5_term_44 rfl (lv_at hl 1 rfl) ?_
                refine lv_dup hx hb dX5_term_45 rfl ?_
                refine va_get hx hb hts in_X5 hown hK hP 0 rfl rfl 4 (by decide) (hts _ q1666) (fun _ h => h) rfl dX5_term_46 ?_
                refine lv_iconst (v := 1) hx hb dX5_term_49 rfl ?_
                refine lv_iadd hx hb dX5_term_50 ?_
                refine w_topi (y := nI ((sk fb L τ.1) + 1)) (nI_add (sk fb L τ.1) 1) ?_
                refine va_put hx hb hts in_X5 tyX5 tyX5_ok nmX5 hown hK hP (va_D_of hD rfl) hS 0 rfl rfl 4 (by decide) (hts _ q1666) (fun _ h => h) rfl rfl rfl rfl (Nat.le_of_ble_eq_true rfl) dX5_term_51 (fun H locs hP _ hS => ?_)
                have hP : va_P D clA ((o, .inr (0, [.int t, .ref a1, .int bl, .int (nI L), .int (nI ((sk fb L τ.1) + 1)), .int τ.2.1, .int τ.2.2.1, .int eo, .ref a8, .ref a9, .ref a10, .int ud, .int (nI τ.2.2.2), .int 2, .int se, .ref a15])) :: (a8, .inl (k 0, 1798, .inl d)) :: (a9, .inl (k 0, 1798, .inl (emL dr cs))) :: (a1, .inl (k 0, 900, .inl fb)) :: wr) H := hP
                refine lv_aload_n hx hb dX5_term_54 rfl (lv_at hl 1 rfl) ?_
                refine x_callV (As := []) (rest := []) C (m_factor_2 l D k o a1 a8 a9 a10 a15 t bl eo ud se wr d (emL dr cs) fb L hL (((sk fb L τ.1) + 1), τ.2) A (va_D_of hD rfl) ok3 sA sV n (fun _ => by show 3 * (L - (sk fb L τ.1 + 1)) + 1 ≤ n; omega) (fun _ => ⟨d1, by show 2 * dN (emL dr cs) 5 + 3 * (L - (sk fb L τ.1 + 1)) + 1 ≤ 3000; omega⟩)) (cwV 0 hts (lw_V q1812 q1814 qs45 q76 q1815) rfl rfl rfl (by decide +kernel) ⟨Nat.le_of_ble_eq_true rfl, Nat.le_of_ble_eq_true rfl⟩) hK (va_recv hK hP (ci := 0) (q0 := 0) rfl rfl) mv2_MS hP (fun U hU hW => MS_to hX hS (fun _ h => h) U hU hW) hS (fun _ h => h) rfl hl.1 rfl (Nat.le_of_ble_eq_true rfl) dX5_term_55 ⟨Nat.le_of_ble_eq_true rfl, Nat.le_of_ble_eq_true rfl⟩ (fun H locs hP hS _ _ => ?_)
                have hP : va_P D clA ((o, .inr (0, [.int t, .ref a1, .int bl, .int (nI L), .int (nI (px fb L n 0 2 (((sk fb L τ.1) + 1), τ.2)).1.1), .int ((px fb L n 0 2 (((sk fb L τ.1) + 1), τ.2)).1.2.1), .int ((px fb L n 0 2 (((sk fb L τ.1) + 1), τ.2)).1.2.2.1), .int eo, .ref a8, .ref a9, .ref a10, .int ud, .int (nI (px fb L n 0 2 (((sk fb L τ.1) + 1), τ.2)).1.2.2.2), .int 2, .int se, .ref a15])) :: (a8, .inl (k 0, 1798, .inl d)) :: (a9, .inl (k 0, 1798, .inl (emL (emL dr cs) (px fb L n 0 2 (((sk fb L τ.1) + 1), τ.2)).2))) :: (a1, .inl (k 0, 900, .inl fb)) :: wr) H := hP
                refine lv_aload_n hx hb dX5_term_58 rfl (lv_at hl 1 rfl) ?_
                refine lv_iload_n hx hb dX5_term_59 rfl (lv_at hl 0 rfl) ?_
                refine lv_if_eq (tgt := 67) hx hb dX5_term_60 (by decide) (fun c_60 => ?_) (fun c_60 => ?_)
                · refine lv_iconst (v := 5) hx hb dX5_term_67 rfl ?_
                  refine w_callV (As := [.int 5]) (rest := []) C (m_emit l D k o a1 a8 a9 a10 a15 t bl eo ud 2 se wr d (emL (emL dr cs) (px fb L n 0 2 (((sk fb L τ.1) + 1), τ.2)).2) fb L hL ((px fb L n 0 2 (((sk fb L τ.1) + 1), τ.2)).1) A (va_D_of hD rfl) q.1 5 (fun z => by obtain ⟨-, z2, z3, z4⟩ := q.2 z; have z2 : sk fb L τ.1 + 1 + 1 ≤ _ := z2; have z4 : _ ≤ 3 * (L - (sk fb L τ.1 + 1)) + 1 := z4; obtain ⟨y1, y2⟩ := emL_n (dr := emL dr cs) (px fb L n 0 2 (sk fb L τ.1 + 1, τ.2)).2 d1 (by omega); exact ⟨y1, by omega⟩)) (cwV 1 hts (lw_V q1823 q1825 qs47 q76 q1826) rfl rfl rfl (by decide +kernel) ⟨Nat.le_of_ble_eq_true rfl, Nat.le_of_ble_eq_true rfl⟩) hK (va_recv hK hP (ci := 0) (q0 := 0) rfl rfl) hP hS (fun _ h => h) rfl hl.1 rfl (Nat.le_of_ble_eq_true rfl) dX5_term_68 ⟨Nat.le_of_ble_eq_true rfl, Nat.le_of_ble_eq_true rfl⟩ (fun H locs hP hS _ _ => ?_)
                  have hP : va_P D clA ((o, .inr (0, [.int t, .ref a1, .int bl, .int (nI L), .int (nI (px fb L n 0 2 (((sk fb L τ.1) + 1), τ.2)).1.1), .int ((px fb L n 0 2 (((sk fb L τ.1) + 1), τ.2)).1.2.1), .int ((px fb L n 0 2 (((sk fb L τ.1) + 1), τ.2)).1.2.2.1), .int eo, .ref a8, .ref a9, .ref a10, .int ud, .int (nI (px fb L n 0 2 (((sk fb L τ.1) + 1), τ.2)).1.2.2.2), .int 2, .int se, .ref a15])) :: (a8, .inl (k 0, 1798, .inl d)) :: (a9, .inl (k 0, 1798, .inl (emS (emL (emL dr cs) (px fb L n 0 2 (((sk fb L τ.1) + 1), τ.2)).2) 5 ((px fb L n 0 2 (((sk fb L τ.1) + 1), τ.2)).1)))) :: (a1, .inl (k 0, 900, .inl fb)) :: wr) H := hP
                  refine lv_goto (tgt := 4) hx hb dX5_term_71 (by decide) ?_
                  have hP : va_P D clA ((o, .inr (0, [.int t, .ref a1, .int bl, .int (nI L), .int (nI (px fb L n 0 2 (((sk fb L τ.1) + 1), τ.2)).1.1), .int ((px fb L n 0 2 (((sk fb L τ.1) + 1), τ.2)).1.2.1), .int ((px fb L n 0 2 (((sk fb L τ.1) + 1), τ.2)).1.2.2.1), .int eo, .ref a8, .ref a9, .ref a10, .int ud, .int (nI (px fb L n 0 2 (((sk fb L τ.1) + 1), τ.2)).1.2.2.2), .int 2, .int se, .ref a15])) :: (a8, .inl (k 0, 1798, .inl d)) :: (a9, .inl (k 0, 1798, .inl (emL dr (cs ++ ((px fb L n 0 2 (sk fb L τ.1 + 1, τ.2)).2 ++ ifp ((px fb L n 0 2 (sk fb L τ.1 + 1, τ.2)).1.2.1 = 0) [5] []))))) :: (a1, .inl (k 0, 900, .inl fb)) :: wr) H := by rw [emL_app, emL_app, ← emS_L]; exact hP
                  simp only [px, ifp_t b_8, ifp_t ho, ifp_f c_17] at he1 he2
                  exact ih_4 (px fb L n 0 2 (sk fb L τ.1 + 1, τ.2)).1 (cs ++ ((px fb L n 0 2 (sk fb L τ.1 + 1, τ.2)).2 ++ ifp ((px fb L n 0 2 (sk fb L τ.1 + 1, τ.2)).1.2.1 = 0) [5] [])) q.1 (fun z => by have z2 : sk fb L τ.1 + 1 + 1 ≤ _ := (q.2 z).2.1; show 3 * (L - (px fb L n 0 2 (sk fb L τ.1 + 1, τ.2)).1.1) + 1 ≤ n; omega) (fun z => by obtain ⟨-, z2, z3, z4⟩ := q.2 z; have z2 : sk fb L τ.1 + 1 + 1 ≤ _ := z2; have z4 : _ ≤ 3 * (L - (sk fb L τ.1 + 1)) + 1 := z4; rw [ifp_t z, List.length_append, List.length_append]; simp only [List.length_cons, List.length_nil]; omega) he1 (by rw [List.append_assoc]; exact he2) (by omega) _ _ hP hS ls (lv_sub hl [1] rfl)
                · exact absurd c_60 (by decide)
              · exact absurd c_35 c_17
    exact loop_4 f (px fb L f 0 2 σ).1 (px fb L f 0 2 σ).2 q0.1 (fun z => by have z2 : σ.1 + 1 ≤ _ := (q0.2 z).2.1; show 3 * (L - (px fb L f 0 2 σ).1.1) + 1 ≤ f; omega) (fun z => by have z2 : _ ≤ 3 * (L - σ.1) + 1 := (q0.2 z).2.2.2; omega) (by simp only [px]) (by simp only [px]) (by omega) _ _ hP hS ls (lv_sub hl [0] rfl)
  · skip
    refine lv_aload_n hx hb dX5_term_0 rfl (lv_at hl 0 rfl) ?_
    refine w_callV (As := []) (rest := []) C (m_factorE l D k o a1 a8 a9 a10 a15 t bl eo ud 2 se wr d dr fb L hL σ A (va_D_of hD rfl) hok hg0) (cwV 0 hts (lw_V q1812 q1814 qs45 q76 q1815) rfl rfl rfl (by decide +kernel) ⟨Nat.le_of_ble_eq_true rfl, Nat.le_of_ble_eq_true rfl⟩) hK (va_recv hK hP (ci := 0) (q0 := 0) rfl rfl) hP hS (fun _ h => h) rfl hl.1 rfl (Nat.le_of_ble_eq_true rfl) dX5_term_1 ⟨Nat.le_of_ble_eq_true rfl, Nat.le_of_ble_eq_true rfl⟩ (fun H locs hP hS _ _ => ?_)
    have hP : va_P D clA ((o, .inr (0, [.int t, .ref a1, .int bl, .int (nI L), .int (nI σ.1), .int σ.2.1, .int σ.2.2.1, .int eo, .ref a8, .ref a9, .ref a10, .int ud, .int (nI σ.2.2.2), .int 2, .int se, .ref a15])) :: (a8, .inl (k 0, 1798, .inl d)) :: (a9, .inl (k 0, 1798, .inl dr)) :: (a1, .inl (k 0, 900, .inl fb)) :: wr) H := hP
    refine lv_aload_n hx hb dX5_term_4 rfl (lv_at hl 0 rfl) ?_
    refine r_callV (As := []) (rest := []) C (m_isGood l D k o σ.2.1 ([.int t, .ref a1, .int bl, .int (nI L), .int (nI σ.1), .int σ.2.1, .int σ.2.2.1, .int eo, .ref a8, .ref a9, .ref a10, .int ud, .int (nI σ.2.2.2), .int 2, .int se, .ref a15] : List Value) rfl) (cwV 0 hts (lw_V q1731 q1733 qs32 q76 q1734) rfl rfl rfl (by decide +kernel) ⟨Nat.le_of_ble_eq_true rfl, Nat.le_of_ble_eq_true rfl⟩) hK (va_recv hK hP (ci := 0) (q0 := 0) rfl rfl) (hP.sub [0] rfl) rfl hl.1 rfl (Nat.le_of_ble_eq_true rfl) dX5_term_5 ⟨Nat.le_of_ble_eq_true rfl, Nat.le_of_ble_eq_true rfl⟩ ?_
    refine lv_if_eq (tgt := 74) hx hb dX5_term_8 (by decide) (fun c_8 => ?_) (fun c_8 => ?_)
    · have b_8 := bI_0.mp c_8
      exact w_vret C (by rw [px_bad hg0]; exact hP) hS dX5_term_74
    · exact absurd (bI_nz c_8) hg0
set_option maxHeartbeats 16000000 in
theorem m_sum_2 (l : Launch) (D : va_G) (k : Nat → ClassId) (o a1 a8 a9 a10 a15 : Nat) (t bl eo ud se : Int32) (wr : va_W) (d dr fb : Nat → Int32) (L : Nat) (hL : L ≤ 900) (σ : PS) (A : Nat → Prop) (hD : va_D A ((o, .inr (0, [.int t, .ref a1, .int bl, .int (nI L), .int (nI σ.1), .int σ.2.1, .int σ.2.2.1, .int eo, .ref a8, .ref a9, .ref a10, .int ud, .int (nI σ.2.2.2), .int 2, .int se, .ref a15])) :: (a8, .inl (k 0, 1798, .inl d)) :: (a9, .inl (k 0, 1798, .inl dr)) :: (a1, .inl (k 0, 900, .inl fb)) :: wr)) (hok : okS L σ) (sA sV : Nat → Nat) (f : Nat) (hf : σ.2.1 = 0 → nee 2 (L - σ.1) ≤ f) (h5 : σ.2.1 = 0 → dr 5 = nI (dN dr 5) ∧ 2 * dN dr 5 + 3 * (L - σ.1) + 1 ≤ 3000) : xM l D k yX5_sum cX5_sum 2 none 13 281 [.ref o] ((o, .inr (0, [.int t, .ref a1, .int bl, .int (nI L), .int (nI σ.1), .int σ.2.1, .int σ.2.2.1, .int eo, .ref a8, .ref a9, .ref a10, .int ud, .int (nI σ.2.2.2), .int 2, .int se, .ref a15])) :: (a8, .inl (k 0, 1798, .inl d)) :: (a9, .inl (k 0, 1798, .inl dr)) :: (a1, .inl (k 0, 900, .inl fb)) :: wr) (MS A sA sV) (none) ((o, .inr (0, [.int t, .ref a1, .int bl, .int (nI L), .int (nI (px fb L f 2 2 σ).1.1), .int ((px fb L f 2 2 σ).1.2.1), .int ((px fb L f 2 2 σ).1.2.2.1), .int eo, .ref a8, .ref a9, .ref a10, .int ud, .int (nI (px fb L f 2 2 σ).1.2.2.2), .int 2, .int se, .ref a15])) :: (a8, .inl (k 0, 1798, .inl d)) :: (a9, .inl (k 0, 1798, .inl (emL dr (px fb L f 2 2 σ).2))) :: (a1, .inl (k 0, 900, .inl fb)) :: wr) A := by
  refine xM_of (by decide) (Nat.le_of_ble_eq_true rfl) ?_
  intro p e s m below meth c ls C hK hX hP hS hl
  obtain ⟨hE, hT⟩ := id hX
  obtain ⟨hx, hb, hr, hml, hown, hts, hlk⟩ := id C
  have hl : lv_has ls 2 [(0, .ref o)] := hl
  rcases Classical.em (σ.2.1 = 0) with hg0 | hg0
  · have hp0 := hok.1 hg0
    have hf := hf hg0
    obtain ⟨c1, c2⟩ := h5 hg0
    obtain ⟨f, rfl⟩ : ∃ g, f = g + 1 := ⟨f - 1, by have hf : 3 * (L - σ.1) + 3 ≤ f := hf; omega⟩
    have hf : 3 * (L - σ.1) + 3 ≤ f + 1 := hf
    have q0 := px_ok (fb := fb) hL f 1 2 σ hok (fun _ => by show 3 * (L - σ.1) + 2 ≤ f; omega)
    refine lv_aload_n hx hb dX5_sum_0 rfl (lv_at hl 0 rfl) ?_
    refine x_callV (As := []) (rest := []) C (m_term_2 l D k o a1 a8 a9 a10 a15 t bl eo ud se wr d dr fb L hL σ A (va_D_of hD rfl) hok sA sV f (fun _ => by show 3 * (L - σ.1) + 2 ≤ f; omega) h5) (cwV 0 hts (lw_V q1808 q1810 qs44 q76 q1811) rfl rfl rfl (by decide +kernel) ⟨Nat.le_of_ble_eq_true rfl, Nat.le_of_ble_eq_true rfl⟩) hK (va_recv hK hP (ci := 0) (q0 := 0) rfl rfl) mv2_MS hP (fun U hU hW => MS_to hX hS (fun _ h => h) U hU hW) hS (fun _ h => h) rfl hl.1 rfl (Nat.le_of_ble_eq_true rfl) dX5_sum_1 ⟨Nat.le_of_ble_eq_true rfl, Nat.le_of_ble_eq_true rfl⟩ (fun H locs hP hS _ _ => ?_)
    have hP : va_P D clA ((o, .inr (0, [.int t, .ref a1, .int bl, .int (nI L), .int (nI (px fb L f 1 2 σ).1.1), .int ((px fb L f 1 2 σ).1.2.1), .int ((px fb L f 1 2 σ).1.2.2.1), .int eo, .ref a8, .ref a9, .ref a10, .int ud, .int (nI (px fb L f 1 2 σ).1.2.2.2), .int 2, .int se, .ref a15])) :: (a8, .inl (k 0, 1798, .inl d)) :: (a9, .inl (k 0, 1798, .inl (emL dr (px fb L f 1 2 σ).2))) :: (a1, .inl (k 0, 900, .inl fb)) :: wr) H := hP
    have loop_4 : ∀ (n : Nat) (τ : PS) (cs : List Int32), (okS L τ) → (τ.2.1 = 0 → 3 * (L - τ.1) + 1 ≤ n) → (τ.2.1 = 0 → 2 * (dN dr 5 + cs.length) + 3 * (L - τ.1) ≤ 3000) → ((px fb L n 4 2 τ).1 = (px fb L (f + 1) 2 2 σ).1) → (cs ++ (px fb L n 4 2 τ).2 = (px fb L (f + 1) 2 2 σ).2) → (1 ≤ n) → ∀ (H : Heap) (locs : List Loc), va_P D clA ((o, .inr (0, [.int t, .ref a1, .int bl, .int (nI L), .int (nI τ.1), .int τ.2.1, .int τ.2.2.1, .int eo, .ref a8, .ref a9, .ref a10, .int ud, .int (nI τ.2.2.2), .int 2, .int se, .ref a15])) :: (a8, .inl (k 0, 1798, .inl d)) :: (a9, .inl (k 0, 1798, .inl (emL dr cs))) :: (a1, .inl (k 0, 900, .inl fb)) :: wr) H → va_S A s.heap H locs → ∀ (ls : Array Slot), lv_has ls 2 [(0, .ref o)] → W p l e (Rm 13 281 0 0) s m ([.ref o] : List Value).toArray below meth c H locs 0 0 (MQ below (wQ D (none) ((o, .inr (0, [.int t, .ref a1, .int bl, .int (nI L), .int (nI (px fb L (f + 1) 2 2 σ).1.1), .int ((px fb L (f + 1) 2 2 σ).1.2.1), .int ((px fb L (f + 1) 2 2 σ).1.2.2.1), .int eo, .ref a8, .ref a9, .ref a10, .int ud, .int (nI (px fb L (f + 1) 2 2 σ).1.2.2.2), .int 2, .int se, .ref a15])) :: (a8, .inl (k 0, 1798, .inl d)) :: (a9, .inl (k 0, 1798, .inl (emL dr (px fb L (f + 1) 2 2 σ).2))) :: (a1, .inl (k 0, 900, .inl fb)) :: wr) A) ([.ref o] : List Value).toArray s 0 0 A) (F0 m 4 ls []) := by
      intro n
      induction n with
      | zero =>
        intro τ cs ok2 hf2 hr2 he1 he2 hn
        exact absurd hn (by omega)
      | succ n ih_4 =>
        intro τ cs ok2 hf2 hr2 he1 he2 hn H locs hP hS ls hl
        refine lv_aload_n hx hb dX5_sum_4 rfl (lv_at hl 0 rfl) ?_
        refine r_callV (As := []) (rest := []) C (m_isGood l D k o τ.2.1 ([.int t, .ref a1, .int bl, .int (nI L), .int (nI τ.1), .int τ.2.1, .int τ.2.2.1, .int eo, .ref a8, .ref a9, .ref a10, .int ud, .int (nI τ.2.2.2), .int 2, .int se, .ref a15] : List Value) rfl) (cwV 0 hts (lw_V q1731 q1733 qs32 q76 q1734) rfl rfl rfl (by decide +kernel) ⟨Nat.le_of_ble_eq_true rfl, Nat.le_of_ble_eq_true rfl⟩) hK (va_recv hK hP (ci := 0) (q0 := 0) rfl rfl) (hP.sub [0] rfl) rfl hl.1 rfl (Nat.le_of_ble_eq_true rfl) dX5_sum_5 ⟨Nat.le_of_ble_eq_true rfl, Nat.le_of_ble_eq_true rfl⟩ ?_
        refine lv_if_eq (tgt := 74) hx hb dX5_sum_8 (by decide) (fun c_8 => ?_) (fun c_8 => ?_)
        · have b_8 := bI_0.mp c_8
          exact w_vret C (by rw [px_bad b_8] at he1 he2; rw [List.append_nil] at he2; rw [← he1, ← he2]; exact hP) hS dX5_sum_74
        · have b_8 := bI_nz c_8
          have hp := ok2.1 b_8
          have hs := sk_in (fb := fb) hp
          have hf2 := hf2 b_8
          have hr2 := hr2 b_8
          obtain ⟨d1, d2⟩ := room5 c1 hr2
          have hss : sk fb L (sk fb L τ.1) = sk fb L τ.1 := sk_sk hp
          refine lv_aload_n hx hb dX5_sum_11 rfl (lv_at hl 0 rfl) ?_
          refine w_callV (As := []) (rest := []) C (m_next l D k o a1 a8 a9 a10 a15 t bl τ.2.1 τ.2.2.1 eo ud (nI τ.2.2.2) 2 se wr d (emL dr cs) fb L hL τ.1 A (va_D_of hD rfl) hp) (cwV 0 hts (lw_V q1735 q1737 qs33 q76 q1738) rfl rfl rfl (by decide +kernel) ⟨Nat.le_of_ble_eq_true rfl, Nat.le_of_ble_eq_true rfl⟩) hK (va_recv hK hP (ci := 0) (q0 := 0) rfl rfl) hP hS (fun _ h => h) rfl hl.1 rfl (Nat.le_of_ble_eq_true rfl) dX5_sum_12 ⟨Nat.le_of_ble_eq_true rfl, Nat.le_of_ble_eq_true rfl⟩ (fun H locs hP hS _ _ => ?_)
          have hP : va_P D clA ((o, .inr (0, [.int t, .ref a1, .int bl, .int (nI L), .int (nI (sk fb L τ.1)), .int τ.2.1, .int τ.2.2.1, .int eo, .ref a8, .ref a9, .ref a10, .int ud, .int (nI τ.2.2.2), .int 2, .int se, .ref a15])) :: (a8, .inl (k 0, 1798, .inl d)) :: (a9, .inl (k 0, 1798, .inl (emL dr cs))) :: (a1, .inl (k 0, 900, .inl fb)) :: wr) H := hP
          refine lv_bipush (v := 43) hx hb dX5_sum_15 rfl ?_
          refine lv_icmp_eq (tgt := 29) hx hb dX5_sum_17 (by decide) (fun c_17 => ?_) (fun c_17 => ?_)
          · have ho : byt fb L (sk fb L τ.1) = 43 ∨ byt fb L (sk fb L τ.1) = 45 := Or.inl c_17
            have hlt : sk fb L τ.1 < L := ho.elim (fun e => byt_lt e (by decide)) (fun e => byt_lt e (by decide))
            have ok3 : okS L (sk fb L τ.1 + 1, τ.2) := ho.elim (fun e => okS_s1 hL ok2 e (by decide)) (fun e => okS_s1 hL ok2 e (by decide))
            have q := px_ok (fb := fb) hL n 1 2 (sk fb L τ.1 + 1, τ.2) ok3 (fun _ => by show 3 * (L - (sk fb L τ.1 + 1)) + 2 ≤ n; omega)
            refine lv_aload_n hx hb dX5_sum_29 rfl (lv_at hl 0 rfl) ?_
            refine w_callV (As := []) (rest := []) C (m_next l D k o a1 a8 a9 a10 a15 t bl τ.2.1 τ.2.2.1 eo ud (nI τ.2.2.2) 2 se wr d (emL dr cs) fb L hL (sk fb L τ.1) A (va_D_of hD rfl) hs.2) (cwV 0 hts (lw_V q1735 q1737 qs33 q76 q1738) rfl rfl rfl (by decide +kernel) ⟨Nat.le_of_ble_eq_true rfl, Nat.le_of_ble_eq_true rfl⟩) hK (va_recv hK hP (ci := 0) (q0 := 0) rfl rfl) hP hS (fun _ h => h) rfl hl.1 rfl (Nat.le_of_ble_eq_true rfl) dX5_sum_30 ⟨Nat.le_of_ble_eq_true rfl, Nat.le_of_ble_eq_true rfl⟩ (fun H locs hP hS _ _ => ?_)
            rw [hss] at hP
            rw [hss]
            have hP : va_P D clA ((o, .inr (0, [.int t, .ref a1, .int bl, .int (nI L), .int (nI (sk fb L τ.1)), .int τ.2.1, .int τ.2.2.1, .int eo, .ref a8, .ref a9, .ref a10, .int ud, .int (nI τ.2.2.2), .int 2, .int se, .ref a15])) :: (a8, .inl (k 0, 1798, .inl d)) :: (a9, .inl (k 0, 1798, .inl (emL dr cs))) :: (a1, .inl (k 0, 900, .inl fb)) :: wr) H := hP
            refine lv_bipush (v := 43) hx hb dX5_sum_33 rfl ?_
            refine lv_icmp_ne (tgt := 42) hx hb dX5_sum_35 (by decide) (fun c_35 => ?_) (fun c_35 => ?_)
            · exact absurd c_17 c_35
            · refine lv_iconst (v := 1) hx hb dX5_sum_38 rfl ?_
              refine lv_goto (tgt := 43) hx hb dX5_sum_39 (by decide) ?_
              refine lv_istore_n (lv' := [(1, .int 1), (0, .ref o)]) hx hb dX5_sum_43 rfl hl (by decide) rfl (fun ls hl => ?_)
              refine lv_aload_n hx hb dX5_sum_44 rfl (lv_at hl 1 rfl) ?_
              refine lv_dup hx hb dX5_sum_45 rfl ?_
              refine va_get hx hb hts in_X5 hown hK hP 0 rfl rfl 4 (by decide) (hts _ q1666) (fun _ h => h) rfl dX5_sum_46 ?_
              refine lv_iconst (v := 1) hx hb dX5_sum_49 rfl ?_
              refine lv_iadd hx hb dX5_sum_50 ?_
              refine w_topi (y := nI ((sk fb L τ.1) + 1)) (nI_add (sk fb L τ.1) 1) ?_
              refine va_put hx hb hts in_X5 tyX5 tyX5_ok nmX5 hown hK hP (va_D_of hD rfl) hS 0 rfl rfl 4 (by decide) (hts _ q1666) (fun _ h => h) rfl rfl rfl rfl (Nat.le_of_ble_eq_true rfl) dX5_sum_51 (fun H locs hP _ hS => ?_)
              have hP : va_P D clA ((o, .inr (0, [.int t, .ref a1, .int bl, .int (nI L), .int (nI ((sk fb L τ.1) + 1)), .int τ.2.1, .int τ.2.2.1, .int eo, .ref a8, .ref a9, .ref a10, .int ud, .int (nI τ.2.2.2), .int 2, .int se, .ref a15])) :: (a8, .inl (k 0, 1798, .inl d)) :: (a9, .inl (k 0, 1798, .inl (emL dr cs))) :: (a1, .inl (k 0, 900, .inl fb)) :: wr) H := hP
              refine lv_aload_n hx hb dX5_sum_54 rfl (lv_at hl 1 rfl) ?_
              refine x_callV (As := []) (rest := []) C (m_term_2 l D k o a1 a8 a9 a10 a15 t bl eo ud se wr d (emL dr cs) fb L hL (((sk fb L τ.1) + 1), τ.2) A (va_D_of hD rfl) ok3 sA sV n (fun _ => by show 3 * (L - (sk fb L τ.1 + 1)) + 2 ≤ n; omega) (fun _ => ⟨d1, by show 2 * dN (emL dr cs) 5 + 3 * (L - (sk fb L τ.1 + 1)) + 1 ≤ 3000; omega⟩)) (cwV 0 hts (lw_V q1808 q1810 qs44 q76 q1811) rfl rfl rfl (by decide +kernel) ⟨Nat.le_of_ble_eq_true rfl, Nat.le_of_ble_eq_true rfl⟩) hK (va_recv hK hP (ci := 0) (q0 := 0) rfl rfl) mv2_MS hP (fun U hU hW => MS_to hX hS (fun _ h => h) U hU hW) hS (fun _ h => h) rfl hl.1 rfl (Nat.le_of_ble_eq_true rfl) dX5_sum_55 ⟨Nat.le_of_ble_eq_true rfl, Nat.le_of_ble_eq_true rfl⟩ (fun H locs hP hS _ _ => ?_)
              have hP : va_P D clA ((o, .inr (0, [.int t, .ref a1, .int bl, .int (nI L), .int (nI (px fb L n 1 2 (((sk fb L τ.1) + 1), τ.2)).1.1), .int ((px fb L n 1 2 (((sk fb L τ.1) + 1), τ.2)).1.2.1), .int ((px fb L n 1 2 (((sk fb L τ.1) + 1), τ.2)).1.2.2.1), .int eo, .ref a8, .ref a9, .ref a10, .int ud, .int (nI (px fb L n 1 2 (((sk fb L τ.1) + 1), τ.2)).1.2.2.2), .int 2, .int se, .ref a15])) :: (a8, .inl (k 0, 1798, .inl d)) :: (a9, .inl (k 0, 1798, .inl (emL (emL dr cs) (px fb L n 1 2 (((sk fb L τ.1) + 1), τ.2)).2))) :: (a1, .inl (k 0, 900, .inl fb)) :: wr) H := hP
              refine lv_aload_n hx hb dX5_sum_58 rfl (lv_at hl 1 rfl) ?_
              refine lv_iload_n hx hb dX5_sum_59 rfl (lv_at hl 0 rfl) ?_
              refine lv_if_eq (tgt := 67) hx hb dX5_sum_60 (by decide) (fun c_60 => ?_) (fun c_60 => ?_)
              · exact absurd c_60 (by decide)
              · refine lv_iconst (v := 2) hx hb dX5_sum_63 rfl ?_
                refine lv_goto (tgt := 68) hx hb dX5_sum_64 (by decide) ?_
                refine w_callV (As := [.int 2]) (rest := []) C (m_emit l D k o a1 a8 a9 a10 a15 t bl eo ud 2 se wr d (emL (emL dr cs) (px fb L n 1 2 (((sk fb L τ.1) + 1), τ.2)).2) fb L hL ((px fb L n 1 2 (((sk fb L τ.1) + 1), τ.2)).1) A (va_D_of hD rfl) q.1 2 (fun z => by obtain ⟨-, z2, z3, z4⟩ := q.2 z; have z2 : sk fb L τ.1 + 1 + 1 ≤ _ := z2; have z4 : _ ≤ 3 * (L - (sk fb L τ.1 + 1)) + 1 := z4; obtain ⟨y1, y2⟩ := emL_n (dr := emL dr cs) (px fb L n 1 2 (sk fb L τ.1 + 1, τ.2)).2 d1 (by omega); exact ⟨y1, by omega⟩)) (cwV 1 hts (lw_V q1823 q1825 qs47 q76 q1826) rfl rfl rfl (by decide +kernel) ⟨Nat.le_of_ble_eq_true rfl, Nat.le_of_ble_eq_true rfl⟩) hK (va_recv hK hP (ci := 0) (q0 := 0) rfl rfl) hP hS (fun _ h => h) rfl hl.1 rfl (Nat.le_of_ble_eq_true rfl) dX5_sum_68 ⟨Nat.le_of_ble_eq_true rfl, Nat.le_of_ble_eq_true rfl⟩ (fun H locs hP hS _ _ => ?_)
                have hP : va_P D clA ((o, .inr (0, [.int t, .ref a1, .int bl, .int (nI L), .int (nI (px fb L n 1 2 (((sk fb L τ.1) + 1), τ.2)).1.1), .int ((px fb L n 1 2 (((sk fb L τ.1) + 1), τ.2)).1.2.1), .int ((px fb L n 1 2 (((sk fb L τ.1) + 1), τ.2)).1.2.2.1), .int eo, .ref a8, .ref a9, .ref a10, .int ud, .int (nI (px fb L n 1 2 (((sk fb L τ.1) + 1), τ.2)).1.2.2.2), .int 2, .int se, .ref a15])) :: (a8, .inl (k 0, 1798, .inl d)) :: (a9, .inl (k 0, 1798, .inl (emS (emL (emL dr cs) (px fb L n 1 2 (((sk fb L τ.1) + 1), τ.2)).2) 2 ((px fb L n 1 2 (((sk fb L τ.1) + 1), τ.2)).1)))) :: (a1, .inl (k 0, 900, .inl fb)) :: wr) H := hP
                refine lv_goto (tgt := 4) hx hb dX5_sum_71 (by decide) ?_
                have hP : va_P D clA ((o, .inr (0, [.int t, .ref a1, .int bl, .int (nI L), .int (nI (px fb L n 1 2 (((sk fb L τ.1) + 1), τ.2)).1.1), .int ((px fb L n 1 2 (((sk fb L τ.1) + 1), τ.2)).1.2.1), .int ((px fb L n 1 2 (((sk fb L τ.1) + 1), τ.2)).1.2.2.1), .int eo, .ref a8, .ref a9, .ref a10, .int ud, .int (nI (px fb L n 1 2 (((sk fb L τ.1) + 1), τ.2)).1.2.2.2), .int 2, .int se, .ref a15])) :: (a8, .inl (k 0, 1798, .inl d)) :: (a9, .inl (k 0, 1798, .inl (emL dr (cs ++ ((px fb L n 1 2 (sk fb L τ.1 + 1, τ.2)).2 ++ ifp ((px fb L n 1 2 (sk fb L τ.1 + 1, τ.2)).1.2.1 = 0) [2] []))))) :: (a1, .inl (k 0, 900, .inl fb)) :: wr) H := by rw [emL_app, emL_app, ← emS_L]; exact hP
                simp only [px, ifp_t b_8, ifp_t ho, ifp_t c_17] at he1 he2
                exact ih_4 (px fb L n 1 2 (sk fb L τ.1 + 1, τ.2)).1 (cs ++ ((px fb L n 1 2 (sk fb L τ.1 + 1, τ.2)).2 ++ ifp ((px fb L n 1 2 (sk fb L τ.1 + 1, τ.2)).1.2.1 = 0) [2] [])) q.1 (fun z => by have z2 : sk fb L τ.1 + 1 + 1 ≤ _ := (q.2 z).2.1; show 3 * (L - (px fb L n 1 2 (sk fb L τ.1 + 1, τ.2)).1.1) + 1 ≤ n; omega) (fun z => by obtain ⟨-, z2, z3, z4⟩ := q.2 z; have z2 : sk fb L τ.1 + 1 + 1 ≤ _ := z2; have z4 : _ ≤ 3 * (L - (sk fb L τ.1 + 1)) + 1 := z4; rw [ifp_t z, List.length_append, List.length_append]; simp only [List.length_cons, List.length_nil]; omega) he1 (by rw [List.append_assoc]; exact he2) (by omega) _ _ hP hS ls (lv_sub hl [1] rfl)
          · refine lv_aload_n hx hb dX5_sum_20 rfl (lv_at hl 0 rfl) ?_
            refine w_callV (As := []) (rest := []) C (m_next l D k o a1 a8 a9 a10 a15 t bl τ.2.1 τ.2.2.1 eo ud (nI τ.2.2.2) 2 se wr d (emL dr cs) fb L hL (sk fb L τ.1) A (va_D_of hD rfl) hs.2) (cwV 0 hts (lw_V q1735 q1737 qs33 q76 q1738) rfl rfl rfl (by decide +kernel) ⟨Nat.le_of_ble_eq_true rfl, Nat.le_of_ble_eq_true rfl⟩) hK (va_recv hK hP (ci := 0) (q0 := 0) rfl rfl) hP hS (fun _ h => h) rfl hl.1 rfl (Nat.le_of_ble_eq_true rfl) dX5_sum_21 ⟨Nat.le_of_ble_eq_true rfl, Nat.le_of_ble_eq_true rfl⟩ (fun H locs hP hS _ _ => ?_)
            rw [hss] at hP
            rw [hss]
            have hP : va_P D clA ((o, .inr (0, [.int t, .ref a1, .int bl, .int (nI L), .int (nI (sk fb L τ.1)), .int τ.2.1, .int τ.2.2.1, .int eo, .ref a8, .ref a9, .ref a10, .int ud, .int (nI τ.2.2.2), .int 2, .int se, .ref a15])) :: (a8, .inl (k 0, 1798, .inl d)) :: (a9, .inl (k 0, 1798, .inl (emL dr cs))) :: (a1, .inl (k 0, 900, .inl fb)) :: wr) H := hP
            refine lv_bipush (v := 45) hx hb dX5_sum_24 rfl ?_
            refine lv_icmp_ne (tgt := 74) hx hb dX5_sum_26 (by decide) (fun c_26 => ?_) (fun c_26 => ?_)
            · exact w_vret C (by simp only [px, ifp_t b_8, ifp_f (show ¬ (byt fb L (sk fb L τ.1) = 43 ∨ byt fb L (sk fb L τ.1) = 45) from fun h => h.elim c_17 c_26)] at he1 he2; rw [List.append_nil] at he2; have e1 : (sk fb L τ.1, τ.2) = (px fb L (f + 1) 2 2 σ).1 := he1; have e2 : cs = (px fb L (f + 1) 2 2 σ).2 := he2; rw [← e1, ← e2]; exact hP) hS dX5_sum_74
            · have ho : byt fb L (sk fb L τ.1) = 43 ∨ byt fb L (sk fb L τ.1) = 45 := Or.inr c_26
              have hlt : sk fb L τ.1 < L := ho.elim (fun e => byt_lt e (by decide)) (fun e => byt_lt e (by decide))
              have ok3 : okS L (sk fb L τ.1 + 1, τ.2) := ho.elim (fun e => okS_s1 hL ok2 e (by decide)) (fun e => okS_s1 hL ok2 e (by decide))
              have q := px_ok (fb := fb) hL n 1 2 (sk fb L τ.1 + 1, τ.2) ok3 (fun _ => by show 3 * (L - (sk fb L τ.1 + 1)) + 2 ≤ n; omega)
              refine lv_aload_n hx hb dX5_sum_29 rfl (lv_at hl 0 rfl) ?_
              refine w_callV (As := []) (rest := []) C (m_next l D k o a1 a8 a9 a10 a15 t bl τ.2.1 τ.2.2.1 eo ud (nI τ.2.2.2) 2 se wr d (emL dr cs) fb L hL (sk fb L τ.1) A (va_D_of hD rfl) hs.2) (cwV 0 hts (lw_V q1735 q1737 qs33 q76 q1738) rfl rfl rfl (by decide +kernel) ⟨Nat.le_of_ble_eq_true rfl, Nat.le_of_ble_eq_true rfl⟩) hK (va_recv hK hP (ci := 0) (q0 := 0) rfl rfl) hP hS (fun _ h => h) rfl hl.1 rfl (Nat.le_of_ble_eq_true rfl) dX5_sum_30 ⟨Nat.le_of_ble_eq_true rfl, Nat.le_of_ble_eq_true rfl⟩ (fun H locs hP hS _ _ => ?_)
              rw [hss] at hP
              rw [hss]
              have hP : va_P D clA ((o, .inr (0, [.int t, .ref a1, .int bl, .int (nI L), .int (nI (sk fb L τ.1)), .int τ.2.1, .int τ.2.2.1, .int eo, .ref a8, .ref a9, .ref a10, .int ud, .int (nI τ.2.2.2), .int 2, .int se, .ref a15])) :: (a8, .inl (k 0, 1798, .inl d)) :: (a9, .inl (k 0, 1798, .inl (emL dr cs))) :: (a1, .inl (k 0, 900, .inl fb)) :: wr) H := hP
              refine lv_bipush (v := 43) hx hb dX5_sum_33 rfl ?_
              refine lv_icmp_ne (tgt := 42) hx hb dX5_sum_35 (by decide) (fun c_35 => ?_) (fun c_35 => ?_)
              · refine lv_iconst (v := 0) hx hb dX5_sum_42 rfl ?_
                refine lv_istore_n (lv' := [(1, .int 0), (0, .ref o)]) hx hb dX5_sum_43 rfl hl (by decide) rfl (fun ls hl => ?_)
                refine lv_aload_n hx hb dX5_sum_44 rfl (lv_at hl 1 rfl) ?_
                refine lv_dup hx hb dX5_sum_45 rfl ?_
                refine va_get hx hb hts in_X5 hown hK hP 0 rfl rfl 4 (by decide) (hts _ q1666) (fun _ h => h) rfl dX5_sum_46 ?_
                refine lv_iconst (v := 1) hx hb dX5_sum_49 rfl ?_
                refine lv_iadd hx hb dX5_sum_50 ?_
                refine w_topi (y := nI ((sk fb L τ.1) + 1)) (nI_add (sk fb L τ.1) 1) ?_
                refine va_put hx hb hts in_X5 tyX5 tyX5_ok nmX5 hown hK hP (va_D_of hD rfl) hS 0 rfl rfl 4 (by decide) (hts _ q1666) (fun _ h => h) rfl rfl rfl rfl (Nat.le_of_ble_eq_true rfl) dX5_sum_51 (fun H locs hP _ hS => ?_)
                have hP : va_P D clA ((o, .inr (0, [.int t, .ref a1, .int bl, .int (nI L), .int (nI ((sk fb L τ.1) + 1)), .int τ.2.1, .int τ.2.2.1, .int eo, .ref a8, .ref a9, .ref a10, .int ud, .int (nI τ.2.2.2), .int 2, .int se, .ref a15])) :: (a8, .inl (k 0, 1798, .inl d)) :: (a9, .inl (k 0, 1798, .inl (emL dr cs))) :: (a1, .inl (k 0, 900, .inl fb)) :: wr) H := hP
                refine lv_aload_n hx hb dX5_sum_54 rfl (lv_at hl 1 rfl) ?_
                refine x_callV (As := []) (rest := []) C (m_term_2 l D k o a1 a8 a9 a10 a15 t bl eo ud se wr d (emL dr cs) fb L hL (((sk fb L τ.1) + 1), τ.2) A (va_D_of hD rfl) ok3 sA sV n (fun _ => by show 3 * (L - (sk fb L τ.1 + 1)) + 2 ≤ n; omega) (fun _ => ⟨d1, by show 2 * dN (emL dr cs) 5 + 3 * (L - (sk fb L τ.1 + 1)) + 1 ≤ 3000; omega⟩)) (cwV 0 hts (lw_V q1808 q1810 qs44 q76 q1811) rfl rfl rfl (by decide +kernel) ⟨Nat.le_of_ble_eq_true rfl, Nat.le_of_ble_eq_true rfl⟩) hK (va_recv hK hP (ci := 0) (q0 := 0) rfl rfl) mv2_MS hP (fun U hU hW => MS_to hX hS (fun _ h => h) U hU hW) hS (fun _ h => h) rfl hl.1 rfl (Nat.le_of_ble_eq_true rfl) dX5_sum_55 ⟨Nat.le_of_ble_eq_true rfl, Nat.le_of_ble_eq_true rfl⟩ (fun H locs hP hS _ _ => ?_)
                have hP : va_P D clA ((o, .inr (0, [.int t, .ref a1, .int bl, .int (nI L), .int (nI (px fb L n 1 2 (((sk fb L τ.1) + 1), τ.2)).1.1), .int ((px fb L n 1 2 (((sk fb L τ.1) + 1), τ.2)).1.2.1), .int ((px fb L n 1 2 (((sk fb L τ.1) + 1), τ.2)).1.2.2.1), .int eo, .ref a8, .ref a9, .ref a10, .int ud, .int (nI (px fb L n 1 2 (((sk fb L τ.1) + 1), τ.2)).1.2.2.2), .int 2, .int se, .ref a15])) :: (a8, .inl (k 0, 1798, .inl d)) :: (a9, .inl (k 0, 1798, .inl (emL (emL dr cs) (px fb L n 1 2 (((sk fb L τ.1) + 1), τ.2)).2))) :: (a1, .inl (k 0, 900, .inl fb)) :: wr) H := hP
                refine lv_aload_n hx hb dX5_sum_58 rfl (lv_at hl 1 rfl) ?_
                refine lv_iload_n hx hb dX5_sum_59 rfl (lv_at hl 0 rfl) ?_
                refine lv_if_eq (tgt := 67) hx hb dX5_sum_60 (by decide) (fun c_60 => ?_) (fun c_60 => ?_)
                · refine lv_iconst (v := 3) hx hb dX5_sum_67 rfl ?_
                  refine w_callV (As := [.int 3]) (rest := []) C (m_emit l D k o a1 a8 a9 a10 a15 t bl eo ud 2 se wr d (emL (emL dr cs) (px fb L n 1 2 (((sk fb L τ.1) + 1), τ.2)).2) fb L hL ((px fb L n 1 2 (((sk fb L τ.1) + 1), τ.2)).1) A (va_D_of hD rfl) q.1 3 (fun z => by obtain ⟨-, z2, z3, z4⟩ := q.2 z; have z2 : sk fb L τ.1 + 1 + 1 ≤ _ := z2; have z4 : _ ≤ 3 * (L - (sk fb L τ.1 + 1)) + 1 := z4; obtain ⟨y1, y2⟩ := emL_n (dr := emL dr cs) (px fb L n 1 2 (sk fb L τ.1 + 1, τ.2)).2 d1 (by omega); exact ⟨y1, by omega⟩)) (cwV 1 hts (lw_V q1823 q1825 qs47 q76 q1826) rfl rfl rfl (by decide +kernel) ⟨Nat.le_of_ble_eq_true rfl, Nat.le_of_ble_eq_true rfl⟩) hK (va_recv hK hP (ci := 0) (q0 := 0) rfl rfl) hP hS (fun _ h => h) rfl hl.1 rfl (Nat.le_of_ble_eq_true rfl) dX5_sum_68 ⟨Nat.le_of_ble_eq_true rfl, Nat.le_of_ble_eq_true rfl⟩ (fun H locs hP hS _ _ => ?_)
                  have hP : va_P D clA ((o, .inr (0, [.int t, .ref a1, .int bl, .int (nI L), .int (nI (px fb L n 1 2 (((sk fb L τ.1) + 1), τ.2)).1.1), .int ((px fb L n 1 2 (((sk fb L τ.1) + 1), τ.2)).1.2.1), .int ((px fb L n 1 2 (((sk fb L τ.1) + 1), τ.2)).1.2.2.1), .int eo, .ref a8, .ref a9, .ref a10, .int ud, .int (nI (px fb L n 1 2 (((sk fb L τ.1) + 1), τ.2)).1.2.2.2), .int 2, .int se, .ref a15])) :: (a8, .inl (k 0, 1798, .inl d)) :: (a9, .inl (k 0, 1798, .inl (emS (emL (emL dr cs) (px fb L n 1 2 (((sk fb L τ.1) + 1), τ.2)).2) 3 ((px fb L n 1 2 (((sk fb L τ.1) + 1), τ.2)).1)))) :: (a1, .inl (k 0, 900, .inl fb)) :: wr) H := hP
                  refine lv_goto (tgt := 4) hx hb dX5_sum_71 (by decide) ?_
                  have hP : va_P D clA ((o, .inr (0, [.int t, .ref a1, .int bl, .int (nI L), .int (nI (px fb L n 1 2 (((sk fb L τ.1) + 1), τ.2)).1.1), .int ((px fb L n 1 2 (((sk fb L τ.1) + 1), τ.2)).1.2.1), .int ((px fb L n 1 2 (((sk fb L τ.1) + 1), τ.2)).1.2.2.1), .int eo, .ref a8, .ref a9, .ref a10, .int ud, .int (nI (px fb L n 1 2 (((sk fb L τ.1) + 1), τ.2)).1.2.2.2), .int 2, .int se, .ref a15])) :: (a8, .inl (k 0, 1798, .inl d)) :: (a9, .inl (k 0, 1798, .inl (emL dr (cs ++ ((px fb L n 1 2 (sk fb L τ.1 + 1, τ.2)).2 ++ ifp ((px fb L n 1 2 (sk fb L τ.1 + 1, τ.2)).1.2.1 = 0) [3] []))))) :: (a1, .inl (k 0, 900, .inl fb)) :: wr) H := by rw [emL_app, emL_app, ← emS_L]; exact hP
                  simp only [px, ifp_t b_8, ifp_t ho, ifp_f c_17] at he1 he2
                  exact ih_4 (px fb L n 1 2 (sk fb L τ.1 + 1, τ.2)).1 (cs ++ ((px fb L n 1 2 (sk fb L τ.1 + 1, τ.2)).2 ++ ifp ((px fb L n 1 2 (sk fb L τ.1 + 1, τ.2)).1.2.1 = 0) [3] [])) q.1 (fun z => by have z2 : sk fb L τ.1 + 1 + 1 ≤ _ := (q.2 z).2.1; show 3 * (L - (px fb L n 1 2 (sk fb L τ.1 + 1, τ.2)).1.1) + 1 ≤ n; omega) (fun z => by obtain ⟨-, z2, z3, z4⟩ := q.2 z; have z2 : sk fb L τ.1 + 1 + 1 ≤ _ := z2; have z4 : _ ≤ 3 * (L - (sk fb L τ.1 + 1)) + 1 := z4; rw [ifp_t z, List.length_append, List.length_append]; simp only [List.length_cons, List.length_nil]; omega) he1 (by rw [List.append_assoc]; exact he2) (by omega) _ _ hP hS ls (lv_sub hl [1] rfl)
                · exact absurd c_60 (by decide)
              · exact absurd c_35 c_17
    exact loop_4 f (px fb L f 1 2 σ).1 (px fb L f 1 2 σ).2 q0.1 (fun z => by have z2 : σ.1 + 1 ≤ _ := (q0.2 z).2.1; show 3 * (L - (px fb L f 1 2 σ).1.1) + 1 ≤ f; omega) (fun z => by have z2 : _ ≤ 3 * (L - σ.1) + 1 := (q0.2 z).2.2.2; omega) (by simp only [px]) (by simp only [px]) (by omega) _ _ hP hS ls (lv_sub hl [0] rfl)
  · skip
    refine lv_aload_n hx hb dX5_sum_0 rfl (lv_at hl 0 rfl) ?_
    refine w_callV (As := []) (rest := []) C (m_termE l D k o a1 a8 a9 a10 a15 t bl eo ud 2 se wr d dr fb L hL σ A (va_D_of hD rfl) hok hg0) (cwV 0 hts (lw_V q1808 q1810 qs44 q76 q1811) rfl rfl rfl (by decide +kernel) ⟨Nat.le_of_ble_eq_true rfl, Nat.le_of_ble_eq_true rfl⟩) hK (va_recv hK hP (ci := 0) (q0 := 0) rfl rfl) hP hS (fun _ h => h) rfl hl.1 rfl (Nat.le_of_ble_eq_true rfl) dX5_sum_1 ⟨Nat.le_of_ble_eq_true rfl, Nat.le_of_ble_eq_true rfl⟩ (fun H locs hP hS _ _ => ?_)
    have hP : va_P D clA ((o, .inr (0, [.int t, .ref a1, .int bl, .int (nI L), .int (nI σ.1), .int σ.2.1, .int σ.2.2.1, .int eo, .ref a8, .ref a9, .ref a10, .int ud, .int (nI σ.2.2.2), .int 2, .int se, .ref a15])) :: (a8, .inl (k 0, 1798, .inl d)) :: (a9, .inl (k 0, 1798, .inl dr)) :: (a1, .inl (k 0, 900, .inl fb)) :: wr) H := hP
    refine lv_aload_n hx hb dX5_sum_4 rfl (lv_at hl 0 rfl) ?_
    refine r_callV (As := []) (rest := []) C (m_isGood l D k o σ.2.1 ([.int t, .ref a1, .int bl, .int (nI L), .int (nI σ.1), .int σ.2.1, .int σ.2.2.1, .int eo, .ref a8, .ref a9, .ref a10, .int ud, .int (nI σ.2.2.2), .int 2, .int se, .ref a15] : List Value) rfl) (cwV 0 hts (lw_V q1731 q1733 qs32 q76 q1734) rfl rfl rfl (by decide +kernel) ⟨Nat.le_of_ble_eq_true rfl, Nat.le_of_ble_eq_true rfl⟩) hK (va_recv hK hP (ci := 0) (q0 := 0) rfl rfl) (hP.sub [0] rfl) rfl hl.1 rfl (Nat.le_of_ble_eq_true rfl) dX5_sum_5 ⟨Nat.le_of_ble_eq_true rfl, Nat.le_of_ble_eq_true rfl⟩ ?_
    refine lv_if_eq (tgt := 74) hx hb dX5_sum_8 (by decide) (fun c_8 => ?_) (fun c_8 => ?_)
    · have b_8 := bI_0.mp c_8
      exact w_vret C (by rw [px_bad hg0]; exact hP) hS dX5_sum_74
    · exact absurd (bI_nz c_8) hg0
set_option maxHeartbeats 16000000 in
theorem m_factor_1 (l : Launch) (D : va_G) (k : Nat → ClassId) (o a1 a8 a9 a10 a15 : Nat) (t bl eo ud se : Int32) (wr : va_W) (d dr fb : Nat → Int32) (L : Nat) (hL : L ≤ 900) (σ : PS) (A : Nat → Prop) (hD : va_D A ((o, .inr (0, [.int t, .ref a1, .int bl, .int (nI L), .int (nI σ.1), .int σ.2.1, .int σ.2.2.1, .int eo, .ref a8, .ref a9, .ref a10, .int ud, .int (nI σ.2.2.2), .int 1, .int se, .ref a15])) :: (a8, .inl (k 0, 1798, .inl d)) :: (a9, .inl (k 0, 1798, .inl dr)) :: (a1, .inl (k 0, 900, .inl fb)) :: wr)) (hok : okS L σ) (sA sV : Nat → Nat) (f : Nat) (hf : σ.2.1 = 0 → nee 0 (L - σ.1) ≤ f) (h5 : σ.2.1 = 0 → dr 5 = nI (dN dr 5) ∧ 2 * dN dr 5 + 3 * (L - σ.1) + 1 ≤ 3000) : xM l D k yX5_factor cX5_factor 4 none 14 302 [.ref o] ((o, .inr (0, [.int t, .ref a1, .int bl, .int (nI L), .int (nI σ.1), .int σ.2.1, .int σ.2.2.1, .int eo, .ref a8, .ref a9, .ref a10, .int ud, .int (nI σ.2.2.2), .int 1, .int se, .ref a15])) :: (a8, .inl (k 0, 1798, .inl d)) :: (a9, .inl (k 0, 1798, .inl dr)) :: (a1, .inl (k 0, 900, .inl fb)) :: wr) (MS A sA sV) (none) ((o, .inr (0, [.int t, .ref a1, .int bl, .int (nI L), .int (nI (px fb L f 0 1 σ).1.1), .int ((px fb L f 0 1 σ).1.2.1), .int ((px fb L f 0 1 σ).1.2.2.1), .int eo, .ref a8, .ref a9, .ref a10, .int ud, .int (nI (px fb L f 0 1 σ).1.2.2.2), .int 1, .int se, .ref a15])) :: (a8, .inl (k 0, 1798, .inl d)) :: (a9, .inl (k 0, 1798, .inl (emL dr (px fb L f 0 1 σ).2))) :: (a1, .inl (k 0, 900, .inl fb)) :: wr) A := by
  refine xM_of (by decide) (Nat.le_of_ble_eq_true rfl) ?_
  intro p e s m below meth c ls C hK hX hP hS hl
  obtain ⟨hE, hT⟩ := id hX
  obtain ⟨hx, hb, hr, hml, hown, hts, hlk⟩ := id C
  have hl : lv_has ls 4 [(0, .ref o)] := hl
  refine lv_aload_n hx hb dX5_factor_0 rfl (lv_at hl 0 rfl) ?_
  refine r_callV (As := []) (rest := []) C (m_isGood l D k o σ.2.1 ([.int t, .ref a1, .int bl, .int (nI L), .int (nI σ.1), .int σ.2.1, .int σ.2.2.1, .int eo, .ref a8, .ref a9, .ref a10, .int ud, .int (nI σ.2.2.2), .int 1, .int se, .ref a15] : List Value) rfl) (cwV 0 hts (lw_V q1731 q1733 qs32 q76 q1734) rfl rfl rfl (by decide +kernel) ⟨Nat.le_of_ble_eq_true rfl, Nat.le_of_ble_eq_true rfl⟩) hK (va_recv hK hP (ci := 0) (q0 := 0) rfl rfl) (hP.sub [0] rfl) rfl hl.1 rfl (Nat.le_of_ble_eq_true rfl) dX5_factor_1 ⟨Nat.le_of_ble_eq_true rfl, Nat.le_of_ble_eq_true rfl⟩ ?_
  refine lv_if_ne (tgt := 8) hx hb dX5_factor_4 (by decide) (fun c_4 => ?_) (fun c_4 => ?_)
  · have b_4 := bI_nz c_4
    have hp := hok.1 b_4
    have hs := sk_in (fb := fb) hp
    have hf := hf b_4
    obtain ⟨c1, c2⟩ := h5 b_4
    obtain ⟨f, rfl⟩ : ∃ g, f = g + 1 := ⟨f - 1, by unfold nee at hf; rw [if_neg (by decide), if_neg (by decide)] at hf; omega⟩
    have hf : 3 * (L - σ.1) + 1 ≤ f + 1 := hf
    have hoks := okS_sk (fb := fb) hL hok b_4
    have hss : sk fb L (sk fb L σ.1) = sk fb L σ.1 := sk_sk hp
    refine lv_aload_n hx hb dX5_factor_8 rfl (lv_at hl 0 rfl) ?_
    refine w_callV (As := []) (rest := []) C (m_next l D k o a1 a8 a9 a10 a15 t bl σ.2.1 σ.2.2.1 eo ud (nI σ.2.2.2) 1 se wr d dr fb L hL σ.1 A (va_D_of hD rfl) hp) (cwV 0 hts (lw_V q1735 q1737 qs33 q76 q1738) rfl rfl rfl (by decide +kernel) ⟨Nat.le_of_ble_eq_true rfl, Nat.le_of_ble_eq_true rfl⟩) hK (va_recv hK hP (ci := 0) (q0 := 0) rfl rfl) hP hS (fun _ h => h) rfl hl.1 rfl (Nat.le_of_ble_eq_true rfl) dX5_factor_9 ⟨Nat.le_of_ble_eq_true rfl, Nat.le_of_ble_eq_true rfl⟩ (fun H locs hP hS _ _ => ?_)
    have hP : va_P D clA ((o, .inr (0, [.int t, .ref a1, .int bl, .int (nI L), .int (nI (sk fb L σ.1)), .int σ.2.1, .int σ.2.2.1, .int eo, .ref a8, .ref a9, .ref a10, .int ud, .int (nI σ.2.2.2), .int 1, .int se, .ref a15])) :: (a8, .inl (k 0, 1798, .inl d)) :: (a9, .inl (k 0, 1798, .inl dr)) :: (a1, .inl (k 0, 900, .inl fb)) :: wr) H := hP
    refine lv_istore_n (lv' := [(1, .int (byt fb L (sk fb L σ.1))), (0, .ref o)]) hx hb dX5_factor_12 rfl hl (by decide) rfl (fun ls hl => ?_)
    refine lv_iload_n hx hb dX5_factor_13 rfl (lv_at hl 0 rfl) ?_
    refine lv_bipush (v := 40) hx hb dX5_factor_14 rfl ?_
    refine lv_icmp_ne (tgt := 78) hx hb dX5_factor_16 (by decide) (fun c_16 => ?_) (fun c_16 => ?_)
    · refine lv_iload_n hx hb dX5_factor_78 rfl (lv_at hl 0 rfl) ?_
      refine r_callS (As := [.int (byt fb L (sk fb L σ.1))]) (rest := []) C (m_isDigit l D k (byt fb L (sk fb L σ.1))) (va_cwS 1 hts (lw_S q1772 q1773 q76 q1774) rfl rfl rfl (by decide +kernel) ⟨Nat.le_of_ble_eq_true rfl, Nat.le_of_ble_eq_true rfl⟩) hK trivial rfl hl.1 rfl (Nat.le_of_ble_eq_true rfl) dX5_factor_79 ⟨Nat.le_of_ble_eq_true rfl, Nat.le_of_ble_eq_true rfl⟩ ?_
      refine lv_if_eq (tgt := 89) hx hb dX5_factor_82 (by decide) (fun c_82 => ?_) (fun c_82 => ?_)
      · have b_82 := bI_0.mp c_82
        refine lv_aload_n hx hb dX5_factor_89 rfl (lv_at hl 1 rfl) ?_
        refine va_ldcS hx hb hown (index := 101) (hX.2 0 (by decide)).1 dX5_factor_90 ?_
        refine x_callV (As := [.ref (sA 0)]) (rest := []) C (m_takeWordM l D k o a1 a8 a9 a10 a15 t bl eo ud 1 se wr d dr fb L hL ((sk fb L σ.1), σ.2) A (va_D_of hD rfl) hoks sA sV 0 (by decide)) (cwV 1 hts (lw_V q1748 q1750 qs36 q76 q1751) rfl rfl rfl (by decide +kernel) ⟨Nat.le_of_ble_eq_true rfl, Nat.le_of_ble_eq_true rfl⟩) hK (va_recv hK hP (ci := 0) (q0 := 0) rfl rfl) mv2_MS hP (fun U hU hW => MS_to hX hS (fun _ h => h) U hU hW) hS (fun _ h => h) rfl hl.1 rfl (Nat.le_of_ble_eq_true rfl) dX5_factor_92 ⟨Nat.le_of_ble_eq_true rfl, Nat.le_of_ble_eq_true rfl⟩ (fun H locs hP hS _ _ => ?_)
        have hP : va_P D clA ((o, .inr (0, [.int t, .ref a1, .int bl, .int (nI L), .int (nI (TS fb L 0 ((sk fb L σ.1), σ.2)).1), .int ((TS fb L 0 ((sk fb L σ.1), σ.2)).2.1), .int ((TS fb L 0 ((sk fb L σ.1), σ.2)).2.2.1), .int eo, .ref a8, .ref a9, .ref a10, .int ud, .int (nI (TS fb L 0 ((sk fb L σ.1), σ.2)).2.2.2), .int 1, .int se, .ref a15])) :: (a8, .inl (k 0, 1798, .inl d)) :: (a9, .inl (k 0, 1798, .inl dr)) :: (a1, .inl (k 0, 900, .inl fb)) :: wr) H := hP
        refine lv_if_eq (tgt := 102) hx hb dX5_factor_95 (by decide) (fun c_95 => ?_) (fun c_95 => ?_)
        · have b_95 := bI_0.mp c_95
          rw [TS_no (σ := (sk fb L σ.1, σ.2)) b_4 b_95, hss] at hP
          refine lv_aload_n hx hb dX5_factor_102 rfl (lv_at hl 1 rfl) ?_
          refine va_ldcS hx hb hown (index := 107) (hX.2 1 (by decide)).1 dX5_factor_103 ?_
          refine x_callV (As := [.ref (sA 1)]) (rest := []) C (m_takeWordM l D k o a1 a8 a9 a10 a15 t bl eo ud 1 se wr d dr fb L hL ((sk fb L σ.1), σ.2) A (va_D_of hD rfl) hoks sA sV 1 (by decide)) (cwV 1 hts (lw_V q1748 q1750 qs36 q76 q1751) rfl rfl rfl (by decide +kernel) ⟨Nat.le_of_ble_eq_true rfl, Nat.le_of_ble_eq_true rfl⟩) hK (va_recv hK hP (ci := 0) (q0 := 0) rfl rfl) mv2_MS hP (fun U hU hW => MS_to hX hS (fun _ h => h) U hU hW) hS (fun _ h => h) rfl hl.1 rfl (Nat.le_of_ble_eq_true rfl) dX5_factor_105 ⟨Nat.le_of_ble_eq_true rfl, Nat.le_of_ble_eq_true rfl⟩ (fun H locs hP hS _ _ => ?_)
          have hP : va_P D clA ((o, .inr (0, [.int t, .ref a1, .int bl, .int (nI L), .int (nI (TS fb L 1 ((sk fb L σ.1), σ.2)).1), .int ((TS fb L 1 ((sk fb L σ.1), σ.2)).2.1), .int ((TS fb L 1 ((sk fb L σ.1), σ.2)).2.2.1), .int eo, .ref a8, .ref a9, .ref a10, .int ud, .int (nI (TS fb L 1 ((sk fb L σ.1), σ.2)).2.2.2), .int 1, .int se, .ref a15])) :: (a8, .inl (k 0, 1798, .inl d)) :: (a9, .inl (k 0, 1798, .inl dr)) :: (a1, .inl (k 0, 900, .inl fb)) :: wr) H := hP
          refine lv_if_eq (tgt := 115) hx hb dX5_factor_108 (by decide) (fun c_108 => ?_) (fun c_108 => ?_)
          · have b_108 := bI_0.mp c_108
            rw [TS_no (σ := (sk fb L σ.1, σ.2)) b_4 b_108, hss] at hP
            refine lv_aload_n hx hb dX5_factor_115 rfl (lv_at hl 1 rfl) ?_
            refine va_ldcS hx hb hown (index := 109) (hX.2 2 (by decide)).1 dX5_factor_116 ?_
            refine x_callV (As := [.ref (sA 2)]) (rest := []) C (m_takeWordM l D k o a1 a8 a9 a10 a15 t bl eo ud 1 se wr d dr fb L hL ((sk fb L σ.1), σ.2) A (va_D_of hD rfl) hoks sA sV 2 (by decide)) (cwV 1 hts (lw_V q1748 q1750 qs36 q76 q1751) rfl rfl rfl (by decide +kernel) ⟨Nat.le_of_ble_eq_true rfl, Nat.le_of_ble_eq_true rfl⟩) hK (va_recv hK hP (ci := 0) (q0 := 0) rfl rfl) mv2_MS hP (fun U hU hW => MS_to hX hS (fun _ h => h) U hU hW) hS (fun _ h => h) rfl hl.1 rfl (Nat.le_of_ble_eq_true rfl) dX5_factor_118 ⟨Nat.le_of_ble_eq_true rfl, Nat.le_of_ble_eq_true rfl⟩ (fun H locs hP hS _ _ => ?_)
            have hP : va_P D clA ((o, .inr (0, [.int t, .ref a1, .int bl, .int (nI L), .int (nI (TS fb L 2 ((sk fb L σ.1), σ.2)).1), .int ((TS fb L 2 ((sk fb L σ.1), σ.2)).2.1), .int ((TS fb L 2 ((sk fb L σ.1), σ.2)).2.2.1), .int eo, .ref a8, .ref a9, .ref a10, .int ud, .int (nI (TS fb L 2 ((sk fb L σ.1), σ.2)).2.2.2), .int 1, .int se, .ref a15])) :: (a8, .inl (k 0, 1798, .inl d)) :: (a9, .inl (k 0, 1798, .inl dr)) :: (a1, .inl (k 0, 900, .inl fb)) :: wr) H := hP
            refine lv_if_eq (tgt := 128) hx hb dX5_factor_121 (by decide) (fun c_121 => ?_) (fun c_121 => ?_)
            · have b_121 := bI_0.mp c_121
              rw [TS_no (σ := (sk fb L σ.1, σ.2)) b_4 b_121, hss] at hP
              refine lv_iconst (v := (-1)) hx hb dX5_factor_128 rfl ?_
              refine lv_istore_n (lv' := [(2, .int (-1)), (1, .int (byt fb L (sk fb L σ.1))), (0, .ref o)]) hx hb dX5_factor_129 rfl hl (by decide) rfl (fun ls hl => ?_)
              refine lv_iload_n hx hb dX5_factor_130 rfl (lv_at hl 0 rfl) ?_
              refine lv_if_ge (tgt := 145) hx hb dX5_factor_131 (by decide) (fun c_131 => ?_) (fun c_131 => ?_)
              · exact absurd c_131 (by decide)
              · refine lv_aload_n hx hb dX5_factor_134 rfl (lv_at hl 2 rfl) ?_
                refine lv_iconst (v := 0) hx hb dX5_factor_135 rfl ?_
                refine lv_sipush (v := 9999) hx hb dX5_factor_136 rfl ?_
                refine w_callV (As := [.int 0, .int 9999]) (rest := []) C (m_number l D k o a1 a8 a9 a10 a15 t bl eo ud 1 se wr d dr fb L hL ((sk fb L σ.1), σ.2) A (va_D_of hD rfl) hoks 0 9999) (cwV 2 hts (lw_V q1768 q1770 qs38 q76 q1771) rfl rfl rfl (by decide +kernel) ⟨Nat.le_of_ble_eq_true rfl, Nat.le_of_ble_eq_true rfl⟩) hK (va_recv hK hP (ci := 0) (q0 := 0) rfl rfl) hP hS (fun _ h => h) rfl hl.1 rfl (Nat.le_of_ble_eq_true rfl) dX5_factor_139 ⟨Nat.le_of_ble_eq_true rfl, Nat.le_of_ble_eq_true rfl⟩ (fun H locs hP hS _ _ => ?_)
                have hP : va_P D clA ((o, .inr (0, [.int t, .ref a1, .int bl, .int (nI L), .int (nI (nmS fb L 0 9999 ((sk fb L σ.1), σ.2)).2.1), .int ((nmS fb L 0 9999 ((sk fb L σ.1), σ.2)).2.2.1), .int ((nmS fb L 0 9999 ((sk fb L σ.1), σ.2)).2.2.2.1), .int eo, .ref a8, .ref a9, .ref a10, .int ud, .int (nI (nmS fb L 0 9999 ((sk fb L σ.1), σ.2)).2.2.2.2), .int 1, .int se, .ref a15])) :: (a8, .inl (k 0, 1798, .inl d)) :: (a9, .inl (k 0, 1798, .inl dr)) :: (a1, .inl (k 0, 900, .inl fb)) :: wr) H := hP
                refine lv_goto (tgt := 146) hx hb dX5_factor_142 (by decide) ?_
                refine lv_istore_n (lv' := [(3, .int ((nmS fb L 0 9999 ((sk fb L σ.1), σ.2)).1)), (2, .int (-1)), (1, .int (byt fb L (sk fb L σ.1))), (0, .ref o)]) hx hb dX5_factor_146 rfl hl (by decide) rfl (fun ls hl => ?_)
                refine lv_aload_n hx hb dX5_factor_147 rfl (lv_at hl 3 rfl) ?_
                refine lv_iload_n hx hb dX5_factor_148 rfl (lv_at hl 1 rfl) ?_
                refine lv_if_ge (tgt := 156) hx hb dX5_factor_149 (by decide) (fun c_149 => ?_) (fun c_149 => ?_)
                · exact absurd c_149 (by decide)
                · refine lv_iconst (v := 0) hx hb dX5_factor_152 rfl ?_
                  refine lv_goto (tgt := 157) hx hb dX5_factor_153 (by decide) ?_
                  refine w_callV (As := [.int 0]) (rest := []) C (m_emit l D k o a1 a8 a9 a10 a15 t bl eo ud 1 se wr d dr fb L hL ((nmS fb L 0 9999 ((sk fb L σ.1), σ.2)).2) A (va_D_of hD rfl) (okS_nm hL hoks) 0 (fun z => ⟨c1, by omega⟩)) (cwV 1 hts (lw_V q1823 q1825 qs47 q76 q1826) rfl rfl rfl (by decide +kernel) ⟨Nat.le_of_ble_eq_true rfl, Nat.le_of_ble_eq_true rfl⟩) hK (va_recv hK hP (ci := 0) (q0 := 0) rfl rfl) hP hS (fun _ h => h) rfl hl.1 rfl (Nat.le_of_ble_eq_true rfl) dX5_factor_157 ⟨Nat.le_of_ble_eq_true rfl, Nat.le_of_ble_eq_true rfl⟩ (fun H locs hP hS _ _ => ?_)
                  have hP : va_P D clA ((o, .inr (0, [.int t, .ref a1, .int bl, .int (nI L), .int (nI (nmS fb L 0 9999 ((sk fb L σ.1), σ.2)).2.1), .int ((nmS fb L 0 9999 ((sk fb L σ.1), σ.2)).2.2.1), .int ((nmS fb L 0 9999 ((sk fb L σ.1), σ.2)).2.2.2.1), .int eo, .ref a8, .ref a9, .ref a10, .int ud, .int (nI (nmS fb L 0 9999 ((sk fb L σ.1), σ.2)).2.2.2.2), .int 1, .int se, .ref a15])) :: (a8, .inl (k 0, 1798, .inl d)) :: (a9, .inl (k 0, 1798, .inl (emS dr 0 ((nmS fb L 0 9999 ((sk fb L σ.1), σ.2)).2)))) :: (a1, .inl (k 0, 900, .inl fb)) :: wr) H := hP
                  refine lv_aload_n hx hb dX5_factor_160 rfl (lv_at hl 3 rfl) ?_
                  refine lv_iload_n hx hb dX5_factor_161 rfl (lv_at hl 0 rfl) ?_
                  refine w_callV (As := [.int ((nmS fb L 0 9999 ((sk fb L σ.1), σ.2)).1)]) (rest := []) C (m_emit l D k o a1 a8 a9 a10 a15 t bl eo ud 1 se wr d (emS dr 0 ((nmS fb L 0 9999 ((sk fb L σ.1), σ.2)).2)) fb L hL ((nmS fb L 0 9999 ((sk fb L σ.1), σ.2)).2) A (va_D_of hD rfl) (okS_nm hL hoks) ((nmS fb L 0 9999 ((sk fb L σ.1), σ.2)).1) (fun z => by simp only [emS, ifp_t z]; have g1 := (nm_fwd hoks z).2.1; have g2 := (okS_nm (fb := fb) (lo := 0) (hi := 9999) hL hoks).1 z; have g1 : sk fb L σ.1 < _ := g1; exact ⟨(em1_n (by omega)).1, by rw [(em1_n (dr := dr) (v := 0) (by omega)).2]; omega⟩)) (cwV 1 hts (lw_V q1823 q1825 qs47 q76 q1826) rfl rfl rfl (by decide +kernel) ⟨Nat.le_of_ble_eq_true rfl, Nat.le_of_ble_eq_true rfl⟩) hK (va_recv hK hP (ci := 0) (q0 := 0) rfl rfl) hP hS (fun _ h => h) rfl hl.1 rfl (Nat.le_of_ble_eq_true rfl) dX5_factor_162 ⟨Nat.le_of_ble_eq_true rfl, Nat.le_of_ble_eq_true rfl⟩ (fun H locs hP hS _ _ => ?_)
                  have hP : va_P D clA ((o, .inr (0, [.int t, .ref a1, .int bl, .int (nI L), .int (nI (nmS fb L 0 9999 ((sk fb L σ.1), σ.2)).2.1), .int ((nmS fb L 0 9999 ((sk fb L σ.1), σ.2)).2.2.1), .int ((nmS fb L 0 9999 ((sk fb L σ.1), σ.2)).2.2.2.1), .int eo, .ref a8, .ref a9, .ref a10, .int ud, .int (nI (nmS fb L 0 9999 ((sk fb L σ.1), σ.2)).2.2.2.2), .int 1, .int se, .ref a15])) :: (a8, .inl (k 0, 1798, .inl d)) :: (a9, .inl (k 0, 1798, .inl (emS (emS dr 0 ((nmS fb L 0 9999 ((sk fb L σ.1), σ.2)).2)) ((nmS fb L 0 9999 ((sk fb L σ.1), σ.2)).1) ((nmS fb L 0 9999 ((sk fb L σ.1), σ.2)).2)))) :: (a1, .inl (k 0, 900, .inl fb)) :: wr) H := hP
                  exact w_vret C (by first | (simp only [px, ifp_t b_4, ifp_f c_16, ifp_t (show dig _ from b_82)]; rw [← lit_em]; exact hP) | (simp only [px, ifp_t b_4, ifp_f c_16, ifp_f (show ¬ dig _ from b_82), ifp_f b_95, ifp_f b_108, ifp_f b_121]; rw [← lit_em]; exact hP)) hS dX5_factor_165
            · have b_121 := bI_nz c_121
              have hw := (okS_TS (fb := fb) (i := 2) hL hoks).1 (by rw [TS_er]; exact b_4)
              rw [TS_yes b_121] at hw
              have hw : sk fb L (sk fb L σ.1) + 6 ≤ L := hw
              refine lv_iconst (v := 2) hx hb dX5_factor_124 rfl ?_
              refine lv_goto (tgt := 129) hx hb dX5_factor_125 (by decide) ?_
              refine lv_istore_n (lv' := [(2, .int 2), (1, .int (byt fb L (sk fb L σ.1))), (0, .ref o)]) hx hb dX5_factor_129 rfl hl (by decide) rfl (fun ls hl => ?_)
              refine lv_iload_n hx hb dX5_factor_130 rfl (lv_at hl 0 rfl) ?_
              refine lv_if_ge (tgt := 145) hx hb dX5_factor_131 (by decide) (fun c_131 => ?_) (fun c_131 => ?_)
              · refine lv_iload_n hx hb dX5_factor_145 rfl (lv_at hl 0 rfl) ?_
                refine lv_istore_n (lv' := [(3, .int 2), (2, .int 2), (1, .int (byt fb L (sk fb L σ.1))), (0, .ref o)]) hx hb dX5_factor_146 rfl hl (by decide) rfl (fun ls hl => ?_)
                refine lv_aload_n hx hb dX5_factor_147 rfl (lv_at hl 3 rfl) ?_
                refine lv_iload_n hx hb dX5_factor_148 rfl (lv_at hl 1 rfl) ?_
                refine lv_if_ge (tgt := 156) hx hb dX5_factor_149 (by decide) (fun c_149 => ?_) (fun c_149 => ?_)
                · refine lv_iconst (v := 1) hx hb dX5_factor_156 rfl ?_
                  refine w_callV (As := [.int 1]) (rest := []) C (m_emit l D k o a1 a8 a9 a10 a15 t bl eo ud 1 se wr d dr fb L hL (TS fb L 2 ((sk fb L σ.1), σ.2)) A (va_D_of hD rfl) (okS_TS hL hoks) 1 (fun _ => ⟨c1, by omega⟩)) (cwV 1 hts (lw_V q1823 q1825 qs47 q76 q1826) rfl rfl rfl (by decide +kernel) ⟨Nat.le_of_ble_eq_true rfl, Nat.le_of_ble_eq_true rfl⟩) hK (va_recv hK hP (ci := 0) (q0 := 0) rfl rfl) hP hS (fun _ h => h) rfl hl.1 rfl (Nat.le_of_ble_eq_true rfl) dX5_factor_157 ⟨Nat.le_of_ble_eq_true rfl, Nat.le_of_ble_eq_true rfl⟩ (fun H locs hP hS _ _ => ?_)
                  have hP : va_P D clA ((o, .inr (0, [.int t, .ref a1, .int bl, .int (nI L), .int (nI (TS fb L 2 ((sk fb L σ.1), σ.2)).1), .int ((TS fb L 2 ((sk fb L σ.1), σ.2)).2.1), .int ((TS fb L 2 ((sk fb L σ.1), σ.2)).2.2.1), .int eo, .ref a8, .ref a9, .ref a10, .int ud, .int (nI (TS fb L 2 ((sk fb L σ.1), σ.2)).2.2.2), .int 1, .int se, .ref a15])) :: (a8, .inl (k 0, 1798, .inl d)) :: (a9, .inl (k 0, 1798, .inl (emS dr 1 (TS fb L 2 ((sk fb L σ.1), σ.2))))) :: (a1, .inl (k 0, 900, .inl fb)) :: wr) H := hP
                  refine lv_aload_n hx hb dX5_factor_160 rfl (lv_at hl 3 rfl) ?_
                  refine lv_iload_n hx hb dX5_factor_161 rfl (lv_at hl 0 rfl) ?_
                  refine w_callV (As := [.int 2]) (rest := []) C (m_emit l D k o a1 a8 a9 a10 a15 t bl eo ud 1 se wr d (emS dr 1 (TS fb L 2 ((sk fb L σ.1), σ.2))) fb L hL (TS fb L 2 ((sk fb L σ.1), σ.2)) A (va_D_of hD rfl) (okS_TS hL hoks) 2 (fun z => by simp only [emS, ifp_t z]; exact ⟨(em1_n (by omega)).1, by rw [(em1_n (dr := dr) (v := 1) (by omega)).2]; omega⟩)) (cwV 1 hts (lw_V q1823 q1825 qs47 q76 q1826) rfl rfl rfl (by decide +kernel) ⟨Nat.le_of_ble_eq_true rfl, Nat.le_of_ble_eq_true rfl⟩) hK (va_recv hK hP (ci := 0) (q0 := 0) rfl rfl) hP hS (fun _ h => h) rfl hl.1 rfl (Nat.le_of_ble_eq_true rfl) dX5_factor_162 ⟨Nat.le_of_ble_eq_true rfl, Nat.le_of_ble_eq_true rfl⟩ (fun H locs hP hS _ _ => ?_)
                  have hP : va_P D clA ((o, .inr (0, [.int t, .ref a1, .int bl, .int (nI L), .int (nI (TS fb L 2 ((sk fb L σ.1), σ.2)).1), .int ((TS fb L 2 ((sk fb L σ.1), σ.2)).2.1), .int ((TS fb L 2 ((sk fb L σ.1), σ.2)).2.2.1), .int eo, .ref a8, .ref a9, .ref a10, .int ud, .int (nI (TS fb L 2 ((sk fb L σ.1), σ.2)).2.2.2), .int 1, .int se, .ref a15])) :: (a8, .inl (k 0, 1798, .inl d)) :: (a9, .inl (k 0, 1798, .inl (emS (emS dr 1 (TS fb L 2 ((sk fb L σ.1), σ.2))) 2 (TS fb L 2 ((sk fb L σ.1), σ.2))))) :: (a1, .inl (k 0, 900, .inl fb)) :: wr) H := hP
                  exact w_vret C (by simp only [px, ifp_t b_4, ifp_f c_16, ifp_f (show ¬ dig _ from b_82), ifp_f b_95, ifp_f b_108, ifp_t b_121]; simp only [emS, ifp_t (show (TS fb L 2 (sk fb L σ.1, σ.2)).2.1 = 0 by rw [TS_er]; exact b_4)] at hP; exact hP) hS dX5_factor_165
                · exact absurd c_149 (by decide)
              · exact absurd c_131 (by decide)
          · have b_108 := bI_nz c_108
            have hw := (okS_TS (fb := fb) (i := 1) hL hoks).1 (by rw [TS_er]; exact b_4)
            rw [TS_yes b_108] at hw
            have hw : sk fb L (sk fb L σ.1) + 4 ≤ L := hw
            refine lv_iconst (v := 1) hx hb dX5_factor_111 rfl ?_
            refine lv_goto (tgt := 129) hx hb dX5_factor_112 (by decide) ?_
            refine lv_istore_n (lv' := [(2, .int 1), (1, .int (byt fb L (sk fb L σ.1))), (0, .ref o)]) hx hb dX5_factor_129 rfl hl (by decide) rfl (fun ls hl => ?_)
            refine lv_iload_n hx hb dX5_factor_130 rfl (lv_at hl 0 rfl) ?_
            refine lv_if_ge (tgt := 145) hx hb dX5_factor_131 (by decide) (fun c_131 => ?_) (fun c_131 => ?_)
            · refine lv_iload_n hx hb dX5_factor_145 rfl (lv_at hl 0 rfl) ?_
              refine lv_istore_n (lv' := [(3, .int 1), (2, .int 1), (1, .int (byt fb L (sk fb L σ.1))), (0, .ref o)]) hx hb dX5_factor_146 rfl hl (by decide) rfl (fun ls hl => ?_)
              refine lv_aload_n hx hb dX5_factor_147 rfl (lv_at hl 3 rfl) ?_
              refine lv_iload_n hx hb dX5_factor_148 rfl (lv_at hl 1 rfl) ?_
              refine lv_if_ge (tgt := 156) hx hb dX5_factor_149 (by decide) (fun c_149 => ?_) (fun c_149 => ?_)
              · refine lv_iconst (v := 1) hx hb dX5_factor_156 rfl ?_
                refine w_callV (As := [.int 1]) (rest := []) C (m_emit l D k o a1 a8 a9 a10 a15 t bl eo ud 1 se wr d dr fb L hL (TS fb L 1 ((sk fb L σ.1), σ.2)) A (va_D_of hD rfl) (okS_TS hL hoks) 1 (fun _ => ⟨c1, by omega⟩)) (cwV 1 hts (lw_V q1823 q1825 qs47 q76 q1826) rfl rfl rfl (by decide +kernel) ⟨Nat.le_of_ble_eq_true rfl, Nat.le_of_ble_eq_true rfl⟩) hK (va_recv hK hP (ci := 0) (q0 := 0) rfl rfl) hP hS (fun _ h => h) rfl hl.1 rfl (Nat.le_of_ble_eq_true rfl) dX5_factor_157 ⟨Nat.le_of_ble_eq_true rfl, Nat.le_of_ble_eq_true rfl⟩ (fun H locs hP hS _ _ => ?_)
                have hP : va_P D clA ((o, .inr (0, [.int t, .ref a1, .int bl, .int (nI L), .int (nI (TS fb L 1 ((sk fb L σ.1), σ.2)).1), .int ((TS fb L 1 ((sk fb L σ.1), σ.2)).2.1), .int ((TS fb L 1 ((sk fb L σ.1), σ.2)).2.2.1), .int eo, .ref a8, .ref a9, .ref a10, .int ud, .int (nI (TS fb L 1 ((sk fb L σ.1), σ.2)).2.2.2), .int 1, .int se, .ref a15])) :: (a8, .inl (k 0, 1798, .inl d)) :: (a9, .inl (k 0, 1798, .inl (emS dr 1 (TS fb L 1 ((sk fb L σ.1), σ.2))))) :: (a1, .inl (k 0, 900, .inl fb)) :: wr) H := hP
                refine lv_aload_n hx hb dX5_factor_160 rfl (lv_at hl 3 rfl) ?_
                refine lv_iload_n hx hb dX5_factor_161 rfl (lv_at hl 0 rfl) ?_
                refine w_callV (As := [.int 1]) (rest := []) C (m_emit l D k o a1 a8 a9 a10 a15 t bl eo ud 1 se wr d (emS dr 1 (TS fb L 1 ((sk fb L σ.1), σ.2))) fb L hL (TS fb L 1 ((sk fb L σ.1), σ.2)) A (va_D_of hD rfl) (okS_TS hL hoks) 1 (fun z => by simp only [emS, ifp_t z]; exact ⟨(em1_n (by omega)).1, by rw [(em1_n (dr := dr) (v := 1) (by omega)).2]; omega⟩)) (cwV 1 hts (lw_V q1823 q1825 qs47 q76 q1826) rfl rfl rfl (by decide +kernel) ⟨Nat.le_of_ble_eq_true rfl, Nat.le_of_ble_eq_true rfl⟩) hK (va_recv hK hP (ci := 0) (q0 := 0) rfl rfl) hP hS (fun _ h => h) rfl hl.1 rfl (Nat.le_of_ble_eq_true rfl) dX5_factor_162 ⟨Nat.le_of_ble_eq_true rfl, Nat.le_of_ble_eq_true rfl⟩ (fun H locs hP hS _ _ => ?_)
                have hP : va_P D clA ((o, .inr (0, [.int t, .ref a1, .int bl, .int (nI L), .int (nI (TS fb L 1 ((sk fb L σ.1), σ.2)).1), .int ((TS fb L 1 ((sk fb L σ.1), σ.2)).2.1), .int ((TS fb L 1 ((sk fb L σ.1), σ.2)).2.2.1), .int eo, .ref a8, .ref a9, .ref a10, .int ud, .int (nI (TS fb L 1 ((sk fb L σ.1), σ.2)).2.2.2), .int 1, .int se, .ref a15])) :: (a8, .inl (k 0, 1798, .inl d)) :: (a9, .inl (k 0, 1798, .inl (emS (emS dr 1 (TS fb L 1 ((sk fb L σ.1), σ.2))) 1 (TS fb L 1 ((sk fb L σ.1), σ.2))))) :: (a1, .inl (k 0, 900, .inl fb)) :: wr) H := hP
                exact w_vret C (by simp only [px, ifp_t b_4, ifp_f c_16, ifp_f (show ¬ dig _ from b_82), ifp_f b_95, ifp_t b_108]; simp only [emS, ifp_t (show (TS fb L 1 (sk fb L σ.1, σ.2)).2.1 = 0 by rw [TS_er]; exact b_4)] at hP; exact hP) hS dX5_factor_165
              · exact absurd c_149 (by decide)
            · exact absurd c_131 (by decide)
        · have b_95 := bI_nz c_95
          have hw := (okS_TS (fb := fb) (i := 0) hL hoks).1 (by rw [TS_er]; exact b_4)
          rw [TS_yes b_95] at hw
          have hw : sk fb L (sk fb L σ.1) + 6 ≤ L := hw
          refine lv_iconst (v := 0) hx hb dX5_factor_98 rfl ?_
          refine lv_goto (tgt := 129) hx hb dX5_factor_99 (by decide) ?_
          refine lv_istore_n (lv' := [(2, .int 0), (1, .int (byt fb L (sk fb L σ.1))), (0, .ref o)]) hx hb dX5_factor_129 rfl hl (by decide) rfl (fun ls hl => ?_)
          refine lv_iload_n hx hb dX5_factor_130 rfl (lv_at hl 0 rfl) ?_
          refine lv_if_ge (tgt := 145) hx hb dX5_factor_131 (by decide) (fun c_131 => ?_) (fun c_131 => ?_)
          · refine lv_iload_n hx hb dX5_factor_145 rfl (lv_at hl 0 rfl) ?_
            refine lv_istore_n (lv' := [(3, .int 0), (2, .int 0), (1, .int (byt fb L (sk fb L σ.1))), (0, .ref o)]) hx hb dX5_factor_146 rfl hl (by decide) rfl (fun ls hl => ?_)
            refine lv_aload_n hx hb dX5_factor_147 rfl (lv_at hl 3 rfl) ?_
            refine lv_iload_n hx hb dX5_factor_148 rfl (lv_at hl 1 rfl) ?_
            refine lv_if_ge (tgt := 156) hx hb dX5_factor_149 (by decide) (fun c_149 => ?_) (fun c_149 => ?_)
            · refine lv_iconst (v := 1) hx hb dX5_factor_156 rfl ?_
              refine w_callV (As := [.int 1]) (rest := []) C (m_emit l D k o a1 a8 a9 a10 a15 t bl eo ud 1 se wr d dr fb L hL (TS fb L 0 ((sk fb L σ.1), σ.2)) A (va_D_of hD rfl) (okS_TS hL hoks) 1 (fun _ => ⟨c1, by omega⟩)) (cwV 1 hts (lw_V q1823 q1825 qs47 q76 q1826) rfl rfl rfl (by decide +kernel) ⟨Nat.le_of_ble_eq_true rfl, Nat.le_of_ble_eq_true rfl⟩) hK (va_recv hK hP (ci := 0) (q0 := 0) rfl rfl) hP hS (fun _ h => h) rfl hl.1 rfl (Nat.le_of_ble_eq_true rfl) dX5_factor_157 ⟨Nat.le_of_ble_eq_true rfl, Nat.le_of_ble_eq_true rfl⟩ (fun H locs hP hS _ _ => ?_)
              have hP : va_P D clA ((o, .inr (0, [.int t, .ref a1, .int bl, .int (nI L), .int (nI (TS fb L 0 ((sk fb L σ.1), σ.2)).1), .int ((TS fb L 0 ((sk fb L σ.1), σ.2)).2.1), .int ((TS fb L 0 ((sk fb L σ.1), σ.2)).2.2.1), .int eo, .ref a8, .ref a9, .ref a10, .int ud, .int (nI (TS fb L 0 ((sk fb L σ.1), σ.2)).2.2.2), .int 1, .int se, .ref a15])) :: (a8, .inl (k 0, 1798, .inl d)) :: (a9, .inl (k 0, 1798, .inl (emS dr 1 (TS fb L 0 ((sk fb L σ.1), σ.2))))) :: (a1, .inl (k 0, 900, .inl fb)) :: wr) H := hP
              refine lv_aload_n hx hb dX5_factor_160 rfl (lv_at hl 3 rfl) ?_
              refine lv_iload_n hx hb dX5_factor_161 rfl (lv_at hl 0 rfl) ?_
              refine w_callV (As := [.int 0]) (rest := []) C (m_emit l D k o a1 a8 a9 a10 a15 t bl eo ud 1 se wr d (emS dr 1 (TS fb L 0 ((sk fb L σ.1), σ.2))) fb L hL (TS fb L 0 ((sk fb L σ.1), σ.2)) A (va_D_of hD rfl) (okS_TS hL hoks) 0 (fun z => by simp only [emS, ifp_t z]; exact ⟨(em1_n (by omega)).1, by rw [(em1_n (dr := dr) (v := 1) (by omega)).2]; omega⟩)) (cwV 1 hts (lw_V q1823 q1825 qs47 q76 q1826) rfl rfl rfl (by decide +kernel) ⟨Nat.le_of_ble_eq_true rfl, Nat.le_of_ble_eq_true rfl⟩) hK (va_recv hK hP (ci := 0) (q0 := 0) rfl rfl) hP hS (fun _ h => h) rfl hl.1 rfl (Nat.le_of_ble_eq_true rfl) dX5_factor_162 ⟨Nat.le_of_ble_eq_true rfl, Nat.le_of_ble_eq_true rfl⟩ (fun H locs hP hS _ _ => ?_)
              have hP : va_P D clA ((o, .inr (0, [.int t, .ref a1, .int bl, .int (nI L), .int (nI (TS fb L 0 ((sk fb L σ.1), σ.2)).1), .int ((TS fb L 0 ((sk fb L σ.1), σ.2)).2.1), .int ((TS fb L 0 ((sk fb L σ.1), σ.2)).2.2.1), .int eo, .ref a8, .ref a9, .ref a10, .int ud, .int (nI (TS fb L 0 ((sk fb L σ.1), σ.2)).2.2.2), .int 1, .int se, .ref a15])) :: (a8, .inl (k 0, 1798, .inl d)) :: (a9, .inl (k 0, 1798, .inl (emS (emS dr 1 (TS fb L 0 ((sk fb L σ.1), σ.2))) 0 (TS fb L 0 ((sk fb L σ.1), σ.2))))) :: (a1, .inl (k 0, 900, .inl fb)) :: wr) H := hP
              exact w_vret C (by simp only [px, ifp_t b_4, ifp_f c_16, ifp_f (show ¬ dig _ from b_82), ifp_t b_95]; simp only [emS, ifp_t (show (TS fb L 0 (sk fb L σ.1, σ.2)).2.1 = 0 by rw [TS_er]; exact b_4)] at hP; exact hP) hS dX5_factor_165
            · exact absurd c_149 (by decide)
          · exact absurd c_131 (by decide)
      · have b_82 := bI_nz c_82
        refine lv_iconst (v := (-1)) hx hb dX5_factor_85 rfl ?_
        refine lv_goto (tgt := 129) hx hb dX5_factor_86 (by decide) ?_
        refine lv_istore_n (lv' := [(2, .int (-1)), (1, .int (byt fb L (sk fb L σ.1))), (0, .ref o)]) hx hb dX5_factor_129 rfl hl (by decide) rfl (fun ls hl => ?_)
        refine lv_iload_n hx hb dX5_factor_130 rfl (lv_at hl 0 rfl) ?_
        refine lv_if_ge (tgt := 145) hx hb dX5_factor_131 (by decide) (fun c_131 => ?_) (fun c_131 => ?_)
        · exact absurd c_131 (by decide)
        · refine lv_aload_n hx hb dX5_factor_134 rfl (lv_at hl 2 rfl) ?_
          refine lv_iconst (v := 0) hx hb dX5_factor_135 rfl ?_
          refine lv_sipush (v := 9999) hx hb dX5_factor_136 rfl ?_
          refine w_callV (As := [.int 0, .int 9999]) (rest := []) C (m_number l D k o a1 a8 a9 a10 a15 t bl eo ud 1 se wr d dr fb L hL ((sk fb L σ.1), σ.2) A (va_D_of hD rfl) hoks 0 9999) (cwV 2 hts (lw_V q1768 q1770 qs38 q76 q1771) rfl rfl rfl (by decide +kernel) ⟨Nat.le_of_ble_eq_true rfl, Nat.le_of_ble_eq_true rfl⟩) hK (va_recv hK hP (ci := 0) (q0 := 0) rfl rfl) hP hS (fun _ h => h) rfl hl.1 rfl (Nat.le_of_ble_eq_true rfl) dX5_factor_139 ⟨Nat.le_of_ble_eq_true rfl, Nat.le_of_ble_eq_true rfl⟩ (fun H locs hP hS _ _ => ?_)
          have hP : va_P D clA ((o, .inr (0, [.int t, .ref a1, .int bl, .int (nI L), .int (nI (nmS fb L 0 9999 ((sk fb L σ.1), σ.2)).2.1), .int ((nmS fb L 0 9999 ((sk fb L σ.1), σ.2)).2.2.1), .int ((nmS fb L 0 9999 ((sk fb L σ.1), σ.2)).2.2.2.1), .int eo, .ref a8, .ref a9, .ref a10, .int ud, .int (nI (nmS fb L 0 9999 ((sk fb L σ.1), σ.2)).2.2.2.2), .int 1, .int se, .ref a15])) :: (a8, .inl (k 0, 1798, .inl d)) :: (a9, .inl (k 0, 1798, .inl dr)) :: (a1, .inl (k 0, 900, .inl fb)) :: wr) H := hP
          refine lv_goto (tgt := 146) hx hb dX5_factor_142 (by decide) ?_
          refine lv_istore_n (lv' := [(3, .int ((nmS fb L 0 9999 ((sk fb L σ.1), σ.2)).1)), (2, .int (-1)), (1, .int (byt fb L (sk fb L σ.1))), (0, .ref o)]) hx hb dX5_factor_146 rfl hl (by decide) rfl (fun ls hl => ?_)
          refine lv_aload_n hx hb dX5_factor_147 rfl (lv_at hl 3 rfl) ?_
          refine lv_iload_n hx hb dX5_factor_148 rfl (lv_at hl 1 rfl) ?_
          refine lv_if_ge (tgt := 156) hx hb dX5_factor_149 (by decide) (fun c_149 => ?_) (fun c_149 => ?_)
          · exact absurd c_149 (by decide)
          · refine lv_iconst (v := 0) hx hb dX5_factor_152 rfl ?_
            refine lv_goto (tgt := 157) hx hb dX5_factor_153 (by decide) ?_
            refine w_callV (As := [.int 0]) (rest := []) C (m_emit l D k o a1 a8 a9 a10 a15 t bl eo ud 1 se wr d dr fb L hL ((nmS fb L 0 9999 ((sk fb L σ.1), σ.2)).2) A (va_D_of hD rfl) (okS_nm hL hoks) 0 (fun z => ⟨c1, by omega⟩)) (cwV 1 hts (lw_V q1823 q1825 qs47 q76 q1826) rfl rfl rfl (by decide +kernel) ⟨Nat.le_of_ble_eq_true rfl, Nat.le_of_ble_eq_true rfl⟩) hK (va_recv hK hP (ci := 0) (q0 := 0) rfl rfl) hP hS (fun _ h => h) rfl hl.1 rfl (Nat.le_of_ble_eq_true rfl) dX5_factor_157 ⟨Nat.le_of_ble_eq_true rfl, Nat.le_of_ble_eq_true rfl⟩ (fun H locs hP hS _ _ => ?_)
            have hP : va_P D clA ((o, .inr (0, [.int t, .ref a1, .int bl, .int (nI L), .int (nI (nmS fb L 0 9999 ((sk fb L σ.1), σ.2)).2.1), .int ((nmS fb L 0 9999 ((sk fb L σ.1), σ.2)).2.2.1), .int ((nmS fb L 0 9999 ((sk fb L σ.1), σ.2)).2.2.2.1), .int eo, .ref a8, .ref a9, .ref a10, .int ud, .int (nI (nmS fb L 0 9999 ((sk fb L σ.1), σ.2)).2.2.2.2), .int 1, .int se, .ref a15])) :: (a8, .inl (k 0, 1798, .inl d)) :: (a9, .inl (k 0, 1798, .inl (emS dr 0 ((nmS fb L 0 9999 ((sk fb L σ.1), σ.2)).2)))) :: (a1, .inl (k 0, 900, .inl fb)) :: wr) H := hP
            refine lv_aload_n hx hb dX5_factor_160 rfl (lv_at hl 3 rfl) ?_
            refine lv_iload_n hx hb dX5_factor_161 rfl (lv_at hl 0 rfl) ?_
            refine w_callV (As := [.int ((nmS fb L 0 9999 ((sk fb L σ.1), σ.2)).1)]) (rest := []) C (m_emit l D k o a1 a8 a9 a10 a15 t bl eo ud 1 se wr d (emS dr 0 ((nmS fb L 0 9999 ((sk fb L σ.1), σ.2)).2)) fb L hL ((nmS fb L 0 9999 ((sk fb L σ.1), σ.2)).2) A (va_D_of hD rfl) (okS_nm hL hoks) ((nmS fb L 0 9999 ((sk fb L σ.1), σ.2)).1) (fun z => by simp only [emS, ifp_t z]; have g1 := (nm_fwd hoks z).2.1; have g2 := (okS_nm (fb := fb) (lo := 0) (hi := 9999) hL hoks).1 z; have g1 : sk fb L σ.1 < _ := g1; exact ⟨(em1_n (by omega)).1, by rw [(em1_n (dr := dr) (v := 0) (by omega)).2]; omega⟩)) (cwV 1 hts (lw_V q1823 q1825 qs47 q76 q1826) rfl rfl rfl (by decide +kernel) ⟨Nat.le_of_ble_eq_true rfl, Nat.le_of_ble_eq_true rfl⟩) hK (va_recv hK hP (ci := 0) (q0 := 0) rfl rfl) hP hS (fun _ h => h) rfl hl.1 rfl (Nat.le_of_ble_eq_true rfl) dX5_factor_162 ⟨Nat.le_of_ble_eq_true rfl, Nat.le_of_ble_eq_true rfl⟩ (fun H locs hP hS _ _ => ?_)
            have hP : va_P D clA ((o, .inr (0, [.int t, .ref a1, .int bl, .int (nI L), .int (nI (nmS fb L 0 9999 ((sk fb L σ.1), σ.2)).2.1), .int ((nmS fb L 0 9999 ((sk fb L σ.1), σ.2)).2.2.1), .int ((nmS fb L 0 9999 ((sk fb L σ.1), σ.2)).2.2.2.1), .int eo, .ref a8, .ref a9, .ref a10, .int ud, .int (nI (nmS fb L 0 9999 ((sk fb L σ.1), σ.2)).2.2.2.2), .int 1, .int se, .ref a15])) :: (a8, .inl (k 0, 1798, .inl d)) :: (a9, .inl (k 0, 1798, .inl (emS (emS dr 0 ((nmS fb L 0 9999 ((sk fb L σ.1), σ.2)).2)) ((nmS fb L 0 9999 ((sk fb L σ.1), σ.2)).1) ((nmS fb L 0 9999 ((sk fb L σ.1), σ.2)).2)))) :: (a1, .inl (k 0, 900, .inl fb)) :: wr) H := hP
            exact w_vret C (by first | (simp only [px, ifp_t b_4, ifp_f c_16, ifp_t (show dig _ from b_82)]; rw [← lit_em]; exact hP) | (simp only [px, ifp_t b_4, ifp_f c_16, ifp_f (show ¬ dig _ from b_82), ifp_f b_95, ifp_f b_108, ifp_f b_121]; rw [← lit_em]; exact hP)) hS dX5_factor_165
    · have hlt := byt_lt c_16 (by decide)
      have hok1 := okS_s1 hL hok c_16 (by decide)
      have q := px_ok (fb := fb) hL f 2 2 _ hok1 (fun _ => by show 3 * (L - (sk fb L σ.1 + 1)) + 3 ≤ f; omega)
      refine lv_aload_n hx hb dX5_factor_19 rfl (lv_at hl 1 rfl) ?_
      refine va_get hx hb hts in_X5 hown hK hP 0 rfl rfl 13 (by decide) (hts _ q1675) (fun _ h => h) rfl dX5_factor_20 ?_
      refine lv_iconst (v := 4) hx hb dX5_factor_23 rfl ?_
      refine lv_icmp_ne (tgt := 37) hx hb dX5_factor_24 (by decide) (fun c_24 => ?_) (fun c_24 => ?_)
      · refine lv_aload_n hx hb dX5_factor_37 rfl (lv_at hl 1 rfl) ?_
        refine lv_dup hx hb dX5_factor_38 rfl ?_
        refine va_get hx hb hts in_X5 hown hK hP 0 rfl rfl 4 (by decide) (hts _ q1666) (fun _ h => h) rfl dX5_factor_39 ?_
        refine lv_iconst (v := 1) hx hb dX5_factor_42 rfl ?_
        refine lv_iadd hx hb dX5_factor_43 ?_
        refine w_topi (y := nI ((sk fb L σ.1) + 1)) (nI_add (sk fb L σ.1) 1) ?_
        refine va_put hx hb hts in_X5 tyX5 tyX5_ok nmX5 hown hK hP (va_D_of hD rfl) hS 0 rfl rfl 4 (by decide) (hts _ q1666) (fun _ h => h) rfl rfl rfl rfl (Nat.le_of_ble_eq_true rfl) dX5_factor_44 (fun H locs hP _ hS => ?_)
        have hP : va_P D clA ((o, .inr (0, [.int t, .ref a1, .int bl, .int (nI L), .int (nI ((sk fb L σ.1) + 1)), .int σ.2.1, .int σ.2.2.1, .int eo, .ref a8, .ref a9, .ref a10, .int ud, .int (nI σ.2.2.2), .int 1, .int se, .ref a15])) :: (a8, .inl (k 0, 1798, .inl d)) :: (a9, .inl (k 0, 1798, .inl dr)) :: (a1, .inl (k 0, 900, .inl fb)) :: wr) H := hP
        refine lv_aload_n hx hb dX5_factor_47 rfl (lv_at hl 1 rfl) ?_
        refine lv_dup hx hb dX5_factor_48 rfl ?_
        refine va_get hx hb hts in_X5 hown hK hP 0 rfl rfl 13 (by decide) (hts _ q1675) (fun _ h => h) rfl dX5_factor_49 ?_
        refine lv_iconst (v := 1) hx hb dX5_factor_52 rfl ?_
        refine lv_iadd hx hb dX5_factor_53 ?_
        refine w_topi (y := 2) (by decide) ?_
        refine va_put hx hb hts in_X5 tyX5 tyX5_ok nmX5 hown hK hP (va_D_of hD rfl) hS 0 rfl rfl 13 (by decide) (hts _ q1675) (fun _ h => h) rfl rfl rfl rfl (Nat.le_of_ble_eq_true rfl) dX5_factor_54 (fun H locs hP _ hS => ?_)
        have hP : va_P D clA ((o, .inr (0, [.int t, .ref a1, .int bl, .int (nI L), .int (nI ((sk fb L σ.1) + 1)), .int σ.2.1, .int σ.2.2.1, .int eo, .ref a8, .ref a9, .ref a10, .int ud, .int (nI σ.2.2.2), .int 2, .int se, .ref a15])) :: (a8, .inl (k 0, 1798, .inl d)) :: (a9, .inl (k 0, 1798, .inl dr)) :: (a1, .inl (k 0, 900, .inl fb)) :: wr) H := hP
        refine lv_aload_n hx hb dX5_factor_57 rfl (lv_at hl 1 rfl) ?_
        refine x_callV (As := []) (rest := []) C (m_sum_2 l D k o a1 a8 a9 a10 a15 t bl eo ud se wr d dr fb L hL (((sk fb L σ.1) + 1), σ.2) A (va_D_of hD rfl) hok1 sA sV f (fun _ => by show 3 * (L - (sk fb L σ.1 + 1)) + 3 ≤ f; omega) (fun _ => ⟨c1, by show 2 * dN dr 5 + 3 * (L - (sk fb L σ.1 + 1)) + 1 ≤ 3000; omega⟩)) (cwV 0 hts (lw_V q1804 q1806 qs43 q76 q1807) rfl rfl rfl (by decide +kernel) ⟨Nat.le_of_ble_eq_true rfl, Nat.le_of_ble_eq_true rfl⟩) hK (va_recv hK hP (ci := 0) (q0 := 0) rfl rfl) mv2_MS hP (fun U hU hW => MS_to hX hS (fun _ h => h) U hU hW) hS (fun _ h => h) rfl hl.1 rfl (Nat.le_of_ble_eq_true rfl) dX5_factor_58 ⟨Nat.le_of_ble_eq_true rfl, Nat.le_of_ble_eq_true rfl⟩ (fun H locs hP hS _ _ => ?_)
        have hP : va_P D clA ((o, .inr (0, [.int t, .ref a1, .int bl, .int (nI L), .int (nI (px fb L f 2 2 (((sk fb L σ.1) + 1), σ.2)).1.1), .int ((px fb L f 2 2 (((sk fb L σ.1) + 1), σ.2)).1.2.1), .int ((px fb L f 2 2 (((sk fb L σ.1) + 1), σ.2)).1.2.2.1), .int eo, .ref a8, .ref a9, .ref a10, .int ud, .int (nI (px fb L f 2 2 (((sk fb L σ.1) + 1), σ.2)).1.2.2.2), .int 2, .int se, .ref a15])) :: (a8, .inl (k 0, 1798, .inl d)) :: (a9, .inl (k 0, 1798, .inl (emL dr (px fb L f 2 2 (((sk fb L σ.1) + 1), σ.2)).2))) :: (a1, .inl (k 0, 900, .inl fb)) :: wr) H := hP
        refine lv_aload_n hx hb dX5_factor_61 rfl (lv_at hl 1 rfl) ?_
        refine lv_bipush (v := 41) hx hb dX5_factor_62 rfl ?_
        refine w_callV (As := [.int 41]) (rest := []) C (m_expect l D k o a1 a8 a9 a10 a15 t bl eo ud 2 se wr d (emL dr (px fb L f 2 2 (((sk fb L σ.1) + 1), σ.2)).2) fb L hL ((px fb L f 2 2 (((sk fb L σ.1) + 1), σ.2)).1) A (va_D_of hD rfl) q.1 41) (cwV 1 hts (lw_V q1816 q1818 qs46 q76 q1819) rfl rfl rfl (by decide +kernel) ⟨Nat.le_of_ble_eq_true rfl, Nat.le_of_ble_eq_true rfl⟩) hK (va_recv hK hP (ci := 0) (q0 := 0) rfl rfl) hP hS (fun _ h => h) rfl hl.1 rfl (Nat.le_of_ble_eq_true rfl) dX5_factor_64 ⟨Nat.le_of_ble_eq_true rfl, Nat.le_of_ble_eq_true rfl⟩ (fun H locs hP hS _ _ => ?_)
        have hP : va_P D clA ((o, .inr (0, [.int t, .ref a1, .int bl, .int (nI L), .int (nI (exS fb L 41 ((px fb L f 2 2 (((sk fb L σ.1) + 1), σ.2)).1)).1), .int ((exS fb L 41 ((px fb L f 2 2 (((sk fb L σ.1) + 1), σ.2)).1)).2.1), .int ((exS fb L 41 ((px fb L f 2 2 (((sk fb L σ.1) + 1), σ.2)).1)).2.2.1), .int eo, .ref a8, .ref a9, .ref a10, .int ud, .int (nI (exS fb L 41 ((px fb L f 2 2 (((sk fb L σ.1) + 1), σ.2)).1)).2.2.2), .int 2, .int se, .ref a15])) :: (a8, .inl (k 0, 1798, .inl d)) :: (a9, .inl (k 0, 1798, .inl (emL dr (px fb L f 2 2 (((sk fb L σ.1) + 1), σ.2)).2))) :: (a1, .inl (k 0, 900, .inl fb)) :: wr) H := hP
        refine lv_aload_n hx hb dX5_factor_67 rfl (lv_at hl 1 rfl) ?_
        refine lv_dup hx hb dX5_factor_68 rfl ?_
        refine va_get hx hb hts in_X5 hown hK hP 0 rfl rfl 13 (by decide) (hts _ q1675) (fun _ h => h) rfl dX5_factor_69 ?_
        refine lv_iconst (v := 1) hx hb dX5_factor_72 rfl ?_
        refine lv_isub hx hb dX5_factor_73 ?_
        refine w_topi (y := 1) (by decide) ?_
        refine va_put hx hb hts in_X5 tyX5 tyX5_ok nmX5 hown hK hP (va_D_of hD rfl) hS 0 rfl rfl 13 (by decide) (hts _ q1675) (fun _ h => h) rfl rfl rfl rfl (Nat.le_of_ble_eq_true rfl) dX5_factor_74 (fun H locs hP _ hS => ?_)
        have hP : va_P D clA ((o, .inr (0, [.int t, .ref a1, .int bl, .int (nI L), .int (nI (exS fb L 41 ((px fb L f 2 2 (((sk fb L σ.1) + 1), σ.2)).1)).1), .int ((exS fb L 41 ((px fb L f 2 2 (((sk fb L σ.1) + 1), σ.2)).1)).2.1), .int ((exS fb L 41 ((px fb L f 2 2 (((sk fb L σ.1) + 1), σ.2)).1)).2.2.1), .int eo, .ref a8, .ref a9, .ref a10, .int ud, .int (nI (exS fb L 41 ((px fb L f 2 2 (((sk fb L σ.1) + 1), σ.2)).1)).2.2.2), .int 1, .int se, .ref a15])) :: (a8, .inl (k 0, 1798, .inl d)) :: (a9, .inl (k 0, 1798, .inl (emL dr (px fb L f 2 2 (((sk fb L σ.1) + 1), σ.2)).2))) :: (a1, .inl (k 0, 900, .inl fb)) :: wr) H := hP
        exact w_vret C (by simp only [px, ifp_t b_4, ifp_t c_16, ifp_F, Nat.reduceEqDiff]; exact hP) hS dX5_factor_77
      · exact absurd c_24 (by decide)
  · have b_4 := bI_0.mp c_4
    exact w_vret C (by rw [px_bad b_4]; exact hP) hS dX5_factor_7
set_option maxHeartbeats 16000000 in
theorem m_term_1 (l : Launch) (D : va_G) (k : Nat → ClassId) (o a1 a8 a9 a10 a15 : Nat) (t bl eo ud se : Int32) (wr : va_W) (d dr fb : Nat → Int32) (L : Nat) (hL : L ≤ 900) (σ : PS) (A : Nat → Prop) (hD : va_D A ((o, .inr (0, [.int t, .ref a1, .int bl, .int (nI L), .int (nI σ.1), .int σ.2.1, .int σ.2.2.1, .int eo, .ref a8, .ref a9, .ref a10, .int ud, .int (nI σ.2.2.2), .int 1, .int se, .ref a15])) :: (a8, .inl (k 0, 1798, .inl d)) :: (a9, .inl (k 0, 1798, .inl dr)) :: (a1, .inl (k 0, 900, .inl fb)) :: wr)) (hok : okS L σ) (sA sV : Nat → Nat) (f : Nat) (hf : σ.2.1 = 0 → nee 1 (L - σ.1) ≤ f) (h5 : σ.2.1 = 0 → dr 5 = nI (dN dr 5) ∧ 2 * dN dr 5 + 3 * (L - σ.1) + 1 ≤ 3000) : xM l D k yX5_term cX5_term 2 none 15 325 [.ref o] ((o, .inr (0, [.int t, .ref a1, .int bl, .int (nI L), .int (nI σ.1), .int σ.2.1, .int σ.2.2.1, .int eo, .ref a8, .ref a9, .ref a10, .int ud, .int (nI σ.2.2.2), .int 1, .int se, .ref a15])) :: (a8, .inl (k 0, 1798, .inl d)) :: (a9, .inl (k 0, 1798, .inl dr)) :: (a1, .inl (k 0, 900, .inl fb)) :: wr) (MS A sA sV) (none) ((o, .inr (0, [.int t, .ref a1, .int bl, .int (nI L), .int (nI (px fb L f 1 1 σ).1.1), .int ((px fb L f 1 1 σ).1.2.1), .int ((px fb L f 1 1 σ).1.2.2.1), .int eo, .ref a8, .ref a9, .ref a10, .int ud, .int (nI (px fb L f 1 1 σ).1.2.2.2), .int 1, .int se, .ref a15])) :: (a8, .inl (k 0, 1798, .inl d)) :: (a9, .inl (k 0, 1798, .inl (emL dr (px fb L f 1 1 σ).2))) :: (a1, .inl (k 0, 900, .inl fb)) :: wr) A := by
  refine xM_of (by decide) (Nat.le_of_ble_eq_true rfl) ?_
  intro p e s m below meth c ls C hK hX hP hS hl
  obtain ⟨hE, hT⟩ := id hX
  obtain ⟨hx, hb, hr, hml, hown, hts, hlk⟩ := id C
  have hl : lv_has ls 2 [(0, .ref o)] := hl
  rcases Classical.em (σ.2.1 = 0) with hg0 | hg0
  · have hp0 := hok.1 hg0
    have hf := hf hg0
    obtain ⟨c1, c2⟩ := h5 hg0
    obtain ⟨f, rfl⟩ : ∃ g, f = g + 1 := ⟨f - 1, by have hf : 3 * (L - σ.1) + 2 ≤ f := hf; omega⟩
    have hf : 3 * (L - σ.1) + 2 ≤ f + 1 := hf
    have q0 := px_ok (fb := fb) hL f 0 1 σ hok (fun _ => by show 3 * (L - σ.1) + 1 ≤ f; omega)
    refine lv_aload_n hx hb dX5_term_0 rfl (lv_at hl 0 rfl) ?_
    refine x_callV (As := []) (rest := []) C (m_factor_1 l D k o a1 a8 a9 a10 a15 t bl eo ud se wr d dr fb L hL σ A (va_D_of hD rfl) hok sA sV f (fun _ => by show 3 * (L - σ.1) + 1 ≤ f; omega) h5) (cwV 0 hts (lw_V q1812 q1814 qs45 q76 q1815) rfl rfl rfl (by decide +kernel) ⟨Nat.le_of_ble_eq_true rfl, Nat.le_of_ble_eq_true rfl⟩) hK (va_recv hK hP (ci := 0) (q0 := 0) rfl rfl) mv2_MS hP (fun U hU hW => MS_to hX hS (fun _ h => h) U hU hW) hS (fun _ h => h) rfl hl.1 rfl (Nat.le_of_ble_eq_true rfl) dX5_term_1 ⟨Nat.le_of_ble_eq_true rfl, Nat.le_of_ble_eq_true rfl⟩ (fun H locs hP hS _ _ => ?_)
    have hP : va_P D clA ((o, .inr (0, [.int t, .ref a1, .int bl, .int (nI L), .int (nI (px fb L f 0 1 σ).1.1), .int ((px fb L f 0 1 σ).1.2.1), .int ((px fb L f 0 1 σ).1.2.2.1), .int eo, .ref a8, .ref a9, .ref a10, .int ud, .int (nI (px fb L f 0 1 σ).1.2.2.2), .int 1, .int se, .ref a15])) :: (a8, .inl (k 0, 1798, .inl d)) :: (a9, .inl (k 0, 1798, .inl (emL dr (px fb L f 0 1 σ).2))) :: (a1, .inl (k 0, 900, .inl fb)) :: wr) H := hP
    have loop_4 : ∀ (n : Nat) (τ : PS) (cs : List Int32), (okS L τ) → (τ.2.1 = 0 → 3 * (L - τ.1) + 1 ≤ n) → (τ.2.1 = 0 → 2 * (dN dr 5 + cs.length) + 3 * (L - τ.1) ≤ 3000) → ((px fb L n 3 1 τ).1 = (px fb L (f + 1) 1 1 σ).1) → (cs ++ (px fb L n 3 1 τ).2 = (px fb L (f + 1) 1 1 σ).2) → (1 ≤ n) → ∀ (H : Heap) (locs : List Loc), va_P D clA ((o, .inr (0, [.int t, .ref a1, .int bl, .int (nI L), .int (nI τ.1), .int τ.2.1, .int τ.2.2.1, .int eo, .ref a8, .ref a9, .ref a10, .int ud, .int (nI τ.2.2.2), .int 1, .int se, .ref a15])) :: (a8, .inl (k 0, 1798, .inl d)) :: (a9, .inl (k 0, 1798, .inl (emL dr cs))) :: (a1, .inl (k 0, 900, .inl fb)) :: wr) H → va_S A s.heap H locs → ∀ (ls : Array Slot), lv_has ls 2 [(0, .ref o)] → W p l e (Rm 15 325 0 0) s m ([.ref o] : List Value).toArray below meth c H locs 0 0 (MQ below (wQ D (none) ((o, .inr (0, [.int t, .ref a1, .int bl, .int (nI L), .int (nI (px fb L (f + 1) 1 1 σ).1.1), .int ((px fb L (f + 1) 1 1 σ).1.2.1), .int ((px fb L (f + 1) 1 1 σ).1.2.2.1), .int eo, .ref a8, .ref a9, .ref a10, .int ud, .int (nI (px fb L (f + 1) 1 1 σ).1.2.2.2), .int 1, .int se, .ref a15])) :: (a8, .inl (k 0, 1798, .inl d)) :: (a9, .inl (k 0, 1798, .inl (emL dr (px fb L (f + 1) 1 1 σ).2))) :: (a1, .inl (k 0, 900, .inl fb)) :: wr) A) ([.ref o] : List Value).toArray s 0 0 A) (F0 m 4 ls []) := by
      intro n
      induction n with
      | zero =>
        intro τ cs ok2 hf2 hr2 he1 he2 hn
        exact absurd hn (by omega)
      | succ n ih_4 =>
        intro τ cs ok2 hf2 hr2 he1 he2 hn H locs hP hS ls hl
        refine lv_aload_n hx hb dX5_term_4 rfl (lv_at hl 0 rfl) ?_
        refine r_callV (As := []) (rest := []) C (m_isGood l D k o τ.2.1 ([.int t, .ref a1, .int bl, .int (nI L), .int (nI τ.1), .int τ.2.1, .int τ.2.2.1, .int eo, .ref a8, .ref a9, .ref a10, .int ud, .int (nI τ.2.2.2), .int 1, .int se, .ref a15] : List Value) rfl) (cwV 0 hts (lw_V q1731 q1733 qs32 q76 q1734) rfl rfl rfl (by decide +kernel) ⟨Nat.le_of_ble_eq_true rfl, Nat.le_of_ble_eq_true rfl⟩) hK (va_recv hK hP (ci := 0) (q0 := 0) rfl rfl) (hP.sub [0] rfl) rfl hl.1 rfl (Nat.le_of_ble_eq_true rfl) dX5_term_5 ⟨Nat.le_of_ble_eq_true rfl, Nat.le_of_ble_eq_true rfl⟩ ?_
        refine lv_if_eq (tgt := 74) hx hb dX5_term_8 (by decide) (fun c_8 => ?_) (fun c_8 => ?_)
        · have b_8 := bI_0.mp c_8
          exact w_vret C (by rw [px_bad b_8] at he1 he2; rw [List.append_nil] at he2; rw [← he1, ← he2]; exact hP) hS dX5_term_74
        · have b_8 := bI_nz c_8
          have hp := ok2.1 b_8
          have hs := sk_in (fb := fb) hp
          have hf2 := hf2 b_8
          have hr2 := hr2 b_8
          obtain ⟨d1, d2⟩ := room5 c1 hr2
          have hss : sk fb L (sk fb L τ.1) = sk fb L τ.1 := sk_sk hp
          refine lv_aload_n hx hb dX5_term_11 rfl (lv_at hl 0 rfl) ?_
          refine w_callV (As := []) (rest := []) C (m_next l D k o a1 a8 a9 a10 a15 t bl τ.2.1 τ.2.2.1 eo ud (nI τ.2.2.2) 1 se wr d (emL dr cs) fb L hL τ.1 A (va_D_of hD rfl) hp) (cwV 0 hts (lw_V q1735 q1737 qs33 q76 q1738) rfl rfl rfl (by decide +kernel) ⟨Nat.le_of_ble_eq_true rfl, Nat.le_of_ble_eq_true rfl⟩) hK (va_recv hK hP (ci := 0) (q0 := 0) rfl rfl) hP hS (fun _ h => h) rfl hl.1 rfl (Nat.le_of_ble_eq_true rfl) dX5_term_12 ⟨Nat.le_of_ble_eq_true rfl, Nat.le_of_ble_eq_true rfl⟩ (fun H locs hP hS _ _ => ?_)
          have hP : va_P D clA ((o, .inr (0, [.int t, .ref a1, .int bl, .int (nI L), .int (nI (sk fb L τ.1)), .int τ.2.1, .int τ.2.2.1, .int eo, .ref a8, .ref a9, .ref a10, .int ud, .int (nI τ.2.2.2), .int 1, .int se, .ref a15])) :: (a8, .inl (k 0, 1798, .inl d)) :: (a9, .inl (k 0, 1798, .inl (emL dr cs))) :: (a1, .inl (k 0, 900, .inl fb)) :: wr) H := hP
          refine lv_bipush (v := 42) hx hb dX5_term_15 rfl ?_
          refine lv_icmp_eq (tgt := 29) hx hb dX5_term_17 (by decide) (fun c_17 => ?_) (fun c_17 => ?_)
          · have ho : byt fb L (sk fb L τ.1) = 42 ∨ byt fb L (sk fb L τ.1) = 47 := Or.inl c_17
            have hlt : sk fb L τ.1 < L := ho.elim (fun e => byt_lt e (by decide)) (fun e => byt_lt e (by decide))
            have ok3 : okS L (sk fb L τ.1 + 1, τ.2) := ho.elim (fun e => okS_s1 hL ok2 e (by decide)) (fun e => okS_s1 hL ok2 e (by decide))
            have q := px_ok (fb := fb) hL n 0 1 (sk fb L τ.1 + 1, τ.2) ok3 (fun _ => by show 3 * (L - (sk fb L τ.1 + 1)) + 1 ≤ n; omega)
            refine lv_aload_n hx hb dX5_term_29 rfl (lv_at hl 0 rfl) ?_
            refine w_callV (As := []) (rest := []) C (m_next l D k o a1 a8 a9 a10 a15 t bl τ.2.1 τ.2.2.1 eo ud (nI τ.2.2.2) 1 se wr d (emL dr cs) fb L hL (sk fb L τ.1) A (va_D_of hD rfl) hs.2) (cwV 0 hts (lw_V q1735 q1737 qs33 q76 q1738) rfl rfl rfl (by decide +kernel) ⟨Nat.le_of_ble_eq_true rfl, Nat.le_of_ble_eq_true rfl⟩) hK (va_recv hK hP (ci := 0) (q0 := 0) rfl rfl) hP hS (fun _ h => h) rfl hl.1 rfl (Nat.le_of_ble_eq_true rfl) dX5_term_30 ⟨Nat.le_of_ble_eq_true rfl, Nat.le_of_ble_eq_true rfl⟩ (fun H locs hP hS _ _ => ?_)
            rw [hss] at hP
            rw [hss]
            have hP : va_P D clA ((o, .inr (0, [.int t, .ref a1, .int bl, .int (nI L), .int (nI (sk fb L τ.1)), .int τ.2.1, .int τ.2.2.1, .int eo, .ref a8, .ref a9, .ref a10, .int ud, .int (nI τ.2.2.2), .int 1, .int se, .ref a15])) :: (a8, .inl (k 0, 1798, .inl d)) :: (a9, .inl (k 0, 1798, .inl (emL dr cs))) :: (a1, .inl (k 0, 900, .inl fb)) :: wr) H := hP
            refine lv_bipush (v := 42) hx hb dX5_term_33 rfl ?_
            refine lv_icmp_ne (tgt := 42) hx hb dX5_term_35 (by decide) (fun c_35 => ?_) (fun c_35 => ?_)
            · exact absurd c_17 c_35
            · refine lv_iconst (v := 1) hx hb dX5_term_38 rfl ?_
              refine lv_goto (tgt := 43) hx hb dX5_term_39 (by decide) ?_
              refine lv_istore_n (lv' := [(1, .int 1), (0, .ref o)]) hx hb dX5_term_43 rfl hl (by decide) rfl (fun ls hl => ?_)
              refine lv_aload_n hx hb dX5_term_44 rfl (lv_at hl 1 rfl) ?_
              refine lv_dup hx hb dX5_term_45 rfl ?_
              refine va_get hx hb hts in_X5 hown hK hP 0 rfl rfl 4 (by decide) (hts _ q1666) (fun _ h => h) rfl dX5_term_46 ?_
              refine lv_iconst (v := 1) hx hb dX5_term_49 rfl ?_
              refine lv_iadd hx hb dX5_term_50 ?_
              refine w_topi (y := nI ((sk fb L τ.1) + 1)) (nI_add (sk fb L τ.1) 1) ?_
              refine va_put hx hb hts in_X5 tyX5 tyX5_ok nmX5 hown hK hP (va_D_of hD rfl) hS 0 rfl rfl 4 (by decide) (hts _ q1666) (fun _ h => h) rfl rfl rfl rfl (Nat.le_of_ble_eq_true rfl) dX5_term_51 (fun H locs hP _ hS => ?_)
              have hP : va_P D clA ((o, .inr (0, [.int t, .ref a1, .int bl, .int (nI L), .int (nI ((sk fb L τ.1) + 1)), .int τ.2.1, .int τ.2.2.1, .int eo, .ref a8, .ref a9, .ref a10, .int ud, .int (nI τ.2.2.2), .int 1, .int se, .ref a15])) :: (a8, .inl (k 0, 1798, .inl d)) :: (a9, .inl (k 0, 1798, .inl (emL dr cs))) :: (a1, .inl (k 0, 900, .inl fb)) :: wr) H := hP
              refine lv_aload_n hx hb dX5_term_54 rfl (lv_at hl 1 rfl) ?_
              refine x_callV (As := []) (rest := []) C (m_factor_1 l D k o a1 a8 a9 a10 a15 t bl eo ud se wr d (emL dr cs) fb L hL (((sk fb L τ.1) + 1), τ.2) A (va_D_of hD rfl) ok3 sA sV n (fun _ => by show 3 * (L - (sk fb L τ.1 + 1)) + 1 ≤ n; omega) (fun _ => ⟨d1, by show 2 * dN (emL dr cs) 5 + 3 * (L - (sk fb L τ.1 + 1)) + 1 ≤ 3000; omega⟩)) (cwV 0 hts (lw_V q1812 q1814 qs45 q76 q1815) rfl rfl rfl (by decide +kernel) ⟨Nat.le_of_ble_eq_true rfl, Nat.le_of_ble_eq_true rfl⟩) hK (va_recv hK hP (ci := 0) (q0 := 0) rfl rfl) mv2_MS hP (fun U hU hW => MS_to hX hS (fun _ h => h) U hU hW) hS (fun _ h => h) rfl hl.1 rfl (Nat.le_of_ble_eq_true rfl) dX5_term_55 ⟨Nat.le_of_ble_eq_true rfl, Nat.le_of_ble_eq_true rfl⟩ (fun H locs hP hS _ _ => ?_)
              have hP : va_P D clA ((o, .inr (0, [.int t, .ref a1, .int bl, .int (nI L), .int (nI (px fb L n 0 1 (((sk fb L τ.1) + 1), τ.2)).1.1), .int ((px fb L n 0 1 (((sk fb L τ.1) + 1), τ.2)).1.2.1), .int ((px fb L n 0 1 (((sk fb L τ.1) + 1), τ.2)).1.2.2.1), .int eo, .ref a8, .ref a9, .ref a10, .int ud, .int (nI (px fb L n 0 1 (((sk fb L τ.1) + 1), τ.2)).1.2.2.2), .int 1, .int se, .ref a15])) :: (a8, .inl (k 0, 1798, .inl d)) :: (a9, .inl (k 0, 1798, .inl (emL (emL dr cs) (px fb L n 0 1 (((sk fb L τ.1) + 1), τ.2)).2))) :: (a1, .inl (k 0, 900, .inl fb)) :: wr) H := hP
              refine lv_aload_n hx hb dX5_term_58 rfl (lv_at hl 1 rfl) ?_
              refine lv_iload_n hx hb dX5_term_59 rfl (lv_at hl 0 rfl) ?_
              refine lv_if_eq (tgt := 67) hx hb dX5_term_60 (by decide) (fun c_60 => ?_) (fun c_60 => ?_)
              · exact absurd c_60 (by decide)
              · refine lv_iconst (v := 4) hx hb dX5_term_63 rfl ?_
                refine lv_goto (tgt := 68) hx hb dX5_term_64 (by decide) ?_
                refine w_callV (As := [.int 4]) (rest := []) C (m_emit l D k o a1 a8 a9 a10 a15 t bl eo ud 1 se wr d (emL (emL dr cs) (px fb L n 0 1 (((sk fb L τ.1) + 1), τ.2)).2) fb L hL ((px fb L n 0 1 (((sk fb L τ.1) + 1), τ.2)).1) A (va_D_of hD rfl) q.1 4 (fun z => by obtain ⟨-, z2, z3, z4⟩ := q.2 z; have z2 : sk fb L τ.1 + 1 + 1 ≤ _ := z2; have z4 : _ ≤ 3 * (L - (sk fb L τ.1 + 1)) + 1 := z4; obtain ⟨y1, y2⟩ := emL_n (dr := emL dr cs) (px fb L n 0 1 (sk fb L τ.1 + 1, τ.2)).2 d1 (by omega); exact ⟨y1, by omega⟩)) (cwV 1 hts (lw_V q1823 q1825 qs47 q76 q1826) rfl rfl rfl (by decide +kernel) ⟨Nat.le_of_ble_eq_true rfl, Nat.le_of_ble_eq_true rfl⟩) hK (va_recv hK hP (ci := 0) (q0 := 0) rfl rfl) hP hS (fun _ h => h) rfl hl.1 rfl (Nat.le_of_ble_eq_true rfl) dX5_term_68 ⟨Nat.le_of_ble_eq_true rfl, Nat.le_of_ble_eq_true rfl⟩ (fun H locs hP hS _ _ => ?_)
                have hP : va_P D clA ((o, .inr (0, [.int t, .ref a1, .int bl, .int (nI L), .int (nI (px fb L n 0 1 (((sk fb L τ.1) + 1), τ.2)).1.1), .int ((px fb L n 0 1 (((sk fb L τ.1) + 1), τ.2)).1.2.1), .int ((px fb L n 0 1 (((sk fb L τ.1) + 1), τ.2)).1.2.2.1), .int eo, .ref a8, .ref a9, .ref a10, .int ud, .int (nI (px fb L n 0 1 (((sk fb L τ.1) + 1), τ.2)).1.2.2.2), .int 1, .int se, .ref a15])) :: (a8, .inl (k 0, 1798, .inl d)) :: (a9, .inl (k 0, 1798, .inl (emS (emL (emL dr cs) (px fb L n 0 1 (((sk fb L τ.1) + 1), τ.2)).2) 4 ((px fb L n 0 1 (((sk fb L τ.1) + 1), τ.2)).1)))) :: (a1, .inl (k 0, 900, .inl fb)) :: wr) H := hP
                refine lv_goto (tgt := 4) hx hb dX5_term_71 (by decide) ?_
                have hP : va_P D clA ((o, .inr (0, [.int t, .ref a1, .int bl, .int (nI L), .int (nI (px fb L n 0 1 (((sk fb L τ.1) + 1), τ.2)).1.1), .int ((px fb L n 0 1 (((sk fb L τ.1) + 1), τ.2)).1.2.1), .int ((px fb L n 0 1 (((sk fb L τ.1) + 1), τ.2)).1.2.2.1), .int eo, .ref a8, .ref a9, .ref a10, .int ud, .int (nI (px fb L n 0 1 (((sk fb L τ.1) + 1), τ.2)).1.2.2.2), .int 1, .int se, .ref a15])) :: (a8, .inl (k 0, 1798, .inl d)) :: (a9, .inl (k 0, 1798, .inl (emL dr (cs ++ ((px fb L n 0 1 (sk fb L τ.1 + 1, τ.2)).2 ++ ifp ((px fb L n 0 1 (sk fb L τ.1 + 1, τ.2)).1.2.1 = 0) [4] []))))) :: (a1, .inl (k 0, 900, .inl fb)) :: wr) H := by rw [emL_app, emL_app, ← emS_L]; exact hP
                simp only [px, ifp_t b_8, ifp_t ho, ifp_t c_17] at he1 he2
                exact ih_4 (px fb L n 0 1 (sk fb L τ.1 + 1, τ.2)).1 (cs ++ ((px fb L n 0 1 (sk fb L τ.1 + 1, τ.2)).2 ++ ifp ((px fb L n 0 1 (sk fb L τ.1 + 1, τ.2)).1.2.1 = 0) [4] [])) q.1 (fun z => by have z2 : sk fb L τ.1 + 1 + 1 ≤ _ := (q.2 z).2.1; show 3 * (L - (px fb L n 0 1 (sk fb L τ.1 + 1, τ.2)).1.1) + 1 ≤ n; omega) (fun z => by obtain ⟨-, z2, z3, z4⟩ := q.2 z; have z2 : sk fb L τ.1 + 1 + 1 ≤ _ := z2; have z4 : _ ≤ 3 * (L - (sk fb L τ.1 + 1)) + 1 := z4; rw [ifp_t z, List.length_append, List.length_append]; simp only [List.length_cons, List.length_nil]; omega) he1 (by rw [List.append_assoc]; exact he2) (by omega) _ _ hP hS ls (lv_sub hl [1] rfl)
          · refine lv_aload_n hx hb dX5_term_20 rfl (lv_at hl 0 rfl) ?_
            refine w_callV (As := []) (rest := []) C (m_next l D k o a1 a8 a9 a10 a15 t bl τ.2.1 τ.2.2.1 eo ud (nI τ.2.2.2) 1 se wr d (emL dr cs) fb L hL (sk fb L τ.1) A (va_D_of hD rfl) hs.2) (cwV 0 hts (lw_V q1735 q1737 qs33 q76 q1738) rfl rfl rfl (by decide +kernel) ⟨Nat.le_of_ble_eq_true rfl, Nat.le_of_ble_eq_true rfl⟩) hK (va_recv hK hP (ci := 0) (q0 := 0) rfl rfl) hP hS (fun _ h => h) rfl hl.1 rfl (Nat.le_of_ble_eq_true rfl) dX5_term_21 ⟨Nat.le_of_ble_eq_true rfl, Nat.le_of_ble_eq_true rfl⟩ (fun H locs hP hS _ _ => ?_)
            rw [hss] at hP
            rw [hss]
            have hP : va_P D clA ((o, .inr (0, [.int t, .ref a1, .int bl, .int (nI L), .int (nI (sk fb L τ.1)), .int τ.2.1, .int τ.2.2.1, .int eo, .ref a8, .ref a9, .ref a10, .int ud, .int (nI τ.2.2.2), .int 1, .int se, .ref a15])) :: (a8, .inl (k 0, 1798, .inl d)) :: (a9, .inl (k 0, 1798, .inl (emL dr cs))) :: (a1, .inl (k 0, 900, .inl fb)) :: wr) H := hP
            refine lv_bipush (v := 47) hx hb dX5_term_24 rfl ?_
            refine lv_icmp_ne (tgt := 74) hx hb dX5_term_26 (by decide) (fun c_26 => ?_) (fun c_26 => ?_)
            · exact w_vret C (by simp only [px, ifp_t b_8, ifp_f (show ¬ (byt fb L (sk fb L τ.1) = 42 ∨ byt fb L (sk fb L τ.1) = 47) from fun h => h.elim c_17 c_26)] at he1 he2; rw [List.append_nil] at he2; have e1 : (sk fb L τ.1, τ.2) = (px fb L (f + 1) 1 1 σ).1 := he1; have e2 : cs = (px fb L (f + 1) 1 1 σ).2 := he2; rw [← e1, ← e2]; exact hP) hS dX5_term_74
            · have ho : byt fb L (sk fb L τ.1) = 42 ∨ byt fb L (sk fb L τ.1) = 47 := Or.inr c_26
              have hlt : sk fb L τ.1 < L := ho.elim (fun e => byt_lt e (by decide)) (fun e => byt_lt e (by decide))
              have ok3 : okS L (sk fb L τ.1 + 1, τ.2) := ho.elim (fun e => okS_s1 hL ok2 e (by decide)) (fun e => okS_s1 hL ok2 e (by decide))
              have q := px_ok (fb := fb) hL n 0 1 (sk fb L τ.1 + 1, τ.2) ok3 (fun _ => by show 3 * (L - (sk fb L τ.1 + 1)) + 1 ≤ n; omega)
              refine lv_aload_n hx hb dX5_term_29 rfl (lv_at hl 0 rfl) ?_
              refine w_callV (As := []) (rest := []) C (m_next l D k o a1 a8 a9 a10 a15 t bl τ.2.1 τ.2.2.1 eo ud (nI τ.2.2.2) 1 se wr d (emL dr cs) fb L hL (sk fb L τ.1) A (va_D_of hD rfl) hs.2) (cwV 0 hts (lw_V q1735 q1737 qs33 q76 q1738) rfl rfl rfl (by decide +kernel) ⟨Nat.le_of_ble_eq_true rfl, Nat.le_of_ble_eq_true rfl⟩) hK (va_recv hK hP (ci := 0) (q0 := 0) rfl rfl) hP hS (fun _ h => h) rfl hl.1 rfl (Nat.le_of_ble_eq_true rfl) dX5_term_30 ⟨Nat.le_of_ble_eq_true rfl, Nat.le_of_ble_eq_true rfl⟩ (fun H locs hP hS _ _ => ?_)
              rw [hss] at hP
              rw [hss]
              have hP : va_P D clA ((o, .inr (0, [.int t, .ref a1, .int bl, .int (nI L), .int (nI (sk fb L τ.1)), .int τ.2.1, .int τ.2.2.1, .int eo, .ref a8, .ref a9, .ref a10, .int ud, .int (nI τ.2.2.2), .int 1, .int se, .ref a15])) :: (a8, .inl (k 0, 1798, .inl d)) :: (a9, .inl (k 0, 1798, .inl (emL dr cs))) :: (a1, .inl (k 0, 900, .inl fb)) :: wr) H := hP
              refine lv_bipush (v := 42) hx hb dX5_term_33 rfl ?_
              refine lv_icmp_ne (tgt := 42) hx hb dX5_term_35 (by decide) (fun c_35 => ?_) (fun c_35 => ?_)
              · refine lv_iconst (v := 0) hx hb dX5_term_42 rfl ?_
                refine lv_istore_n (lv' := [(1, .int 0), (0, .ref o)]) hx hb dX5_term_43 rfl hl (by decide) rfl (fun ls hl => ?_)
                refine lv_aload_n hx hb dX5_term_44 rfl (lv_at hl 1 rfl) ?_
                refine lv_dup hx hb dX5_term_45 rfl ?_
                refine va_get hx hb hts in_X5 hown hK hP 0 rfl rfl 4 (by decide) (hts _ q1666) (fun _ h => h) rfl dX5_term_46 ?_
                refine lv_iconst (v := 1) hx hb dX5_term_49 rfl ?_
                refine lv_iadd hx hb dX5_term_50 ?_
                refine w_topi (y := nI ((sk fb L τ.1) + 1)) (nI_add (sk fb L τ.1) 1) ?_
                refine va_put hx hb hts in_X5 tyX5 tyX5_ok nmX5 hown hK hP (va_D_of hD rfl) hS 0 rfl rfl 4 (by decide) (hts _ q1666) (fun _ h => h) rfl rfl rfl rfl (Nat.le_of_ble_eq_true rfl) dX5_term_51 (fun H locs hP _ hS => ?_)
                have hP : va_P D clA ((o, .inr (0, [.int t, .ref a1, .int bl, .int (nI L), .int (nI ((sk fb L τ.1) + 1)), .int τ.2.1, .int τ.2.2.1, .int eo, .ref a8, .ref a9, .ref a10, .int ud, .int (nI τ.2.2.2), .int 1, .int se, .ref a15])) :: (a8, .inl (k 0, 1798, .inl d)) :: (a9, .inl (k 0, 1798, .inl (emL dr cs))) :: (a1, .inl (k 0, 900, .inl fb)) :: wr) H := hP
                refine lv_aload_n hx hb dX5_term_54 rfl (lv_at hl 1 rfl) ?_
                refine x_callV (As := []) (rest := []) C (m_factor_1 l D k o a1 a8 a9 a10 a15 t bl eo ud se wr d (emL dr cs) fb L hL (((sk fb L τ.1) + 1), τ.2) A (va_D_of hD rfl) ok3 sA sV n (fun _ => by show 3 * (L - (sk fb L τ.1 + 1)) + 1 ≤ n; omega) (fun _ => ⟨d1, by show 2 * dN (emL dr cs) 5 + 3 * (L - (sk fb L τ.1 + 1)) + 1 ≤ 3000; omega⟩)) (cwV 0 hts (lw_V q1812 q1814 qs45 q76 q1815) rfl rfl rfl (by decide +kernel) ⟨Nat.le_of_ble_eq_true rfl, Nat.le_of_ble_eq_true rfl⟩) hK (va_recv hK hP (ci := 0) (q0 := 0) rfl rfl) mv2_MS hP (fun U hU hW => MS_to hX hS (fun _ h => h) U hU hW) hS (fun _ h => h) rfl hl.1 rfl (Nat.le_of_ble_eq_true rfl) dX5_term_55 ⟨Nat.le_of_ble_eq_true rfl, Nat.le_of_ble_eq_true rfl⟩ (fun H locs hP hS _ _ => ?_)
                have hP : va_P D clA ((o, .inr (0, [.int t, .ref a1, .int bl, .int (nI L), .int (nI (px fb L n 0 1 (((sk fb L τ.1) + 1), τ.2)).1.1), .int ((px fb L n 0 1 (((sk fb L τ.1) + 1), τ.2)).1.2.1), .int ((px fb L n 0 1 (((sk fb L τ.1) + 1), τ.2)).1.2.2.1), .int eo, .ref a8, .ref a9, .ref a10, .int ud, .int (nI (px fb L n 0 1 (((sk fb L τ.1) + 1), τ.2)).1.2.2.2), .int 1, .int se, .ref a15])) :: (a8, .inl (k 0, 1798, .inl d)) :: (a9, .inl (k 0, 1798, .inl (emL (emL dr cs) (px fb L n 0 1 (((sk fb L τ.1) + 1), τ.2)).2))) :: (a1, .inl (k 0, 900, .inl fb)) :: wr) H := hP
                refine lv_aload_n hx hb dX5_term_58 rfl (lv_at hl 1 rfl) ?_
                refine lv_iload_n hx hb dX5_term_59 rfl (lv_at hl 0 rfl) ?_
                refine lv_if_eq (tgt := 67) hx hb dX5_term_60 (by decide) (fun c_60 => ?_) (fun c_60 => ?_)
                · refine lv_iconst (v := 5) hx hb dX5_term_67 rfl ?_
                  refine w_callV (As := [.int 5]) (rest := []) C (m_emit l D k o a1 a8 a9 a10 a15 t bl eo ud 1 se wr d (emL (emL dr cs) (px fb L n 0 1 (((sk fb L τ.1) + 1), τ.2)).2) fb L hL ((px fb L n 0 1 (((sk fb L τ.1) + 1), τ.2)).1) A (va_D_of hD rfl) q.1 5 (fun z => by obtain ⟨-, z2, z3, z4⟩ := q.2 z; have z2 : sk fb L τ.1 + 1 + 1 ≤ _ := z2; have z4 : _ ≤ 3 * (L - (sk fb L τ.1 + 1)) + 1 := z4; obtain ⟨y1, y2⟩ := emL_n (dr := emL dr cs) (px fb L n 0 1 (sk fb L τ.1 + 1, τ.2)).2 d1 (by omega); exact ⟨y1, by omega⟩)) (cwV 1 hts (lw_V q1823 q1825 qs47 q76 q1826) rfl rfl rfl (by decide +kernel) ⟨Nat.le_of_ble_eq_true rfl, Nat.le_of_ble_eq_true rfl⟩) hK (va_recv hK hP (ci := 0) (q0 := 0) rfl rfl) hP hS (fun _ h => h) rfl hl.1 rfl (Nat.le_of_ble_eq_true rfl) dX5_term_68 ⟨Nat.le_of_ble_eq_true rfl, Nat.le_of_ble_eq_true rfl⟩ (fun H locs hP hS _ _ => ?_)
                  have hP : va_P D clA ((o, .inr (0, [.int t, .ref a1, .int bl, .int (nI L), .int (nI (px fb L n 0 1 (((sk fb L τ.1) + 1), τ.2)).1.1), .int ((px fb L n 0 1 (((sk fb L τ.1) + 1), τ.2)).1.2.1), .int ((px fb L n 0 1 (((sk fb L τ.1) + 1), τ.2)).1.2.2.1), .int eo, .ref a8, .ref a9, .ref a10, .int ud, .int (nI (px fb L n 0 1 (((sk fb L τ.1) + 1), τ.2)).1.2.2.2), .int 1, .int se, .ref a15])) :: (a8, .inl (k 0, 1798, .inl d)) :: (a9, .inl (k 0, 1798, .inl (emS (emL (emL dr cs) (px fb L n 0 1 (((sk fb L τ.1) + 1), τ.2)).2) 5 ((px fb L n 0 1 (((sk fb L τ.1) + 1), τ.2)).1)))) :: (a1, .inl (k 0, 900, .inl fb)) :: wr) H := hP
                  refine lv_goto (tgt := 4) hx hb dX5_term_71 (by decide) ?_
                  have hP : va_P D clA ((o, .inr (0, [.int t, .ref a1, .int bl, .int (nI L), .int (nI (px fb L n 0 1 (((sk fb L τ.1) + 1), τ.2)).1.1), .int ((px fb L n 0 1 (((sk fb L τ.1) + 1), τ.2)).1.2.1), .int ((px fb L n 0 1 (((sk fb L τ.1) + 1), τ.2)).1.2.2.1), .int eo, .ref a8, .ref a9, .ref a10, .int ud, .int (nI (px fb L n 0 1 (((sk fb L τ.1) + 1), τ.2)).1.2.2.2), .int 1, .int se, .ref a15])) :: (a8, .inl (k 0, 1798, .inl d)) :: (a9, .inl (k 0, 1798, .inl (emL dr (cs ++ ((px fb L n 0 1 (sk fb L τ.1 + 1, τ.2)).2 ++ ifp ((px fb L n 0 1 (sk fb L τ.1 + 1, τ.2)).1.2.1 = 0) [5] []))))) :: (a1, .inl (k 0, 900, .inl fb)) :: wr) H := by rw [emL_app, emL_app, ← emS_L]; exact hP
                  simp only [px, ifp_t b_8, ifp_t ho, ifp_f c_17] at he1 he2
                  exact ih_4 (px fb L n 0 1 (sk fb L τ.1 + 1, τ.2)).1 (cs ++ ((px fb L n 0 1 (sk fb L τ.1 + 1, τ.2)).2 ++ ifp ((px fb L n 0 1 (sk fb L τ.1 + 1, τ.2)).1.2.1 = 0) [5] [])) q.1 (fun z => by have z2 : sk fb L τ.1 + 1 + 1 ≤ _ := (q.2 z).2.1; show 3 * (L - (px fb L n 0 1 (sk fb L τ.1 + 1, τ.2)).1.1) + 1 ≤ n; omega) (fun z => by obtain ⟨-, z2, z3, z4⟩ := q.2 z; have z2 : sk fb L τ.1 + 1 + 1 ≤ _ := z2; have z4 : _ ≤ 3 * (L - (sk fb L τ.1 + 1)) + 1 := z4; rw [ifp_t z, List.length_append, List.length_append]; simp only [List.length_cons, List.length_nil]; omega) he1 (by rw [List.append_assoc]; exact he2) (by omega) _ _ hP hS ls (lv_sub hl [1] rfl)
                · exact absurd c_60 (by decide)
              · exact absurd c_35 c_17
    exact loop_4 f (px fb L f 0 1 σ).1 (px fb L f 0 1 σ).2 q0.1 (fun z => by have z2 : σ.1 + 1 ≤ _ := (q0.2 z).2.1; show 3 * (L - (px fb L f 0 1 σ).1.1) + 1 ≤ f; omega) (fun z => by have z2 : _ ≤ 3 * (L - σ.1) + 1 := (q0.2 z).2.2.2; omega) (by simp only [px]) (by simp only [px]) (by omega) _ _ hP hS ls (lv_sub hl [0] rfl)
  · skip
    refine lv_aload_n hx hb dX5_term_0 rfl (lv_at hl 0 rfl) ?_
    refine w_callV (As := []) (rest := []) C (m_factorE l D k o a1 a8 a9 a10 a15 t bl eo ud 1 se wr d dr fb L hL σ A (va_D_of hD rfl) hok hg0) (cwV 0 hts (lw_V q1812 q1814 qs45 q76 q1815) rfl rfl rfl (by decide +kernel) ⟨Nat.le_of_ble_eq_true rfl, Nat.le_of_ble_eq_true rfl⟩) hK (va_recv hK hP (ci := 0) (q0 := 0) rfl rfl) hP hS (fun _ h => h) rfl hl.1 rfl (Nat.le_of_ble_eq_true rfl) dX5_term_1 ⟨Nat.le_of_ble_eq_true rfl, Nat.le_of_ble_eq_true rfl⟩ (fun H locs hP hS _ _ => ?_)
    have hP : va_P D clA ((o, .inr (0, [.int t, .ref a1, .int bl, .int (nI L), .int (nI σ.1), .int σ.2.1, .int σ.2.2.1, .int eo, .ref a8, .ref a9, .ref a10, .int ud, .int (nI σ.2.2.2), .int 1, .int se, .ref a15])) :: (a8, .inl (k 0, 1798, .inl d)) :: (a9, .inl (k 0, 1798, .inl dr)) :: (a1, .inl (k 0, 900, .inl fb)) :: wr) H := hP
    refine lv_aload_n hx hb dX5_term_4 rfl (lv_at hl 0 rfl) ?_
    refine r_callV (As := []) (rest := []) C (m_isGood l D k o σ.2.1 ([.int t, .ref a1, .int bl, .int (nI L), .int (nI σ.1), .int σ.2.1, .int σ.2.2.1, .int eo, .ref a8, .ref a9, .ref a10, .int ud, .int (nI σ.2.2.2), .int 1, .int se, .ref a15] : List Value) rfl) (cwV 0 hts (lw_V q1731 q1733 qs32 q76 q1734) rfl rfl rfl (by decide +kernel) ⟨Nat.le_of_ble_eq_true rfl, Nat.le_of_ble_eq_true rfl⟩) hK (va_recv hK hP (ci := 0) (q0 := 0) rfl rfl) (hP.sub [0] rfl) rfl hl.1 rfl (Nat.le_of_ble_eq_true rfl) dX5_term_5 ⟨Nat.le_of_ble_eq_true rfl, Nat.le_of_ble_eq_true rfl⟩ ?_
    refine lv_if_eq (tgt := 74) hx hb dX5_term_8 (by decide) (fun c_8 => ?_) (fun c_8 => ?_)
    · have b_8 := bI_0.mp c_8
      exact w_vret C (by rw [px_bad hg0]; exact hP) hS dX5_term_74
    · exact absurd (bI_nz c_8) hg0
set_option maxHeartbeats 16000000 in
theorem m_sum_1 (l : Launch) (D : va_G) (k : Nat → ClassId) (o a1 a8 a9 a10 a15 : Nat) (t bl eo ud se : Int32) (wr : va_W) (d dr fb : Nat → Int32) (L : Nat) (hL : L ≤ 900) (σ : PS) (A : Nat → Prop) (hD : va_D A ((o, .inr (0, [.int t, .ref a1, .int bl, .int (nI L), .int (nI σ.1), .int σ.2.1, .int σ.2.2.1, .int eo, .ref a8, .ref a9, .ref a10, .int ud, .int (nI σ.2.2.2), .int 1, .int se, .ref a15])) :: (a8, .inl (k 0, 1798, .inl d)) :: (a9, .inl (k 0, 1798, .inl dr)) :: (a1, .inl (k 0, 900, .inl fb)) :: wr)) (hok : okS L σ) (sA sV : Nat → Nat) (f : Nat) (hf : σ.2.1 = 0 → nee 2 (L - σ.1) ≤ f) (h5 : σ.2.1 = 0 → dr 5 = nI (dN dr 5) ∧ 2 * dN dr 5 + 3 * (L - σ.1) + 1 ≤ 3000) : xM l D k yX5_sum cX5_sum 2 none 16 346 [.ref o] ((o, .inr (0, [.int t, .ref a1, .int bl, .int (nI L), .int (nI σ.1), .int σ.2.1, .int σ.2.2.1, .int eo, .ref a8, .ref a9, .ref a10, .int ud, .int (nI σ.2.2.2), .int 1, .int se, .ref a15])) :: (a8, .inl (k 0, 1798, .inl d)) :: (a9, .inl (k 0, 1798, .inl dr)) :: (a1, .inl (k 0, 900, .inl fb)) :: wr) (MS A sA sV) (none) ((o, .inr (0, [.int t, .ref a1, .int bl, .int (nI L), .int (nI (px fb L f 2 1 σ).1.1), .int ((px fb L f 2 1 σ).1.2.1), .int ((px fb L f 2 1 σ).1.2.2.1), .int eo, .ref a8, .ref a9, .ref a10, .int ud, .int (nI (px fb L f 2 1 σ).1.2.2.2), .int 1, .int se, .ref a15])) :: (a8, .inl (k 0, 1798, .inl d)) :: (a9, .inl (k 0, 1798, .inl (emL dr (px fb L f 2 1 σ).2))) :: (a1, .inl (k 0, 900, .inl fb)) :: wr) A := by
  refine xM_of (by decide) (Nat.le_of_ble_eq_true rfl) ?_
  intro p e s m below meth c ls C hK hX hP hS hl
  obtain ⟨hE, hT⟩ := id hX
  obtain ⟨hx, hb, hr, hml, hown, hts, hlk⟩ := id C
  have hl : lv_has ls 2 [(0, .ref o)] := hl
  rcases Classical.em (σ.2.1 = 0) with hg0 | hg0
  · have hp0 := hok.1 hg0
    have hf := hf hg0
    obtain ⟨c1, c2⟩ := h5 hg0
    obtain ⟨f, rfl⟩ : ∃ g, f = g + 1 := ⟨f - 1, by have hf : 3 * (L - σ.1) + 3 ≤ f := hf; omega⟩
    have hf : 3 * (L - σ.1) + 3 ≤ f + 1 := hf
    have q0 := px_ok (fb := fb) hL f 1 1 σ hok (fun _ => by show 3 * (L - σ.1) + 2 ≤ f; omega)
    refine lv_aload_n hx hb dX5_sum_0 rfl (lv_at hl 0 rfl) ?_
    refine x_callV (As := []) (rest := []) C (m_term_1 l D k o a1 a8 a9 a10 a15 t bl eo ud se wr d dr fb L hL σ A (va_D_of hD rfl) hok sA sV f (fun _ => by show 3 * (L - σ.1) + 2 ≤ f; omega) h5) (cwV 0 hts (lw_V q1808 q1810 qs44 q76 q1811) rfl rfl rfl (by decide +kernel) ⟨Nat.le_of_ble_eq_true rfl, Nat.le_of_ble_eq_true rfl⟩) hK (va_recv hK hP (ci := 0) (q0 := 0) rfl rfl) mv2_MS hP (fun U hU hW => MS_to hX hS (fun _ h => h) U hU hW) hS (fun _ h => h) rfl hl.1 rfl (Nat.le_of_ble_eq_true rfl) dX5_sum_1 ⟨Nat.le_of_ble_eq_true rfl, Nat.le_of_ble_eq_true rfl⟩ (fun H locs hP hS _ _ => ?_)
    have hP : va_P D clA ((o, .inr (0, [.int t, .ref a1, .int bl, .int (nI L), .int (nI (px fb L f 1 1 σ).1.1), .int ((px fb L f 1 1 σ).1.2.1), .int ((px fb L f 1 1 σ).1.2.2.1), .int eo, .ref a8, .ref a9, .ref a10, .int ud, .int (nI (px fb L f 1 1 σ).1.2.2.2), .int 1, .int se, .ref a15])) :: (a8, .inl (k 0, 1798, .inl d)) :: (a9, .inl (k 0, 1798, .inl (emL dr (px fb L f 1 1 σ).2))) :: (a1, .inl (k 0, 900, .inl fb)) :: wr) H := hP
    have loop_4 : ∀ (n : Nat) (τ : PS) (cs : List Int32), (okS L τ) → (τ.2.1 = 0 → 3 * (L - τ.1) + 1 ≤ n) → (τ.2.1 = 0 → 2 * (dN dr 5 + cs.length) + 3 * (L - τ.1) ≤ 3000) → ((px fb L n 4 1 τ).1 = (px fb L (f + 1) 2 1 σ).1) → (cs ++ (px fb L n 4 1 τ).2 = (px fb L (f + 1) 2 1 σ).2) → (1 ≤ n) → ∀ (H : Heap) (locs : List Loc), va_P D clA ((o, .inr (0, [.int t, .ref a1, .int bl, .int (nI L), .int (nI τ.1), .int τ.2.1, .int τ.2.2.1, .int eo, .ref a8, .ref a9, .ref a10, .int ud, .int (nI τ.2.2.2), .int 1, .int se, .ref a15])) :: (a8, .inl (k 0, 1798, .inl d)) :: (a9, .inl (k 0, 1798, .inl (emL dr cs))) :: (a1, .inl (k 0, 900, .inl fb)) :: wr) H → va_S A s.heap H locs → ∀ (ls : Array Slot), lv_has ls 2 [(0, .ref o)] → W p l e (Rm 16 346 0 0) s m ([.ref o] : List Value).toArray below meth c H locs 0 0 (MQ below (wQ D (none) ((o, .inr (0, [.int t, .ref a1, .int bl, .int (nI L), .int (nI (px fb L (f + 1) 2 1 σ).1.1), .int ((px fb L (f + 1) 2 1 σ).1.2.1), .int ((px fb L (f + 1) 2 1 σ).1.2.2.1), .int eo, .ref a8, .ref a9, .ref a10, .int ud, .int (nI (px fb L (f + 1) 2 1 σ).1.2.2.2), .int 1, .int se, .ref a15])) :: (a8, .inl (k 0, 1798, .inl d)) :: (a9, .inl (k 0, 1798, .inl (emL dr (px fb L (f + 1) 2 1 σ).2))) :: (a1, .inl (k 0, 900, .inl fb)) :: wr) A) ([.ref o] : List Value).toArray s 0 0 A) (F0 m 4 ls []) := by
      intro n
      induction n with
      | zero =>
        intro τ cs ok2 hf2 hr2 he1 he2 hn
        exact absurd hn (by omega)
      | succ n ih_4 =>
        intro τ cs ok2 hf2 hr2 he1 he2 hn H locs hP hS ls hl
        refine lv_aload_n hx hb dX5_sum_4 rfl (lv_at hl 0 rfl) ?_
        refine r_callV (As := []) (rest := []) C (m_isGood l D k o τ.2.1 ([.int t, .ref a1, .int bl, .int (nI L), .int (nI τ.1), .int τ.2.1, .int τ.2.2.1, .int eo, .ref a8, .ref a9, .ref a10, .int ud, .int (nI τ.2.2.2), .int 1, .int se, .ref a15] : List Value) rfl) (cwV 0 hts (lw_V q1731 q1733 qs32 q76 q1734) rfl rfl rfl (by decide +kernel) ⟨Nat.le_of_ble_eq_true rfl, Nat.le_of_ble_eq_true rfl⟩) hK (va_recv hK hP (ci := 0) (q0 := 0) rfl rfl) (hP.sub [0] rfl) rfl hl.1 rfl (Nat.le_of_ble_eq_true rfl) dX5_sum_5 ⟨Nat.le_of_ble_eq_true rfl, Nat.le_of_ble_eq_true rfl⟩ ?_
        refine lv_if_eq (tgt := 74) hx hb dX5_sum_8 (by decide) (fun c_8 => ?_) (fun c_8 => ?_)
        · have b_8 := bI_0.mp c_8
          exact w_vret C (by rw [px_bad b_8] at he1 he2; rw [List.append_nil] at he2; rw [← he1, ← he2]; exact hP) hS dX5_sum_74
        · have b_8 := bI_nz c_8
          have hp := ok2.1 b_8
          have hs := sk_in (fb := fb) hp
          have hf2 := hf2 b_8
          have hr2 := hr2 b_8
          obtain ⟨d1, d2⟩ := room5 c1 hr2
          have hss : sk fb L (sk fb L τ.1) = sk fb L τ.1 := sk_sk hp
          refine lv_aload_n hx hb dX5_sum_11 rfl (lv_at hl 0 rfl) ?_
          refine w_callV (As := []) (rest := []) C (m_next l D k o a1 a8 a9 a10 a15 t bl τ.2.1 τ.2.2.1 eo ud (nI τ.2.2.2) 1 se wr d (emL dr cs) fb L hL τ.1 A (va_D_of hD rfl) hp) (cwV 0 hts (lw_V q1735 q1737 qs33 q76 q1738) rfl rfl rfl (by decide +kernel) ⟨Nat.le_of_ble_eq_true rfl, Nat.le_of_ble_eq_true rfl⟩) hK (va_recv hK hP (ci := 0) (q0 := 0) rfl rfl) hP hS (fun _ h => h) rfl hl.1 rfl (Nat.le_of_ble_eq_true rfl) dX5_sum_12 ⟨Nat.le_of_ble_eq_true rfl, Nat.le_of_ble_eq_true rfl⟩ (fun H locs hP hS _ _ => ?_)
          have hP : va_P D clA ((o, .inr (0, [.int t, .ref a1, .int bl, .int (nI L), .int (nI (sk fb L τ.1)), .int τ.2.1, .int τ.2.2.1, .int eo, .ref a8, .ref a9, .ref a10, .int ud, .int (nI τ.2.2.2), .int 1, .int se, .ref a15])) :: (a8, .inl (k 0, 1798, .inl d)) :: (a9, .inl (k 0, 1798, .inl (emL dr cs))) :: (a1, .inl (k 0, 900, .inl fb)) :: wr) H := hP
          refine lv_bipush (v := 43) hx hb dX5_sum_15 rfl ?_
          refine lv_icmp_eq (tgt := 29) hx hb dX5_sum_17 (by decide) (fun c_17 => ?_) (fun c_17 => ?_)
          · have ho : byt fb L (sk fb L τ.1) = 43 ∨ byt fb L (sk fb L τ.1) = 45 := Or.inl c_17
            have hlt : sk fb L τ.1 < L := ho.elim (fun e => byt_lt e (by decide)) (fun e => byt_lt e (by decide))
            have ok3 : okS L (sk fb L τ.1 + 1, τ.2) := ho.elim (fun e => okS_s1 hL ok2 e (by decide)) (fun e => okS_s1 hL ok2 e (by decide))
            have q := px_ok (fb := fb) hL n 1 1 (sk fb L τ.1 + 1, τ.2) ok3 (fun _ => by show 3 * (L - (sk fb L τ.1 + 1)) + 2 ≤ n; omega)
            refine lv_aload_n hx hb dX5_sum_29 rfl (lv_at hl 0 rfl) ?_
            refine w_callV (As := []) (rest := []) C (m_next l D k o a1 a8 a9 a10 a15 t bl τ.2.1 τ.2.2.1 eo ud (nI τ.2.2.2) 1 se wr d (emL dr cs) fb L hL (sk fb L τ.1) A (va_D_of hD rfl) hs.2) (cwV 0 hts (lw_V q1735 q1737 qs33 q76 q1738) rfl rfl rfl (by decide +kernel) ⟨Nat.le_of_ble_eq_true rfl, Nat.le_of_ble_eq_true rfl⟩) hK (va_recv hK hP (ci := 0) (q0 := 0) rfl rfl) hP hS (fun _ h => h) rfl hl.1 rfl (Nat.le_of_ble_eq_true rfl) dX5_sum_30 ⟨Nat.le_of_ble_eq_true rfl, Nat.le_of_ble_eq_true rfl⟩ (fun H locs hP hS _ _ => ?_)
            rw [hss] at hP
            rw [hss]
            have hP : va_P D clA ((o, .inr (0, [.int t, .ref a1, .int bl, .int (nI L), .int (nI (sk fb L τ.1)), .int τ.2.1, .int τ.2.2.1, .int eo, .ref a8, .ref a9, .ref a10, .int ud, .int (nI τ.2.2.2), .int 1, .int se, .ref a15])) :: (a8, .inl (k 0, 1798, .inl d)) :: (a9, .inl (k 0, 1798, .inl (emL dr cs))) :: (a1, .inl (k 0, 900, .inl fb)) :: wr) H := hP
            refine lv_bipush (v := 43) hx hb dX5_sum_33 rfl ?_
            refine lv_icmp_ne (tgt := 42) hx hb dX5_sum_35 (by decide) (fun c_35 => ?_) (fun c_35 => ?_)
            · exact absurd c_17 c_35
            · refine lv_iconst (v := 1) hx hb dX5_sum_38 rfl ?_
              refine lv_goto (tgt := 43) hx hb dX5_sum_39 (by decide) ?_
              refine lv_istore_n (lv' := [(1, .int 1), (0, .ref o)]) hx hb dX5_sum_43 rfl hl (by decide) rfl (fun ls hl => ?_)
              refine lv_aload_n hx hb dX5_sum_44 rfl (lv_at hl 1 rfl) ?_
              refine lv_dup hx hb dX5_sum_45 rfl ?_
              refine va_get hx hb hts in_X5 hown hK hP 0 rfl rfl 4 (by decide) (hts _ q1666) (fun _ h => h) rfl dX5_sum_46 ?_
              refine lv_iconst (v := 1) hx hb dX5_sum_49 rfl ?_
              refine lv_iadd hx hb dX5_sum_50 ?_
              refine w_topi (y := nI ((sk fb L τ.1) + 1)) (nI_add (sk fb L τ.1) 1) ?_
              refine va_put hx hb hts in_X5 tyX5 tyX5_ok nmX5 hown hK hP (va_D_of hD rfl) hS 0 rfl rfl 4 (by decide) (hts _ q1666) (fun _ h => h) rfl rfl rfl rfl (Nat.le_of_ble_eq_true rfl) dX5_sum_51 (fun H locs hP _ hS => ?_)
              have hP : va_P D clA ((o, .inr (0, [.int t, .ref a1, .int bl, .int (nI L), .int (nI ((sk fb L τ.1) + 1)), .int τ.2.1, .int τ.2.2.1, .int eo, .ref a8, .ref a9, .ref a10, .int ud, .int (nI τ.2.2.2), .int 1, .int se, .ref a15])) :: (a8, .inl (k 0, 1798, .inl d)) :: (a9, .inl (k 0, 1798, .inl (emL dr cs))) :: (a1, .inl (k 0, 900, .inl fb)) :: wr) H := hP
              refine lv_aload_n hx hb dX5_sum_54 rfl (lv_at hl 1 rfl) ?_
              refine x_callV (As := []) (rest := []) C (m_term_1 l D k o a1 a8 a9 a10 a15 t bl eo ud se wr d (emL dr cs) fb L hL (((sk fb L τ.1) + 1), τ.2) A (va_D_of hD rfl) ok3 sA sV n (fun _ => by show 3 * (L - (sk fb L τ.1 + 1)) + 2 ≤ n; omega) (fun _ => ⟨d1, by show 2 * dN (emL dr cs) 5 + 3 * (L - (sk fb L τ.1 + 1)) + 1 ≤ 3000; omega⟩)) (cwV 0 hts (lw_V q1808 q1810 qs44 q76 q1811) rfl rfl rfl (by decide +kernel) ⟨Nat.le_of_ble_eq_true rfl, Nat.le_of_ble_eq_true rfl⟩) hK (va_recv hK hP (ci := 0) (q0 := 0) rfl rfl) mv2_MS hP (fun U hU hW => MS_to hX hS (fun _ h => h) U hU hW) hS (fun _ h => h) rfl hl.1 rfl (Nat.le_of_ble_eq_true rfl) dX5_sum_55 ⟨Nat.le_of_ble_eq_true rfl, Nat.le_of_ble_eq_true rfl⟩ (fun H locs hP hS _ _ => ?_)
              have hP : va_P D clA ((o, .inr (0, [.int t, .ref a1, .int bl, .int (nI L), .int (nI (px fb L n 1 1 (((sk fb L τ.1) + 1), τ.2)).1.1), .int ((px fb L n 1 1 (((sk fb L τ.1) + 1), τ.2)).1.2.1), .int ((px fb L n 1 1 (((sk fb L τ.1) + 1), τ.2)).1.2.2.1), .int eo, .ref a8, .ref a9, .ref a10, .int ud, .int (nI (px fb L n 1 1 (((sk fb L τ.1) + 1), τ.2)).1.2.2.2), .int 1, .int se, .ref a15])) :: (a8, .inl (k 0, 1798, .inl d)) :: (a9, .inl (k 0, 1798, .inl (emL (emL dr cs) (px fb L n 1 1 (((sk fb L τ.1) + 1), τ.2)).2))) :: (a1, .inl (k 0, 900, .inl fb)) :: wr) H := hP
              refine lv_aload_n hx hb dX5_sum_58 rfl (lv_at hl 1 rfl) ?_
              refine lv_iload_n hx hb dX5_sum_59 rfl (lv_at hl 0 rfl) ?_
              refine lv_if_eq (tgt := 67) hx hb dX5_sum_60 (by decide) (fun c_60 => ?_) (fun c_60 => ?_)
              · exact absurd c_60 (by decide)
              · refine lv_iconst (v := 2) hx hb dX5_sum_63 rfl ?_
                refine lv_goto (tgt := 68) hx hb dX5_sum_64 (by decide) ?_
                refine w_callV (As := [.int 2]) (rest := []) C (m_emit l D k o a1 a8 a9 a10 a15 t bl eo ud 1 se wr d (emL (emL dr cs) (px fb L n 1 1 (((sk fb L τ.1) + 1), τ.2)).2) fb L hL ((px fb L n 1 1 (((sk fb L τ.1) + 1), τ.2)).1) A (va_D_of hD rfl) q.1 2 (fun z => by obtain ⟨-, z2, z3, z4⟩ := q.2 z; have z2 : sk fb L τ.1 + 1 + 1 ≤ _ := z2; have z4 : _ ≤ 3 * (L - (sk fb L τ.1 + 1)) + 1 := z4; obtain ⟨y1, y2⟩ := emL_n (dr := emL dr cs) (px fb L n 1 1 (sk fb L τ.1 + 1, τ.2)).2 d1 (by omega); exact ⟨y1, by omega⟩)) (cwV 1 hts (lw_V q1823 q1825 qs47 q76 q1826) rfl rfl rfl (by decide +kernel) ⟨Nat.le_of_ble_eq_true rfl, Nat.le_of_ble_eq_true rfl⟩) hK (va_recv hK hP (ci := 0) (q0 := 0) rfl rfl) hP hS (fun _ h => h) rfl hl.1 rfl (Nat.le_of_ble_eq_true rfl) dX5_sum_68 ⟨Nat.le_of_ble_eq_true rfl, Nat.le_of_ble_eq_true rfl⟩ (fun H locs hP hS _ _ => ?_)
                have hP : va_P D clA ((o, .inr (0, [.int t, .ref a1, .int bl, .int (nI L), .int (nI (px fb L n 1 1 (((sk fb L τ.1) + 1), τ.2)).1.1), .int ((px fb L n 1 1 (((sk fb L τ.1) + 1), τ.2)).1.2.1), .int ((px fb L n 1 1 (((sk fb L τ.1) + 1), τ.2)).1.2.2.1), .int eo, .ref a8, .ref a9, .ref a10, .int ud, .int (nI (px fb L n 1 1 (((sk fb L τ.1) + 1), τ.2)).1.2.2.2), .int 1, .int se, .ref a15])) :: (a8, .inl (k 0, 1798, .inl d)) :: (a9, .inl (k 0, 1798, .inl (emS (emL (emL dr cs) (px fb L n 1 1 (((sk fb L τ.1) + 1), τ.2)).2) 2 ((px fb L n 1 1 (((sk fb L τ.1) + 1), τ.2)).1)))) :: (a1, .inl (k 0, 900, .inl fb)) :: wr) H := hP
                refine lv_goto (tgt := 4) hx hb dX5_sum_71 (by decide) ?_
                have hP : va_P D clA ((o, .inr (0, [.int t, .ref a1, .int bl, .int (nI L), .int (nI (px fb L n 1 1 (((sk fb L τ.1) + 1), τ.2)).1.1), .int ((px fb L n 1 1 (((sk fb L τ.1) + 1), τ.2)).1.2.1), .int ((px fb L n 1 1 (((sk fb L τ.1) + 1), τ.2)).1.2.2.1), .int eo, .ref a8, .ref a9, .ref a10, .int ud, .int (nI (px fb L n 1 1 (((sk fb L τ.1) + 1), τ.2)).1.2.2.2), .int 1, .int se, .ref a15])) :: (a8, .inl (k 0, 1798, .inl d)) :: (a9, .inl (k 0, 1798, .inl (emL dr (cs ++ ((px fb L n 1 1 (sk fb L τ.1 + 1, τ.2)).2 ++ ifp ((px fb L n 1 1 (sk fb L τ.1 + 1, τ.2)).1.2.1 = 0) [2] []))))) :: (a1, .inl (k 0, 900, .inl fb)) :: wr) H := by rw [emL_app, emL_app, ← emS_L]; exact hP
                simp only [px, ifp_t b_8, ifp_t ho, ifp_t c_17] at he1 he2
                exact ih_4 (px fb L n 1 1 (sk fb L τ.1 + 1, τ.2)).1 (cs ++ ((px fb L n 1 1 (sk fb L τ.1 + 1, τ.2)).2 ++ ifp ((px fb L n 1 1 (sk fb L τ.1 + 1, τ.2)).1.2.1 = 0) [2] [])) q.1 (fun z => by have z2 : sk fb L τ.1 + 1 + 1 ≤ _ := (q.2 z).2.1; show 3 * (L - (px fb L n 1 1 (sk fb L τ.1 + 1, τ.2)).1.1) + 1 ≤ n; omega) (fun z => by obtain ⟨-, z2, z3, z4⟩ := q.2 z; have z2 : sk fb L τ.1 + 1 + 1 ≤ _ := z2; have z4 : _ ≤ 3 * (L - (sk fb L τ.1 + 1)) + 1 := z4; rw [ifp_t z, List.length_append, List.length_append]; simp only [List.length_cons, List.length_nil]; omega) he1 (by rw [List.append_assoc]; exact he2) (by omega) _ _ hP hS ls (lv_sub hl [1] rfl)
          · refine lv_aload_n hx hb dX5_sum_20 rfl (lv_at hl 0 rfl) ?_
            refine w_callV (As := []) (rest := []) C (m_next l D k o a1 a8 a9 a10 a15 t bl τ.2.1 τ.2.2.1 eo ud (nI τ.2.2.2) 1 se wr d (emL dr cs) fb L hL (sk fb L τ.1) A (va_D_of hD rfl) hs.2) (cwV 0 hts (lw_V q1735 q1737 qs33 q76 q1738) rfl rfl rfl (by decide +kernel) ⟨Nat.le_of_ble_eq_true rfl, Nat.le_of_ble_eq_true rfl⟩) hK (va_recv hK hP (ci := 0) (q0 := 0) rfl rfl) hP hS (fun _ h => h) rfl hl.1 rfl (Nat.le_of_ble_eq_true rfl) dX5_sum_21 ⟨Nat.le_of_ble_eq_true rfl, Nat.le_of_ble_eq_true rfl⟩ (fun H locs hP hS _ _ => ?_)
            rw [hss] at hP
            rw [hss]
            have hP : va_P D clA ((o, .inr (0, [.int t, .ref a1, .int bl, .int (nI L), .int (nI (sk fb L τ.1)), .int τ.2.1, .int τ.2.2.1, .int eo, .ref a8, .ref a9, .ref a10, .int ud, .int (nI τ.2.2.2), .int 1, .int se, .ref a15])) :: (a8, .inl (k 0, 1798, .inl d)) :: (a9, .inl (k 0, 1798, .inl (emL dr cs))) :: (a1, .inl (k 0, 900, .inl fb)) :: wr) H := hP
            refine lv_bipush (v := 45) hx hb dX5_sum_24 rfl ?_
            refine lv_icmp_ne (tgt := 74) hx hb dX5_sum_26 (by decide) (fun c_26 => ?_) (fun c_26 => ?_)
            · exact w_vret C (by simp only [px, ifp_t b_8, ifp_f (show ¬ (byt fb L (sk fb L τ.1) = 43 ∨ byt fb L (sk fb L τ.1) = 45) from fun h => h.elim c_17 c_26)] at he1 he2; rw [List.append_nil] at he2; have e1 : (sk fb L τ.1, τ.2) = (px fb L (f + 1) 2 1 σ).1 := he1; have e2 : cs = (px fb L (f + 1) 2 1 σ).2 := he2; rw [← e1, ← e2]; exact hP) hS dX5_sum_74
            · have ho : byt fb L (sk fb L τ.1) = 43 ∨ byt fb L (sk fb L τ.1) = 45 := Or.inr c_26
              have hlt : sk fb L τ.1 < L := ho.elim (fun e => byt_lt e (by decide)) (fun e => byt_lt e (by decide))
              have ok3 : okS L (sk fb L τ.1 + 1, τ.2) := ho.elim (fun e => okS_s1 hL ok2 e (by decide)) (fun e => okS_s1 hL ok2 e (by decide))
              have q := px_ok (fb := fb) hL n 1 1 (sk fb L τ.1 + 1, τ.2) ok3 (fun _ => by show 3 * (L - (sk fb L τ.1 + 1)) + 2 ≤ n; omega)
              refine lv_aload_n hx hb dX5_sum_29 rfl (lv_at hl 0 rfl) ?_
              refine w_callV (As := []) (rest := []) C (m_next l D k o a1 a8 a9 a10 a15 t bl τ.2.1 τ.2.2.1 eo ud (nI τ.2.2.2) 1 se wr d (emL dr cs) fb L hL (sk fb L τ.1) A (va_D_of hD rfl) hs.2) (cwV 0 hts (lw_V q1735 q1737 qs33 q76 q1738) rfl rfl rfl (by decide +kernel) ⟨Nat.le_of_ble_eq_true rfl, Nat.le_of_ble_eq_true rfl⟩) hK (va_recv hK hP (ci := 0) (q0 := 0) rfl rfl) hP hS (fun _ h => h) rfl hl.1 rfl (Nat.le_of_ble_eq_true rfl) dX5_sum_30 ⟨Nat.le_of_ble_eq_true rfl, Nat.le_of_ble_eq_true rfl⟩ (fun H locs hP hS _ _ => ?_)
              rw [hss] at hP
              rw [hss]
              have hP : va_P D clA ((o, .inr (0, [.int t, .ref a1, .int bl, .int (nI L), .int (nI (sk fb L τ.1)), .int τ.2.1, .int τ.2.2.1, .int eo, .ref a8, .ref a9, .ref a10, .int ud, .int (nI τ.2.2.2), .int 1, .int se, .ref a15])) :: (a8, .inl (k 0, 1798, .inl d)) :: (a9, .inl (k 0, 1798, .inl (emL dr cs))) :: (a1, .inl (k 0, 900, .inl fb)) :: wr) H := hP
              refine lv_bipush (v := 43) hx hb dX5_sum_33 rfl ?_
              refine lv_icmp_ne (tgt := 42) hx hb dX5_sum_35 (by decide) (fun c_35 => ?_) (fun c_35 => ?_)
              · refine lv_iconst (v := 0) hx hb dX5_sum_42 rfl ?_
                refine lv_istore_n (lv' := [(1, .int 0), (0, .ref o)]) hx hb dX5_sum_43 rfl hl (by decide) rfl (fun ls hl => ?_)
                refine lv_aload_n hx hb dX5_sum_44 rfl (lv_at hl 1 rfl) ?_
                refine lv_dup hx hb dX5_sum_45 rfl ?_
                refine va_get hx hb hts in_X5 hown hK hP 0 rfl rfl 4 (by decide) (hts _ q1666) (fun _ h => h) rfl dX5_sum_46 ?_
                refine lv_iconst (v := 1) hx hb dX5_sum_49 rfl ?_
                refine lv_iadd hx hb dX5_sum_50 ?_
                refine w_topi (y := nI ((sk fb L τ.1) + 1)) (nI_add (sk fb L τ.1) 1) ?_
                refine va_put hx hb hts in_X5 tyX5 tyX5_ok nmX5 hown hK hP (va_D_of hD rfl) hS 0 rfl rfl 4 (by decide) (hts _ q1666) (fun _ h => h) rfl rfl rfl rfl (Nat.le_of_ble_eq_true rfl) dX5_sum_51 (fun H locs hP _ hS => ?_)
                have hP : va_P D clA ((o, .inr (0, [.int t, .ref a1, .int bl, .int (nI L), .int (nI ((sk fb L τ.1) + 1)), .int τ.2.1, .int τ.2.2.1, .int eo, .ref a8, .ref a9, .ref a10, .int ud, .int (nI τ.2.2.2), .int 1, .int se, .ref a15])) :: (a8, .inl (k 0, 1798, .inl d)) :: (a9, .inl (k 0, 1798, .inl (emL dr cs))) :: (a1, .inl (k 0, 900, .inl fb)) :: wr) H := hP
                refine lv_aload_n hx hb dX5_sum_54 rfl (lv_at hl 1 rfl) ?_
                refine x_callV (As := []) (rest := []) C (m_term_1 l D k o a1 a8 a9 a10 a15 t bl eo ud se wr d (emL dr cs) fb L hL (((sk fb L τ.1) + 1), τ.2) A (va_D_of hD rfl) ok3 sA sV n (fun _ => by show 3 * (L - (sk fb L τ.1 + 1)) + 2 ≤ n; omega) (fun _ => ⟨d1, by show 2 * dN (emL dr cs) 5 + 3 * (L - (sk fb L τ.1 + 1)) + 1 ≤ 3000; omega⟩)) (cwV 0 hts (lw_V q1808 q1810 qs44 q76 q1811) rfl rfl rfl (by decide +kernel) ⟨Nat.le_of_ble_eq_true rfl, Nat.le_of_ble_eq_true rfl⟩) hK (va_recv hK hP (ci := 0) (q0 := 0) rfl rfl) mv2_MS hP (fun U hU hW => MS_to hX hS (fun _ h => h) U hU hW) hS (fun _ h => h) rfl hl.1 rfl (Nat.le_of_ble_eq_true rfl) dX5_sum_55 ⟨Nat.le_of_ble_eq_true rfl, Nat.le_of_ble_eq_true rfl⟩ (fun H locs hP hS _ _ => ?_)
                have hP : va_P D clA ((o, .inr (0, [.int t, .ref a1, .int bl, .int (nI L), .int (nI (px fb L n 1 1 (((sk fb L τ.1) + 1), τ.2)).1.1), .int ((px fb L n 1 1 (((sk fb L τ.1) + 1), τ.2)).1.2.1), .int ((px fb L n 1 1 (((sk fb L τ.1) + 1), τ.2)).1.2.2.1), .int eo, .ref a8, .ref a9, .ref a10, .int ud, .int (nI (px fb L n 1 1 (((sk fb L τ.1) + 1), τ.2)).1.2.2.2), .int 1, .int se, .ref a15])) :: (a8, .inl (k 0, 1798, .inl d)) :: (a9, .inl (k 0, 1798, .inl (emL (emL dr cs) (px fb L n 1 1 (((sk fb L τ.1) + 1), τ.2)).2))) :: (a1, .inl (k 0, 900, .inl fb)) :: wr) H := hP
                refine lv_aload_n hx hb dX5_sum_58 rfl (lv_at hl 1 rfl) ?_
                refine lv_iload_n hx hb dX5_sum_59 rfl (lv_at hl 0 rfl) ?_
                refine lv_if_eq (tgt := 67) hx hb dX5_sum_60 (by decide) (fun c_60 => ?_) (fun c_60 => ?_)
                · refine lv_iconst (v := 3) hx hb dX5_sum_67 rfl ?_
                  refine w_callV (As := [.int 3]) (rest := []) C (m_emit l D k o a1 a8 a9 a10 a15 t bl eo ud 1 se wr d (emL (emL dr cs) (px fb L n 1 1 (((sk fb L τ.1) + 1), τ.2)).2) fb L hL ((px fb L n 1 1 (((sk fb L τ.1) + 1), τ.2)).1) A (va_D_of hD rfl) q.1 3 (fun z => by obtain ⟨-, z2, z3, z4⟩ := q.2 z; have z2 : sk fb L τ.1 + 1 + 1 ≤ _ := z2; have z4 : _ ≤ 3 * (L - (sk fb L τ.1 + 1)) + 1 := z4; obtain ⟨y1, y2⟩ := emL_n (dr := emL dr cs) (px fb L n 1 1 (sk fb L τ.1 + 1, τ.2)).2 d1 (by omega); exact ⟨y1, by omega⟩)) (cwV 1 hts (lw_V q1823 q1825 qs47 q76 q1826) rfl rfl rfl (by decide +kernel) ⟨Nat.le_of_ble_eq_true rfl, Nat.le_of_ble_eq_true rfl⟩) hK (va_recv hK hP (ci := 0) (q0 := 0) rfl rfl) hP hS (fun _ h => h) rfl hl.1 rfl (Nat.le_of_ble_eq_true rfl) dX5_sum_68 ⟨Nat.le_of_ble_eq_true rfl, Nat.le_of_ble_eq_true rfl⟩ (fun H locs hP hS _ _ => ?_)
                  have hP : va_P D clA ((o, .inr (0, [.int t, .ref a1, .int bl, .int (nI L), .int (nI (px fb L n 1 1 (((sk fb L τ.1) + 1), τ.2)).1.1), .int ((px fb L n 1 1 (((sk fb L τ.1) + 1), τ.2)).1.2.1), .int ((px fb L n 1 1 (((sk fb L τ.1) + 1), τ.2)).1.2.2.1), .int eo, .ref a8, .ref a9, .ref a10, .int ud, .int (nI (px fb L n 1 1 (((sk fb L τ.1) + 1), τ.2)).1.2.2.2), .int 1, .int se, .ref a15])) :: (a8, .inl (k 0, 1798, .inl d)) :: (a9, .inl (k 0, 1798, .inl (emS (emL (emL dr cs) (px fb L n 1 1 (((sk fb L τ.1) + 1), τ.2)).2) 3 ((px fb L n 1 1 (((sk fb L τ.1) + 1), τ.2)).1)))) :: (a1, .inl (k 0, 900, .inl fb)) :: wr) H := hP
                  refine lv_goto (tgt := 4) hx hb dX5_sum_71 (by decide) ?_
                  have hP : va_P D clA ((o, .inr (0, [.int t, .ref a1, .int bl, .int (nI L), .int (nI (px fb L n 1 1 (((sk fb L τ.1) + 1), τ.2)).1.1), .int ((px fb L n 1 1 (((sk fb L τ.1) + 1), τ.2)).1.2.1), .int ((px fb L n 1 1 (((sk fb L τ.1) + 1), τ.2)).1.2.2.1), .int eo, .ref a8, .ref a9, .ref a10, .int ud, .int (nI (px fb L n 1 1 (((sk fb L τ.1) + 1), τ.2)).1.2.2.2), .int 1, .int se, .ref a15])) :: (a8, .inl (k 0, 1798, .inl d)) :: (a9, .inl (k 0, 1798, .inl (emL dr (cs ++ ((px fb L n 1 1 (sk fb L τ.1 + 1, τ.2)).2 ++ ifp ((px fb L n 1 1 (sk fb L τ.1 + 1, τ.2)).1.2.1 = 0) [3] []))))) :: (a1, .inl (k 0, 900, .inl fb)) :: wr) H := by rw [emL_app, emL_app, ← emS_L]; exact hP
                  simp only [px, ifp_t b_8, ifp_t ho, ifp_f c_17] at he1 he2
                  exact ih_4 (px fb L n 1 1 (sk fb L τ.1 + 1, τ.2)).1 (cs ++ ((px fb L n 1 1 (sk fb L τ.1 + 1, τ.2)).2 ++ ifp ((px fb L n 1 1 (sk fb L τ.1 + 1, τ.2)).1.2.1 = 0) [3] [])) q.1 (fun z => by have z2 : sk fb L τ.1 + 1 + 1 ≤ _ := (q.2 z).2.1; show 3 * (L - (px fb L n 1 1 (sk fb L τ.1 + 1, τ.2)).1.1) + 1 ≤ n; omega) (fun z => by obtain ⟨-, z2, z3, z4⟩ := q.2 z; have z2 : sk fb L τ.1 + 1 + 1 ≤ _ := z2; have z4 : _ ≤ 3 * (L - (sk fb L τ.1 + 1)) + 1 := z4; rw [ifp_t z, List.length_append, List.length_append]; simp only [List.length_cons, List.length_nil]; omega) he1 (by rw [List.append_assoc]; exact he2) (by omega) _ _ hP hS ls (lv_sub hl [1] rfl)
                · exact absurd c_60 (by decide)
              · exact absurd c_35 c_17
    exact loop_4 f (px fb L f 1 1 σ).1 (px fb L f 1 1 σ).2 q0.1 (fun z => by have z2 : σ.1 + 1 ≤ _ := (q0.2 z).2.1; show 3 * (L - (px fb L f 1 1 σ).1.1) + 1 ≤ f; omega) (fun z => by have z2 : _ ≤ 3 * (L - σ.1) + 1 := (q0.2 z).2.2.2; omega) (by simp only [px]) (by simp only [px]) (by omega) _ _ hP hS ls (lv_sub hl [0] rfl)
  · skip
    refine lv_aload_n hx hb dX5_sum_0 rfl (lv_at hl 0 rfl) ?_
    refine w_callV (As := []) (rest := []) C (m_termE l D k o a1 a8 a9 a10 a15 t bl eo ud 1 se wr d dr fb L hL σ A (va_D_of hD rfl) hok hg0) (cwV 0 hts (lw_V q1808 q1810 qs44 q76 q1811) rfl rfl rfl (by decide +kernel) ⟨Nat.le_of_ble_eq_true rfl, Nat.le_of_ble_eq_true rfl⟩) hK (va_recv hK hP (ci := 0) (q0 := 0) rfl rfl) hP hS (fun _ h => h) rfl hl.1 rfl (Nat.le_of_ble_eq_true rfl) dX5_sum_1 ⟨Nat.le_of_ble_eq_true rfl, Nat.le_of_ble_eq_true rfl⟩ (fun H locs hP hS _ _ => ?_)
    have hP : va_P D clA ((o, .inr (0, [.int t, .ref a1, .int bl, .int (nI L), .int (nI σ.1), .int σ.2.1, .int σ.2.2.1, .int eo, .ref a8, .ref a9, .ref a10, .int ud, .int (nI σ.2.2.2), .int 1, .int se, .ref a15])) :: (a8, .inl (k 0, 1798, .inl d)) :: (a9, .inl (k 0, 1798, .inl dr)) :: (a1, .inl (k 0, 900, .inl fb)) :: wr) H := hP
    refine lv_aload_n hx hb dX5_sum_4 rfl (lv_at hl 0 rfl) ?_
    refine r_callV (As := []) (rest := []) C (m_isGood l D k o σ.2.1 ([.int t, .ref a1, .int bl, .int (nI L), .int (nI σ.1), .int σ.2.1, .int σ.2.2.1, .int eo, .ref a8, .ref a9, .ref a10, .int ud, .int (nI σ.2.2.2), .int 1, .int se, .ref a15] : List Value) rfl) (cwV 0 hts (lw_V q1731 q1733 qs32 q76 q1734) rfl rfl rfl (by decide +kernel) ⟨Nat.le_of_ble_eq_true rfl, Nat.le_of_ble_eq_true rfl⟩) hK (va_recv hK hP (ci := 0) (q0 := 0) rfl rfl) (hP.sub [0] rfl) rfl hl.1 rfl (Nat.le_of_ble_eq_true rfl) dX5_sum_5 ⟨Nat.le_of_ble_eq_true rfl, Nat.le_of_ble_eq_true rfl⟩ ?_
    refine lv_if_eq (tgt := 74) hx hb dX5_sum_8 (by decide) (fun c_8 => ?_) (fun c_8 => ?_)
    · have b_8 := bI_0.mp c_8
      exact w_vret C (by rw [px_bad hg0]; exact hP) hS dX5_sum_74
    · exact absurd (bI_nz c_8) hg0
set_option maxHeartbeats 16000000 in
theorem m_factor_0 (l : Launch) (D : va_G) (k : Nat → ClassId) (o a1 a8 a9 a10 a15 : Nat) (t bl eo ud se : Int32) (wr : va_W) (d dr fb : Nat → Int32) (L : Nat) (hL : L ≤ 900) (σ : PS) (A : Nat → Prop) (hD : va_D A ((o, .inr (0, [.int t, .ref a1, .int bl, .int (nI L), .int (nI σ.1), .int σ.2.1, .int σ.2.2.1, .int eo, .ref a8, .ref a9, .ref a10, .int ud, .int (nI σ.2.2.2), .int 0, .int se, .ref a15])) :: (a8, .inl (k 0, 1798, .inl d)) :: (a9, .inl (k 0, 1798, .inl dr)) :: (a1, .inl (k 0, 900, .inl fb)) :: wr)) (hok : okS L σ) (sA sV : Nat → Nat) (f : Nat) (hf : σ.2.1 = 0 → nee 0 (L - σ.1) ≤ f) (h5 : σ.2.1 = 0 → dr 5 = nI (dN dr 5) ∧ 2 * dN dr 5 + 3 * (L - σ.1) + 1 ≤ 3000) : xM l D k yX5_factor cX5_factor 4 none 17 367 [.ref o] ((o, .inr (0, [.int t, .ref a1, .int bl, .int (nI L), .int (nI σ.1), .int σ.2.1, .int σ.2.2.1, .int eo, .ref a8, .ref a9, .ref a10, .int ud, .int (nI σ.2.2.2), .int 0, .int se, .ref a15])) :: (a8, .inl (k 0, 1798, .inl d)) :: (a9, .inl (k 0, 1798, .inl dr)) :: (a1, .inl (k 0, 900, .inl fb)) :: wr) (MS A sA sV) (none) ((o, .inr (0, [.int t, .ref a1, .int bl, .int (nI L), .int (nI (px fb L f 0 0 σ).1.1), .int ((px fb L f 0 0 σ).1.2.1), .int ((px fb L f 0 0 σ).1.2.2.1), .int eo, .ref a8, .ref a9, .ref a10, .int ud, .int (nI (px fb L f 0 0 σ).1.2.2.2), .int 0, .int se, .ref a15])) :: (a8, .inl (k 0, 1798, .inl d)) :: (a9, .inl (k 0, 1798, .inl (emL dr (px fb L f 0 0 σ).2))) :: (a1, .inl (k 0, 900, .inl fb)) :: wr) A := by
  refine xM_of (by decide) (Nat.le_of_ble_eq_true rfl) ?_
  intro p e s m below meth c ls C hK hX hP hS hl
  obtain ⟨hE, hT⟩ := id hX
  obtain ⟨hx, hb, hr, hml, hown, hts, hlk⟩ := id C
  have hl : lv_has ls 4 [(0, .ref o)] := hl
  refine lv_aload_n hx hb dX5_factor_0 rfl (lv_at hl 0 rfl) ?_
  refine r_callV (As := []) (rest := []) C (m_isGood l D k o σ.2.1 ([.int t, .ref a1, .int bl, .int (nI L), .int (nI σ.1), .int σ.2.1, .int σ.2.2.1, .int eo, .ref a8, .ref a9, .ref a10, .int ud, .int (nI σ.2.2.2), .int 0, .int se, .ref a15] : List Value) rfl) (cwV 0 hts (lw_V q1731 q1733 qs32 q76 q1734) rfl rfl rfl (by decide +kernel) ⟨Nat.le_of_ble_eq_true rfl, Nat.le_of_ble_eq_true rfl⟩) hK (va_recv hK hP (ci := 0) (q0 := 0) rfl rfl) (hP.sub [0] rfl) rfl hl.1 rfl (Nat.le_of_ble_eq_true rfl) dX5_factor_1 ⟨Nat.le_of_ble_eq_true rfl, Nat.le_of_ble_eq_true rfl⟩ ?_
  refine lv_if_ne (tgt := 8) hx hb dX5_factor_4 (by decide) (fun c_4 => ?_) (fun c_4 => ?_)
  · have b_4 := bI_nz c_4
    have hp := hok.1 b_4
    have hs := sk_in (fb := fb) hp
    have hf := hf b_4
    obtain ⟨c1, c2⟩ := h5 b_4
    obtain ⟨f, rfl⟩ : ∃ g, f = g + 1 := ⟨f - 1, by unfold nee at hf; rw [if_neg (by decide), if_neg (by decide)] at hf; omega⟩
    have hf : 3 * (L - σ.1) + 1 ≤ f + 1 := hf
    have hoks := okS_sk (fb := fb) hL hok b_4
    have hss : sk fb L (sk fb L σ.1) = sk fb L σ.1 := sk_sk hp
    refine lv_aload_n hx hb dX5_factor_8 rfl (lv_at hl 0 rfl) ?_
    refine w_callV (As := []) (rest := []) C (m_next l D k o a1 a8 a9 a10 a15 t bl σ.2.1 σ.2.2.1 eo ud (nI σ.2.2.2) 0 se wr d dr fb L hL σ.1 A (va_D_of hD rfl) hp) (cwV 0 hts (lw_V q1735 q1737 qs33 q76 q1738) rfl rfl rfl (by decide +kernel) ⟨Nat.le_of_ble_eq_true rfl, Nat.le_of_ble_eq_true rfl⟩) hK (va_recv hK hP (ci := 0) (q0 := 0) rfl rfl) hP hS (fun _ h => h) rfl hl.1 rfl (Nat.le_of_ble_eq_true rfl) dX5_factor_9 ⟨Nat.le_of_ble_eq_true rfl, Nat.le_of_ble_eq_true rfl⟩ (fun H locs hP hS _ _ => ?_)
    have hP : va_P D clA ((o, .inr (0, [.int t, .ref a1, .int bl, .int (nI L), .int (nI (sk fb L σ.1)), .int σ.2.1, .int σ.2.2.1, .int eo, .ref a8, .ref a9, .ref a10, .int ud, .int (nI σ.2.2.2), .int 0, .int se, .ref a15])) :: (a8, .inl (k 0, 1798, .inl d)) :: (a9, .inl (k 0, 1798, .inl dr)) :: (a1, .inl (k 0, 900, .inl fb)) :: wr) H := hP
    refine lv_istore_n (lv' := [(1, .int (byt fb L (sk fb L σ.1))), (0, .ref o)]) hx hb dX5_factor_12 rfl hl (by decide) rfl (fun ls hl => ?_)
    refine lv_iload_n hx hb dX5_factor_13 rfl (lv_at hl 0 rfl) ?_
    refine lv_bipush (v := 40) hx hb dX5_factor_14 rfl ?_
    refine lv_icmp_ne (tgt := 78) hx hb dX5_factor_16 (by decide) (fun c_16 => ?_) (fun c_16 => ?_)
    · refine lv_iload_n hx hb dX5_factor_78 rfl (lv_at hl 0 rfl) ?_
      refine r_callS (As := [.int (byt fb L (sk fb L σ.1))]) (rest := []) C (m_isDigit l D k (byt fb L (sk fb L σ.1))) (va_cwS 1 hts (lw_S q1772 q1773 q76 q1774) rfl rfl rfl (by decide +kernel) ⟨Nat.le_of_ble_eq_true rfl, Nat.le_of_ble_eq_true rfl⟩) hK trivial rfl hl.1 rfl (Nat.le_of_ble_eq_true rfl) dX5_factor_79 ⟨Nat.le_of_ble_eq_true rfl, Nat.le_of_ble_eq_true rfl⟩ ?_
      refine lv_if_eq (tgt := 89) hx hb dX5_factor_82 (by decide) (fun c_82 => ?_) (fun c_82 => ?_)
      · have b_82 := bI_0.mp c_82
        refine lv_aload_n hx hb dX5_factor_89 rfl (lv_at hl 1 rfl) ?_
        refine va_ldcS hx hb hown (index := 101) (hX.2 0 (by decide)).1 dX5_factor_90 ?_
        refine x_callV (As := [.ref (sA 0)]) (rest := []) C (m_takeWordM l D k o a1 a8 a9 a10 a15 t bl eo ud 0 se wr d dr fb L hL ((sk fb L σ.1), σ.2) A (va_D_of hD rfl) hoks sA sV 0 (by decide)) (cwV 1 hts (lw_V q1748 q1750 qs36 q76 q1751) rfl rfl rfl (by decide +kernel) ⟨Nat.le_of_ble_eq_true rfl, Nat.le_of_ble_eq_true rfl⟩) hK (va_recv hK hP (ci := 0) (q0 := 0) rfl rfl) mv2_MS hP (fun U hU hW => MS_to hX hS (fun _ h => h) U hU hW) hS (fun _ h => h) rfl hl.1 rfl (Nat.le_of_ble_eq_true rfl) dX5_factor_92 ⟨Nat.le_of_ble_eq_true rfl, Nat.le_of_ble_eq_true rfl⟩ (fun H locs hP hS _ _ => ?_)
        have hP : va_P D clA ((o, .inr (0, [.int t, .ref a1, .int bl, .int (nI L), .int (nI (TS fb L 0 ((sk fb L σ.1), σ.2)).1), .int ((TS fb L 0 ((sk fb L σ.1), σ.2)).2.1), .int ((TS fb L 0 ((sk fb L σ.1), σ.2)).2.2.1), .int eo, .ref a8, .ref a9, .ref a10, .int ud, .int (nI (TS fb L 0 ((sk fb L σ.1), σ.2)).2.2.2), .int 0, .int se, .ref a15])) :: (a8, .inl (k 0, 1798, .inl d)) :: (a9, .inl (k 0, 1798, .inl dr)) :: (a1, .inl (k 0, 900, .inl fb)) :: wr) H := hP
        refine lv_if_eq (tgt := 102) hx hb dX5_factor_95 (by decide) (fun c_95 => ?_) (fun c_95 => ?_)
        · have b_95 := bI_0.mp c_95
          rw [TS_no (σ := (sk fb L σ.1, σ.2)) b_4 b_95, hss] at hP
          refine lv_aload_n hx hb dX5_factor_102 rfl (lv_at hl 1 rfl) ?_
          refine va_ldcS hx hb hown (index := 107) (hX.2 1 (by decide)).1 dX5_factor_103 ?_
          refine x_callV (As := [.ref (sA 1)]) (rest := []) C (m_takeWordM l D k o a1 a8 a9 a10 a15 t bl eo ud 0 se wr d dr fb L hL ((sk fb L σ.1), σ.2) A (va_D_of hD rfl) hoks sA sV 1 (by decide)) (cwV 1 hts (lw_V q1748 q1750 qs36 q76 q1751) rfl rfl rfl (by decide +kernel) ⟨Nat.le_of_ble_eq_true rfl, Nat.le_of_ble_eq_true rfl⟩) hK (va_recv hK hP (ci := 0) (q0 := 0) rfl rfl) mv2_MS hP (fun U hU hW => MS_to hX hS (fun _ h => h) U hU hW) hS (fun _ h => h) rfl hl.1 rfl (Nat.le_of_ble_eq_true rfl) dX5_factor_105 ⟨Nat.le_of_ble_eq_true rfl, Nat.le_of_ble_eq_true rfl⟩ (fun H locs hP hS _ _ => ?_)
          have hP : va_P D clA ((o, .inr (0, [.int t, .ref a1, .int bl, .int (nI L), .int (nI (TS fb L 1 ((sk fb L σ.1), σ.2)).1), .int ((TS fb L 1 ((sk fb L σ.1), σ.2)).2.1), .int ((TS fb L 1 ((sk fb L σ.1), σ.2)).2.2.1), .int eo, .ref a8, .ref a9, .ref a10, .int ud, .int (nI (TS fb L 1 ((sk fb L σ.1), σ.2)).2.2.2), .int 0, .int se, .ref a15])) :: (a8, .inl (k 0, 1798, .inl d)) :: (a9, .inl (k 0, 1798, .inl dr)) :: (a1, .inl (k 0, 900, .inl fb)) :: wr) H := hP
          refine lv_if_eq (tgt := 115) hx hb dX5_factor_108 (by decide) (fun c_108 => ?_) (fun c_108 => ?_)
          · have b_108 := bI_0.mp c_108
            rw [TS_no (σ := (sk fb L σ.1, σ.2)) b_4 b_108, hss] at hP
            refine lv_aload_n hx hb dX5_factor_115 rfl (lv_at hl 1 rfl) ?_
            refine va_ldcS hx hb hown (index := 109) (hX.2 2 (by decide)).1 dX5_factor_116 ?_
            refine x_callV (As := [.ref (sA 2)]) (rest := []) C (m_takeWordM l D k o a1 a8 a9 a10 a15 t bl eo ud 0 se wr d dr fb L hL ((sk fb L σ.1), σ.2) A (va_D_of hD rfl) hoks sA sV 2 (by decide)) (cwV 1 hts (lw_V q1748 q1750 qs36 q76 q1751) rfl rfl rfl (by decide +kernel) ⟨Nat.le_of_ble_eq_true rfl, Nat.le_of_ble_eq_true rfl⟩) hK (va_recv hK hP (ci := 0) (q0 := 0) rfl rfl) mv2_MS hP (fun U hU hW => MS_to hX hS (fun _ h => h) U hU hW) hS (fun _ h => h) rfl hl.1 rfl (Nat.le_of_ble_eq_true rfl) dX5_factor_118 ⟨Nat.le_of_ble_eq_true rfl, Nat.le_of_ble_eq_true rfl⟩ (fun H locs hP hS _ _ => ?_)
            have hP : va_P D clA ((o, .inr (0, [.int t, .ref a1, .int bl, .int (nI L), .int (nI (TS fb L 2 ((sk fb L σ.1), σ.2)).1), .int ((TS fb L 2 ((sk fb L σ.1), σ.2)).2.1), .int ((TS fb L 2 ((sk fb L σ.1), σ.2)).2.2.1), .int eo, .ref a8, .ref a9, .ref a10, .int ud, .int (nI (TS fb L 2 ((sk fb L σ.1), σ.2)).2.2.2), .int 0, .int se, .ref a15])) :: (a8, .inl (k 0, 1798, .inl d)) :: (a9, .inl (k 0, 1798, .inl dr)) :: (a1, .inl (k 0, 900, .inl fb)) :: wr) H := hP
            refine lv_if_eq (tgt := 128) hx hb dX5_factor_121 (by decide) (fun c_121 => ?_) (fun c_121 => ?_)
            · have b_121 := bI_0.mp c_121
              rw [TS_no (σ := (sk fb L σ.1, σ.2)) b_4 b_121, hss] at hP
              refine lv_iconst (v := (-1)) hx hb dX5_factor_128 rfl ?_
              refine lv_istore_n (lv' := [(2, .int (-1)), (1, .int (byt fb L (sk fb L σ.1))), (0, .ref o)]) hx hb dX5_factor_129 rfl hl (by decide) rfl (fun ls hl => ?_)
              refine lv_iload_n hx hb dX5_factor_130 rfl (lv_at hl 0 rfl) ?_
              refine lv_if_ge (tgt := 145) hx hb dX5_factor_131 (by decide) (fun c_131 => ?_) (fun c_131 => ?_)
              · exact absurd c_131 (by decide)
              · refine lv_aload_n hx hb dX5_factor_134 rfl (lv_at hl 2 rfl) ?_
                refine lv_iconst (v := 0) hx hb dX5_factor_135 rfl ?_
                refine lv_sipush (v := 9999) hx hb dX5_factor_136 rfl ?_
                refine w_callV (As := [.int 0, .int 9999]) (rest := []) C (m_number l D k o a1 a8 a9 a10 a15 t bl eo ud 0 se wr d dr fb L hL ((sk fb L σ.1), σ.2) A (va_D_of hD rfl) hoks 0 9999) (cwV 2 hts (lw_V q1768 q1770 qs38 q76 q1771) rfl rfl rfl (by decide +kernel) ⟨Nat.le_of_ble_eq_true rfl, Nat.le_of_ble_eq_true rfl⟩) hK (va_recv hK hP (ci := 0) (q0 := 0) rfl rfl) hP hS (fun _ h => h) rfl hl.1 rfl (Nat.le_of_ble_eq_true rfl) dX5_factor_139 ⟨Nat.le_of_ble_eq_true rfl, Nat.le_of_ble_eq_true rfl⟩ (fun H locs hP hS _ _ => ?_)
                have hP : va_P D clA ((o, .inr (0, [.int t, .ref a1, .int bl, .int (nI L), .int (nI (nmS fb L 0 9999 ((sk fb L σ.1), σ.2)).2.1), .int ((nmS fb L 0 9999 ((sk fb L σ.1), σ.2)).2.2.1), .int ((nmS fb L 0 9999 ((sk fb L σ.1), σ.2)).2.2.2.1), .int eo, .ref a8, .ref a9, .ref a10, .int ud, .int (nI (nmS fb L 0 9999 ((sk fb L σ.1), σ.2)).2.2.2.2), .int 0, .int se, .ref a15])) :: (a8, .inl (k 0, 1798, .inl d)) :: (a9, .inl (k 0, 1798, .inl dr)) :: (a1, .inl (k 0, 900, .inl fb)) :: wr) H := hP
                refine lv_goto (tgt := 146) hx hb dX5_factor_142 (by decide) ?_
                refine lv_istore_n (lv' := [(3, .int ((nmS fb L 0 9999 ((sk fb L σ.1), σ.2)).1)), (2, .int (-1)), (1, .int (byt fb L (sk fb L σ.1))), (0, .ref o)]) hx hb dX5_factor_146 rfl hl (by decide) rfl (fun ls hl => ?_)
                refine lv_aload_n hx hb dX5_factor_147 rfl (lv_at hl 3 rfl) ?_
                refine lv_iload_n hx hb dX5_factor_148 rfl (lv_at hl 1 rfl) ?_
                refine lv_if_ge (tgt := 156) hx hb dX5_factor_149 (by decide) (fun c_149 => ?_) (fun c_149 => ?_)
                · exact absurd c_149 (by decide)
                · refine lv_iconst (v := 0) hx hb dX5_factor_152 rfl ?_
                  refine lv_goto (tgt := 157) hx hb dX5_factor_153 (by decide) ?_
                  refine w_callV (As := [.int 0]) (rest := []) C (m_emit l D k o a1 a8 a9 a10 a15 t bl eo ud 0 se wr d dr fb L hL ((nmS fb L 0 9999 ((sk fb L σ.1), σ.2)).2) A (va_D_of hD rfl) (okS_nm hL hoks) 0 (fun z => ⟨c1, by omega⟩)) (cwV 1 hts (lw_V q1823 q1825 qs47 q76 q1826) rfl rfl rfl (by decide +kernel) ⟨Nat.le_of_ble_eq_true rfl, Nat.le_of_ble_eq_true rfl⟩) hK (va_recv hK hP (ci := 0) (q0 := 0) rfl rfl) hP hS (fun _ h => h) rfl hl.1 rfl (Nat.le_of_ble_eq_true rfl) dX5_factor_157 ⟨Nat.le_of_ble_eq_true rfl, Nat.le_of_ble_eq_true rfl⟩ (fun H locs hP hS _ _ => ?_)
                  have hP : va_P D clA ((o, .inr (0, [.int t, .ref a1, .int bl, .int (nI L), .int (nI (nmS fb L 0 9999 ((sk fb L σ.1), σ.2)).2.1), .int ((nmS fb L 0 9999 ((sk fb L σ.1), σ.2)).2.2.1), .int ((nmS fb L 0 9999 ((sk fb L σ.1), σ.2)).2.2.2.1), .int eo, .ref a8, .ref a9, .ref a10, .int ud, .int (nI (nmS fb L 0 9999 ((sk fb L σ.1), σ.2)).2.2.2.2), .int 0, .int se, .ref a15])) :: (a8, .inl (k 0, 1798, .inl d)) :: (a9, .inl (k 0, 1798, .inl (emS dr 0 ((nmS fb L 0 9999 ((sk fb L σ.1), σ.2)).2)))) :: (a1, .inl (k 0, 900, .inl fb)) :: wr) H := hP
                  refine lv_aload_n hx hb dX5_factor_160 rfl (lv_at hl 3 rfl) ?_
                  refine lv_iload_n hx hb dX5_factor_161 rfl (lv_at hl 0 rfl) ?_
                  refine w_callV (As := [.int ((nmS fb L 0 9999 ((sk fb L σ.1), σ.2)).1)]) (rest := []) C (m_emit l D k o a1 a8 a9 a10 a15 t bl eo ud 0 se wr d (emS dr 0 ((nmS fb L 0 9999 ((sk fb L σ.1), σ.2)).2)) fb L hL ((nmS fb L 0 9999 ((sk fb L σ.1), σ.2)).2) A (va_D_of hD rfl) (okS_nm hL hoks) ((nmS fb L 0 9999 ((sk fb L σ.1), σ.2)).1) (fun z => by simp only [emS, ifp_t z]; have g1 := (nm_fwd hoks z).2.1; have g2 := (okS_nm (fb := fb) (lo := 0) (hi := 9999) hL hoks).1 z; have g1 : sk fb L σ.1 < _ := g1; exact ⟨(em1_n (by omega)).1, by rw [(em1_n (dr := dr) (v := 0) (by omega)).2]; omega⟩)) (cwV 1 hts (lw_V q1823 q1825 qs47 q76 q1826) rfl rfl rfl (by decide +kernel) ⟨Nat.le_of_ble_eq_true rfl, Nat.le_of_ble_eq_true rfl⟩) hK (va_recv hK hP (ci := 0) (q0 := 0) rfl rfl) hP hS (fun _ h => h) rfl hl.1 rfl (Nat.le_of_ble_eq_true rfl) dX5_factor_162 ⟨Nat.le_of_ble_eq_true rfl, Nat.le_of_ble_eq_true rfl⟩ (fun H locs hP hS _ _ => ?_)
                  have hP : va_P D clA ((o, .inr (0, [.int t, .ref a1, .int bl, .int (nI L), .int (nI (nmS fb L 0 9999 ((sk fb L σ.1), σ.2)).2.1), .int ((nmS fb L 0 9999 ((sk fb L σ.1), σ.2)).2.2.1), .int ((nmS fb L 0 9999 ((sk fb L σ.1), σ.2)).2.2.2.1), .int eo, .ref a8, .ref a9, .ref a10, .int ud, .int (nI (nmS fb L 0 9999 ((sk fb L σ.1), σ.2)).2.2.2.2), .int 0, .int se, .ref a15])) :: (a8, .inl (k 0, 1798, .inl d)) :: (a9, .inl (k 0, 1798, .inl (emS (emS dr 0 ((nmS fb L 0 9999 ((sk fb L σ.1), σ.2)).2)) ((nmS fb L 0 9999 ((sk fb L σ.1), σ.2)).1) ((nmS fb L 0 9999 ((sk fb L σ.1), σ.2)).2)))) :: (a1, .inl (k 0, 900, .inl fb)) :: wr) H := hP
                  exact w_vret C (by first | (simp only [px, ifp_t b_4, ifp_f c_16, ifp_t (show dig _ from b_82)]; rw [← lit_em]; exact hP) | (simp only [px, ifp_t b_4, ifp_f c_16, ifp_f (show ¬ dig _ from b_82), ifp_f b_95, ifp_f b_108, ifp_f b_121]; rw [← lit_em]; exact hP)) hS dX5_factor_165
            · have b_121 := bI_nz c_121
              have hw := (okS_TS (fb := fb) (i := 2) hL hoks).1 (by rw [TS_er]; exact b_4)
              rw [TS_yes b_121] at hw
              have hw : sk fb L (sk fb L σ.1) + 6 ≤ L := hw
              refine lv_iconst (v := 2) hx hb dX5_factor_124 rfl ?_
              refine lv_goto (tgt := 129) hx hb dX5_factor_125 (by decide) ?_
              refine lv_istore_n (lv' := [(2, .int 2), (1, .int (byt fb L (sk fb L σ.1))), (0, .ref o)]) hx hb dX5_factor_129 rfl hl (by decide) rfl (fun ls hl => ?_)
              refine lv_iload_n hx hb dX5_factor_130 rfl (lv_at hl 0 rfl) ?_
              refine lv_if_ge (tgt := 145) hx hb dX5_factor_131 (by decide) (fun c_131 => ?_) (fun c_131 => ?_)
              · refine lv_iload_n hx hb dX5_factor_145 rfl (lv_at hl 0 rfl) ?_
                refine lv_istore_n (lv' := [(3, .int 2), (2, .int 2), (1, .int (byt fb L (sk fb L σ.1))), (0, .ref o)]) hx hb dX5_factor_146 rfl hl (by decide) rfl (fun ls hl => ?_)
                refine lv_aload_n hx hb dX5_factor_147 rfl (lv_at hl 3 rfl) ?_
                refine lv_iload_n hx hb dX5_factor_148 rfl (lv_at hl 1 rfl) ?_
                refine lv_if_ge (tgt := 156) hx hb dX5_factor_149 (by decide) (fun c_149 => ?_) (fun c_149 => ?_)
                · refine lv_iconst (v := 1) hx hb dX5_factor_156 rfl ?_
                  refine w_callV (As := [.int 1]) (rest := []) C (m_emit l D k o a1 a8 a9 a10 a15 t bl eo ud 0 se wr d dr fb L hL (TS fb L 2 ((sk fb L σ.1), σ.2)) A (va_D_of hD rfl) (okS_TS hL hoks) 1 (fun _ => ⟨c1, by omega⟩)) (cwV 1 hts (lw_V q1823 q1825 qs47 q76 q1826) rfl rfl rfl (by decide +kernel) ⟨Nat.le_of_ble_eq_true rfl, Nat.le_of_ble_eq_true rfl⟩) hK (va_recv hK hP (ci := 0) (q0 := 0) rfl rfl) hP hS (fun _ h => h) rfl hl.1 rfl (Nat.le_of_ble_eq_true rfl) dX5_factor_157 ⟨Nat.le_of_ble_eq_true rfl, Nat.le_of_ble_eq_true rfl⟩ (fun H locs hP hS _ _ => ?_)
                  have hP : va_P D clA ((o, .inr (0, [.int t, .ref a1, .int bl, .int (nI L), .int (nI (TS fb L 2 ((sk fb L σ.1), σ.2)).1), .int ((TS fb L 2 ((sk fb L σ.1), σ.2)).2.1), .int ((TS fb L 2 ((sk fb L σ.1), σ.2)).2.2.1), .int eo, .ref a8, .ref a9, .ref a10, .int ud, .int (nI (TS fb L 2 ((sk fb L σ.1), σ.2)).2.2.2), .int 0, .int se, .ref a15])) :: (a8, .inl (k 0, 1798, .inl d)) :: (a9, .inl (k 0, 1798, .inl (emS dr 1 (TS fb L 2 ((sk fb L σ.1), σ.2))))) :: (a1, .inl (k 0, 900, .inl fb)) :: wr) H := hP
                  refine lv_aload_n hx hb dX5_factor_160 rfl (lv_at hl 3 rfl) ?_
                  refine lv_iload_n hx hb dX5_factor_161 rfl (lv_at hl 0 rfl) ?_
                  refine w_callV (As := [.int 2]) (rest := []) C (m_emit l D k o a1 a8 a9 a10 a15 t bl eo ud 0 se wr d (emS dr 1 (TS fb L 2 ((sk fb L σ.1), σ.2))) fb L hL (TS fb L 2 ((sk fb L σ.1), σ.2)) A (va_D_of hD rfl) (okS_TS hL hoks) 2 (fun z => by simp only [emS, ifp_t z]; exact ⟨(em1_n (by omega)).1, by rw [(em1_n (dr := dr) (v := 1) (by omega)).2]; omega⟩)) (cwV 1 hts (lw_V q1823 q1825 qs47 q76 q1826) rfl rfl rfl (by decide +kernel) ⟨Nat.le_of_ble_eq_true rfl, Nat.le_of_ble_eq_true rfl⟩) hK (va_recv hK hP (ci := 0) (q0 := 0) rfl rfl) hP hS (fun _ h => h) rfl hl.1 rfl (Nat.le_of_ble_eq_true rfl) dX5_factor_162 ⟨Nat.le_of_ble_eq_true rfl, Nat.le_of_ble_eq_true rfl⟩ (fun H locs hP hS _ _ => ?_)
                  have hP : va_P D clA ((o, .inr (0, [.int t, .ref a1, .int bl, .int (nI L), .int (nI (TS fb L 2 ((sk fb L σ.1), σ.2)).1), .int ((TS fb L 2 ((sk fb L σ.1), σ.2)).2.1), .int ((TS fb L 2 ((sk fb L σ.1), σ.2)).2.2.1), .int eo, .ref a8, .ref a9, .ref a10, .int ud, .int (nI (TS fb L 2 ((sk fb L σ.1), σ.2)).2.2.2), .int 0, .int se, .ref a15])) :: (a8, .inl (k 0, 1798, .inl d)) :: (a9, .inl (k 0, 1798, .inl (emS (emS dr 1 (TS fb L 2 ((sk fb L σ.1), σ.2))) 2 (TS fb L 2 ((sk fb L σ.1), σ.2))))) :: (a1, .inl (k 0, 900, .inl fb)) :: wr) H := hP
                  exact w_vret C (by simp only [px, ifp_t b_4, ifp_f c_16, ifp_f (show ¬ dig _ from b_82), ifp_f b_95, ifp_f b_108, ifp_t b_121]; simp only [emS, ifp_t (show (TS fb L 2 (sk fb L σ.1, σ.2)).2.1 = 0 by rw [TS_er]; exact b_4)] at hP; exact hP) hS dX5_factor_165
                · exact absurd c_149 (by decide)
              · exact absurd c_131 (by decide)
          · have b_108 := bI_nz c_108
            have hw := (okS_TS (fb := fb) (i := 1) hL hoks).1 (by rw [TS_er]; exact b_4)
            rw [TS_yes b_108] at hw
            have hw : sk fb L (sk fb L σ.1) + 4 ≤ L := hw
            refine lv_iconst (v := 1) hx hb dX5_factor_111 rfl ?_
            refine lv_goto (tgt := 129) hx hb dX5_factor_112 (by decide) ?_
            refine lv_istore_n (lv' := [(2, .int 1), (1, .int (byt fb L (sk fb L σ.1))), (0, .ref o)]) hx hb dX5_factor_129 rfl hl (by decide) rfl (fun ls hl => ?_)
            refine lv_iload_n hx hb dX5_factor_130 rfl (lv_at hl 0 rfl) ?_
            refine lv_if_ge (tgt := 145) hx hb dX5_factor_131 (by decide) (fun c_131 => ?_) (fun c_131 => ?_)
            · refine lv_iload_n hx hb dX5_factor_145 rfl (lv_at hl 0 rfl) ?_
              refine lv_istore_n (lv' := [(3, .int 1), (2, .int 1), (1, .int (byt fb L (sk fb L σ.1))), (0, .ref o)]) hx hb dX5_factor_146 rfl hl (by decide) rfl (fun ls hl => ?_)
              refine lv_aload_n hx hb dX5_factor_147 rfl (lv_at hl 3 rfl) ?_
              refine lv_iload_n hx hb dX5_factor_148 rfl (lv_at hl 1 rfl) ?_
              refine lv_if_ge (tgt := 156) hx hb dX5_factor_149 (by decide) (fun c_149 => ?_) (fun c_149 => ?_)
              · refine lv_iconst (v := 1) hx hb dX5_factor_156 rfl ?_
                refine w_callV (As := [.int 1]) (rest := []) C (m_emit l D k o a1 a8 a9 a10 a15 t bl eo ud 0 se wr d dr fb L hL (TS fb L 1 ((sk fb L σ.1), σ.2)) A (va_D_of hD rfl) (okS_TS hL hoks) 1 (fun _ => ⟨c1, by omega⟩)) (cwV 1 hts (lw_V q1823 q1825 qs47 q76 q1826) rfl rfl rfl (by decide +kernel) ⟨Nat.le_of_ble_eq_true rfl, Nat.le_of_ble_eq_true rfl⟩) hK (va_recv hK hP (ci := 0) (q0 := 0) rfl rfl) hP hS (fun _ h => h) rfl hl.1 rfl (Nat.le_of_ble_eq_true rfl) dX5_factor_157 ⟨Nat.le_of_ble_eq_true rfl, Nat.le_of_ble_eq_true rfl⟩ (fun H locs hP hS _ _ => ?_)
                have hP : va_P D clA ((o, .inr (0, [.int t, .ref a1, .int bl, .int (nI L), .int (nI (TS fb L 1 ((sk fb L σ.1), σ.2)).1), .int ((TS fb L 1 ((sk fb L σ.1), σ.2)).2.1), .int ((TS fb L 1 ((sk fb L σ.1), σ.2)).2.2.1), .int eo, .ref a8, .ref a9, .ref a10, .int ud, .int (nI (TS fb L 1 ((sk fb L σ.1), σ.2)).2.2.2), .int 0, .int se, .ref a15])) :: (a8, .inl (k 0, 1798, .inl d)) :: (a9, .inl (k 0, 1798, .inl (emS dr 1 (TS fb L 1 ((sk fb L σ.1), σ.2))))) :: (a1, .inl (k 0, 900, .inl fb)) :: wr) H := hP
                refine lv_aload_n hx hb dX5_factor_160 rfl (lv_at hl 3 rfl) ?_
                refine lv_iload_n hx hb dX5_factor_161 rfl (lv_at hl 0 rfl) ?_
                refine w_callV (As := [.int 1]) (rest := []) C (m_emit l D k o a1 a8 a9 a10 a15 t bl eo ud 0 se wr d (emS dr 1 (TS fb L 1 ((sk fb L σ.1), σ.2))) fb L hL (TS fb L 1 ((sk fb L σ.1), σ.2)) A (va_D_of hD rfl) (okS_TS hL hoks) 1 (fun z => by simp only [emS, ifp_t z]; exact ⟨(em1_n (by omega)).1, by rw [(em1_n (dr := dr) (v := 1) (by omega)).2]; omega⟩)) (cwV 1 hts (lw_V q1823 q1825 qs47 q76 q1826) rfl rfl rfl (by decide +kernel) ⟨Nat.le_of_ble_eq_true rfl, Nat.le_of_ble_eq_true rfl⟩) hK (va_recv hK hP (ci := 0) (q0 := 0) rfl rfl) hP hS (fun _ h => h) rfl hl.1 rfl (Nat.le_of_ble_eq_true rfl) dX5_factor_162 ⟨Nat.le_of_ble_eq_true rfl, Nat.le_of_ble_eq_true rfl⟩ (fun H locs hP hS _ _ => ?_)
                have hP : va_P D clA ((o, .inr (0, [.int t, .ref a1, .int bl, .int (nI L), .int (nI (TS fb L 1 ((sk fb L σ.1), σ.2)).1), .int ((TS fb L 1 ((sk fb L σ.1), σ.2)).2.1), .int ((TS fb L 1 ((sk fb L σ.1), σ.2)).2.2.1), .int eo, .ref a8, .ref a9, .ref a10, .int ud, .int (nI (TS fb L 1 ((sk fb L σ.1), σ.2)).2.2.2), .int 0, .int se, .ref a15])) :: (a8, .inl (k 0, 1798, .inl d)) :: (a9, .inl (k 0, 1798, .inl (emS (emS dr 1 (TS fb L 1 ((sk fb L σ.1), σ.2))) 1 (TS fb L 1 ((sk fb L σ.1), σ.2))))) :: (a1, .inl (k 0, 900, .inl fb)) :: wr) H := hP
                exact w_vret C (by simp only [px, ifp_t b_4, ifp_f c_16, ifp_f (show ¬ dig _ from b_82), ifp_f b_95, ifp_t b_108]; simp only [emS, ifp_t (show (TS fb L 1 (sk fb L σ.1, σ.2)).2.1 = 0 by rw [TS_er]; exact b_4)] at hP; exact hP) hS dX5_factor_165
              · exact absurd c_149 (by decide)
            · exact absurd c_131 (by decide)
        · have b_95 := bI_nz c_95
          have hw := (okS_TS (fb := fb) (i := 0) hL hoks).1 (by rw [TS_er]; exact b_4)
          rw [TS_yes b_95] at hw
          have hw : sk fb L (sk fb L σ.1) + 6 ≤ L := hw
          refine lv_iconst (v := 0) hx hb dX5_factor_98 rfl ?_
          refine lv_goto (tgt := 129) hx hb dX5_factor_99 (by decide) ?_
          refine lv_istore_n (lv' := [(2, .int 0), (1, .int (byt fb L (sk fb L σ.1))), (0, .ref o)]) hx hb dX5_factor_129 rfl hl (by decide) rfl (fun ls hl => ?_)
          refine lv_iload_n hx hb dX5_factor_130 rfl (lv_at hl 0 rfl) ?_
          refine lv_if_ge (tgt := 145) hx hb dX5_factor_131 (by decide) (fun c_131 => ?_) (fun c_131 => ?_)
          · refine lv_iload_n hx hb dX5_factor_145 rfl (lv_at hl 0 rfl) ?_
            refine lv_istore_n (lv' := [(3, .int 0), (2, .int 0), (1, .int (byt fb L (sk fb L σ.1))), (0, .ref o)]) hx hb dX5_factor_146 rfl hl (by decide) rfl (fun ls hl => ?_)
            refine lv_aload_n hx hb dX5_factor_147 rfl (lv_at hl 3 rfl) ?_
            refine lv_iload_n hx hb dX5_factor_148 rfl (lv_at hl 1 rfl) ?_
            refine lv_if_ge (tgt := 156) hx hb dX5_factor_149 (by decide) (fun c_149 => ?_) (fun c_149 => ?_)
            · refine lv_iconst (v := 1) hx hb dX5_factor_156 rfl ?_
              refine w_callV (As := [.int 1]) (rest := []) C (m_emit l D k o a1 a8 a9 a10 a15 t bl eo ud 0 se wr d dr fb L hL (TS fb L 0 ((sk fb L σ.1), σ.2)) A (va_D_of hD rfl) (okS_TS hL hoks) 1 (fun _ => ⟨c1, by omega⟩)) (cwV 1 hts (lw_V q1823 q1825 qs47 q76 q1826) rfl rfl rfl (by decide +kernel) ⟨Nat.le_of_ble_eq_true rfl, Nat.le_of_ble_eq_true rfl⟩) hK (va_recv hK hP (ci := 0) (q0 := 0) rfl rfl) hP hS (fun _ h => h) rfl hl.1 rfl (Nat.le_of_ble_eq_true rfl) dX5_factor_157 ⟨Nat.le_of_ble_eq_true rfl, Nat.le_of_ble_eq_true rfl⟩ (fun H locs hP hS _ _ => ?_)
              have hP : va_P D clA ((o, .inr (0, [.int t, .ref a1, .int bl, .int (nI L), .int (nI (TS fb L 0 ((sk fb L σ.1), σ.2)).1), .int ((TS fb L 0 ((sk fb L σ.1), σ.2)).2.1), .int ((TS fb L 0 ((sk fb L σ.1), σ.2)).2.2.1), .int eo, .ref a8, .ref a9, .ref a10, .int ud, .int (nI (TS fb L 0 ((sk fb L σ.1), σ.2)).2.2.2), .int 0, .int se, .ref a15])) :: (a8, .inl (k 0, 1798, .inl d)) :: (a9, .inl (k 0, 1798, .inl (emS dr 1 (TS fb L 0 ((sk fb L σ.1), σ.2))))) :: (a1, .inl (k 0, 900, .inl fb)) :: wr) H := hP
              refine lv_aload_n hx hb dX5_factor_160 rfl (lv_at hl 3 rfl) ?_
              refine lv_iload_n hx hb dX5_factor_161 rfl (lv_at hl 0 rfl) ?_
              refine w_callV (As := [.int 0]) (rest := []) C (m_emit l D k o a1 a8 a9 a10 a15 t bl eo ud 0 se wr d (emS dr 1 (TS fb L 0 ((sk fb L σ.1), σ.2))) fb L hL (TS fb L 0 ((sk fb L σ.1), σ.2)) A (va_D_of hD rfl) (okS_TS hL hoks) 0 (fun z => by simp only [emS, ifp_t z]; exact ⟨(em1_n (by omega)).1, by rw [(em1_n (dr := dr) (v := 1) (by omega)).2]; omega⟩)) (cwV 1 hts (lw_V q1823 q1825 qs47 q76 q1826) rfl rfl rfl (by decide +kernel) ⟨Nat.le_of_ble_eq_true rfl, Nat.le_of_ble_eq_true rfl⟩) hK (va_recv hK hP (ci := 0) (q0 := 0) rfl rfl) hP hS (fun _ h => h) rfl hl.1 rfl (Nat.le_of_ble_eq_true rfl) dX5_factor_162 ⟨Nat.le_of_ble_eq_true rfl, Nat.le_of_ble_eq_true rfl⟩ (fun H locs hP hS _ _ => ?_)
              have hP : va_P D clA ((o, .inr (0, [.int t, .ref a1, .int bl, .int (nI L), .int (nI (TS fb L 0 ((sk fb L σ.1), σ.2)).1), .int ((TS fb L 0 ((sk fb L σ.1), σ.2)).2.1), .int ((TS fb L 0 ((sk fb L σ.1), σ.2)).2.2.1), .int eo, .ref a8, .ref a9, .ref a10, .int ud, .int (nI (TS fb L 0 ((sk fb L σ.1), σ.2)).2.2.2), .int 0, .int se, .ref a15])) :: (a8, .inl (k 0, 1798, .inl d)) :: (a9, .inl (k 0, 1798, .inl (emS (emS dr 1 (TS fb L 0 ((sk fb L σ.1), σ.2))) 0 (TS fb L 0 ((sk fb L σ.1), σ.2))))) :: (a1, .inl (k 0, 900, .inl fb)) :: wr) H := hP
              exact w_vret C (by simp only [px, ifp_t b_4, ifp_f c_16, ifp_f (show ¬ dig _ from b_82), ifp_t b_95]; simp only [emS, ifp_t (show (TS fb L 0 (sk fb L σ.1, σ.2)).2.1 = 0 by rw [TS_er]; exact b_4)] at hP; exact hP) hS dX5_factor_165
            · exact absurd c_149 (by decide)
          · exact absurd c_131 (by decide)
      · have b_82 := bI_nz c_82
        refine lv_iconst (v := (-1)) hx hb dX5_factor_85 rfl ?_
        refine lv_goto (tgt := 129) hx hb dX5_factor_86 (by decide) ?_
        refine lv_istore_n (lv' := [(2, .int (-1)), (1, .int (byt fb L (sk fb L σ.1))), (0, .ref o)]) hx hb dX5_factor_129 rfl hl (by decide) rfl (fun ls hl => ?_)
        refine lv_iload_n hx hb dX5_factor_130 rfl (lv_at hl 0 rfl) ?_
        refine lv_if_ge (tgt := 145) hx hb dX5_factor_131 (by decide) (fun c_131 => ?_) (fun c_131 => ?_)
        · exact absurd c_131 (by decide)
        · refine lv_aload_n hx hb dX5_factor_134 rfl (lv_at hl 2 rfl) ?_
          refine lv_iconst (v := 0) hx hb dX5_factor_135 rfl ?_
          refine lv_sipush (v := 9999) hx hb dX5_factor_136 rfl ?_
          refine w_callV (As := [.int 0, .int 9999]) (rest := []) C (m_number l D k o a1 a8 a9 a10 a15 t bl eo ud 0 se wr d dr fb L hL ((sk fb L σ.1), σ.2) A (va_D_of hD rfl) hoks 0 9999) (cwV 2 hts (lw_V q1768 q1770 qs38 q76 q1771) rfl rfl rfl (by decide +kernel) ⟨Nat.le_of_ble_eq_true rfl, Nat.le_of_ble_eq_true rfl⟩) hK (va_recv hK hP (ci := 0) (q0 := 0) rfl rfl) hP hS (fun _ h => h) rfl hl.1 rfl (Nat.le_of_ble_eq_true rfl) dX5_factor_139 ⟨Nat.le_of_ble_eq_true rfl, Nat.le_of_ble_eq_true rfl⟩ (fun H locs hP hS _ _ => ?_)
          have hP : va_P D clA ((o, .inr (0, [.int t, .ref a1, .int bl, .int (nI L), .int (nI (nmS fb L 0 9999 ((sk fb L σ.1), σ.2)).2.1), .int ((nmS fb L 0 9999 ((sk fb L σ.1), σ.2)).2.2.1), .int ((nmS fb L 0 9999 ((sk fb L σ.1), σ.2)).2.2.2.1), .int eo, .ref a8, .ref a9, .ref a10, .int ud, .int (nI (nmS fb L 0 9999 ((sk fb L σ.1), σ.2)).2.2.2.2), .int 0, .int se, .ref a15])) :: (a8, .inl (k 0, 1798, .inl d)) :: (a9, .inl (k 0, 1798, .inl dr)) :: (a1, .inl (k 0, 900, .inl fb)) :: wr) H := hP
          refine lv_goto (tgt := 146) hx hb dX5_factor_142 (by decide) ?_
          refine lv_istore_n (lv' := [(3, .int ((nmS fb L 0 9999 ((sk fb L σ.1), σ.2)).1)), (2, .int (-1)), (1, .int (byt fb L (sk fb L σ.1))), (0, .ref o)]) hx hb dX5_factor_146 rfl hl (by decide) rfl (fun ls hl => ?_)
          refine lv_aload_n hx hb dX5_factor_147 rfl (lv_at hl 3 rfl) ?_
          refine lv_iload_n hx hb dX5_factor_148 rfl (lv_at hl 1 rfl) ?_
          refine lv_if_ge (tgt := 156) hx hb dX5_factor_149 (by decide) (fun c_149 => ?_) (fun c_149 => ?_)
          · exact absurd c_149 (by decide)
          · refine lv_iconst (v := 0) hx hb dX5_factor_152 rfl ?_
            refine lv_goto (tgt := 157) hx hb dX5_factor_153 (by decide) ?_
            refine w_callV (As := [.int 0]) (rest := []) C (m_emit l D k o a1 a8 a9 a10 a15 t bl eo ud 0 se wr d dr fb L hL ((nmS fb L 0 9999 ((sk fb L σ.1), σ.2)).2) A (va_D_of hD rfl) (okS_nm hL hoks) 0 (fun z => ⟨c1, by omega⟩)) (cwV 1 hts (lw_V q1823 q1825 qs47 q76 q1826) rfl rfl rfl (by decide +kernel) ⟨Nat.le_of_ble_eq_true rfl, Nat.le_of_ble_eq_true rfl⟩) hK (va_recv hK hP (ci := 0) (q0 := 0) rfl rfl) hP hS (fun _ h => h) rfl hl.1 rfl (Nat.le_of_ble_eq_true rfl) dX5_factor_157 ⟨Nat.le_of_ble_eq_true rfl, Nat.le_of_ble_eq_true rfl⟩ (fun H locs hP hS _ _ => ?_)
            have hP : va_P D clA ((o, .inr (0, [.int t, .ref a1, .int bl, .int (nI L), .int (nI (nmS fb L 0 9999 ((sk fb L σ.1), σ.2)).2.1), .int ((nmS fb L 0 9999 ((sk fb L σ.1), σ.2)).2.2.1), .int ((nmS fb L 0 9999 ((sk fb L σ.1), σ.2)).2.2.2.1), .int eo, .ref a8, .ref a9, .ref a10, .int ud, .int (nI (nmS fb L 0 9999 ((sk fb L σ.1), σ.2)).2.2.2.2), .int 0, .int se, .ref a15])) :: (a8, .inl (k 0, 1798, .inl d)) :: (a9, .inl (k 0, 1798, .inl (emS dr 0 ((nmS fb L 0 9999 ((sk fb L σ.1), σ.2)).2)))) :: (a1, .inl (k 0, 900, .inl fb)) :: wr) H := hP
            refine lv_aload_n hx hb dX5_factor_160 rfl (lv_at hl 3 rfl) ?_
            refine lv_iload_n hx hb dX5_factor_161 rfl (lv_at hl 0 rfl) ?_
            refine w_callV (As := [.int ((nmS fb L 0 9999 ((sk fb L σ.1), σ.2)).1)]) (rest := []) C (m_emit l D k o a1 a8 a9 a10 a15 t bl eo ud 0 se wr d (emS dr 0 ((nmS fb L 0 9999 ((sk fb L σ.1), σ.2)).2)) fb L hL ((nmS fb L 0 9999 ((sk fb L σ.1), σ.2)).2) A (va_D_of hD rfl) (okS_nm hL hoks) ((nmS fb L 0 9999 ((sk fb L σ.1), σ.2)).1) (fun z => by simp only [emS, ifp_t z]; have g1 := (nm_fwd hoks z).2.1; have g2 := (okS_nm (fb := fb) (lo := 0) (hi := 9999) hL hoks).1 z; have g1 : sk fb L σ.1 < _ := g1; exact ⟨(em1_n (by omega)).1, by rw [(em1_n (dr := dr) (v := 0) (by omega)).2]; omega⟩)) (cwV 1 hts (lw_V q1823 q1825 qs47 q76 q1826) rfl rfl rfl (by decide +kernel) ⟨Nat.le_of_ble_eq_true rfl, Nat.le_of_ble_eq_true rfl⟩) hK (va_recv hK hP (ci := 0) (q0 := 0) rfl rfl) hP hS (fun _ h => h) rfl hl.1 rfl (Nat.le_of_ble_eq_true rfl) dX5_factor_162 ⟨Nat.le_of_ble_eq_true rfl, Nat.le_of_ble_eq_true rfl⟩ (fun H locs hP hS _ _ => ?_)
            have hP : va_P D clA ((o, .inr (0, [.int t, .ref a1, .int bl, .int (nI L), .int (nI (nmS fb L 0 9999 ((sk fb L σ.1), σ.2)).2.1), .int ((nmS fb L 0 9999 ((sk fb L σ.1), σ.2)).2.2.1), .int ((nmS fb L 0 9999 ((sk fb L σ.1), σ.2)).2.2.2.1), .int eo, .ref a8, .ref a9, .ref a10, .int ud, .int (nI (nmS fb L 0 9999 ((sk fb L σ.1), σ.2)).2.2.2.2), .int 0, .int se, .ref a15])) :: (a8, .inl (k 0, 1798, .inl d)) :: (a9, .inl (k 0, 1798, .inl (emS (emS dr 0 ((nmS fb L 0 9999 ((sk fb L σ.1), σ.2)).2)) ((nmS fb L 0 9999 ((sk fb L σ.1), σ.2)).1) ((nmS fb L 0 9999 ((sk fb L σ.1), σ.2)).2)))) :: (a1, .inl (k 0, 900, .inl fb)) :: wr) H := hP
            exact w_vret C (by first | (simp only [px, ifp_t b_4, ifp_f c_16, ifp_t (show dig _ from b_82)]; rw [← lit_em]; exact hP) | (simp only [px, ifp_t b_4, ifp_f c_16, ifp_f (show ¬ dig _ from b_82), ifp_f b_95, ifp_f b_108, ifp_f b_121]; rw [← lit_em]; exact hP)) hS dX5_factor_165
    · have hlt := byt_lt c_16 (by decide)
      have hok1 := okS_s1 hL hok c_16 (by decide)
      have q := px_ok (fb := fb) hL f 2 1 _ hok1 (fun _ => by show 3 * (L - (sk fb L σ.1 + 1)) + 3 ≤ f; omega)
      refine lv_aload_n hx hb dX5_factor_19 rfl (lv_at hl 1 rfl) ?_
      refine va_get hx hb hts in_X5 hown hK hP 0 rfl rfl 13 (by decide) (hts _ q1675) (fun _ h => h) rfl dX5_factor_20 ?_
      refine lv_iconst (v := 4) hx hb dX5_factor_23 rfl ?_
      refine lv_icmp_ne (tgt := 37) hx hb dX5_factor_24 (by decide) (fun c_24 => ?_) (fun c_24 => ?_)
      · refine lv_aload_n hx hb dX5_factor_37 rfl (lv_at hl 1 rfl) ?_
        refine lv_dup hx hb dX5_factor_38 rfl ?_
        refine va_get hx hb hts in_X5 hown hK hP 0 rfl rfl 4 (by decide) (hts _ q1666) (fun _ h => h) rfl dX5_factor_39 ?_
        refine lv_iconst (v := 1) hx hb dX5_factor_42 rfl ?_
        refine lv_iadd hx hb dX5_factor_43 ?_
        refine w_topi (y := nI ((sk fb L σ.1) + 1)) (nI_add (sk fb L σ.1) 1) ?_
        refine va_put hx hb hts in_X5 tyX5 tyX5_ok nmX5 hown hK hP (va_D_of hD rfl) hS 0 rfl rfl 4 (by decide) (hts _ q1666) (fun _ h => h) rfl rfl rfl rfl (Nat.le_of_ble_eq_true rfl) dX5_factor_44 (fun H locs hP _ hS => ?_)
        have hP : va_P D clA ((o, .inr (0, [.int t, .ref a1, .int bl, .int (nI L), .int (nI ((sk fb L σ.1) + 1)), .int σ.2.1, .int σ.2.2.1, .int eo, .ref a8, .ref a9, .ref a10, .int ud, .int (nI σ.2.2.2), .int 0, .int se, .ref a15])) :: (a8, .inl (k 0, 1798, .inl d)) :: (a9, .inl (k 0, 1798, .inl dr)) :: (a1, .inl (k 0, 900, .inl fb)) :: wr) H := hP
        refine lv_aload_n hx hb dX5_factor_47 rfl (lv_at hl 1 rfl) ?_
        refine lv_dup hx hb dX5_factor_48 rfl ?_
        refine va_get hx hb hts in_X5 hown hK hP 0 rfl rfl 13 (by decide) (hts _ q1675) (fun _ h => h) rfl dX5_factor_49 ?_
        refine lv_iconst (v := 1) hx hb dX5_factor_52 rfl ?_
        refine lv_iadd hx hb dX5_factor_53 ?_
        refine w_topi (y := 1) (by decide) ?_
        refine va_put hx hb hts in_X5 tyX5 tyX5_ok nmX5 hown hK hP (va_D_of hD rfl) hS 0 rfl rfl 13 (by decide) (hts _ q1675) (fun _ h => h) rfl rfl rfl rfl (Nat.le_of_ble_eq_true rfl) dX5_factor_54 (fun H locs hP _ hS => ?_)
        have hP : va_P D clA ((o, .inr (0, [.int t, .ref a1, .int bl, .int (nI L), .int (nI ((sk fb L σ.1) + 1)), .int σ.2.1, .int σ.2.2.1, .int eo, .ref a8, .ref a9, .ref a10, .int ud, .int (nI σ.2.2.2), .int 1, .int se, .ref a15])) :: (a8, .inl (k 0, 1798, .inl d)) :: (a9, .inl (k 0, 1798, .inl dr)) :: (a1, .inl (k 0, 900, .inl fb)) :: wr) H := hP
        refine lv_aload_n hx hb dX5_factor_57 rfl (lv_at hl 1 rfl) ?_
        refine x_callV (As := []) (rest := []) C (m_sum_1 l D k o a1 a8 a9 a10 a15 t bl eo ud se wr d dr fb L hL (((sk fb L σ.1) + 1), σ.2) A (va_D_of hD rfl) hok1 sA sV f (fun _ => by show 3 * (L - (sk fb L σ.1 + 1)) + 3 ≤ f; omega) (fun _ => ⟨c1, by show 2 * dN dr 5 + 3 * (L - (sk fb L σ.1 + 1)) + 1 ≤ 3000; omega⟩)) (cwV 0 hts (lw_V q1804 q1806 qs43 q76 q1807) rfl rfl rfl (by decide +kernel) ⟨Nat.le_of_ble_eq_true rfl, Nat.le_of_ble_eq_true rfl⟩) hK (va_recv hK hP (ci := 0) (q0 := 0) rfl rfl) mv2_MS hP (fun U hU hW => MS_to hX hS (fun _ h => h) U hU hW) hS (fun _ h => h) rfl hl.1 rfl (Nat.le_of_ble_eq_true rfl) dX5_factor_58 ⟨Nat.le_of_ble_eq_true rfl, Nat.le_of_ble_eq_true rfl⟩ (fun H locs hP hS _ _ => ?_)
        have hP : va_P D clA ((o, .inr (0, [.int t, .ref a1, .int bl, .int (nI L), .int (nI (px fb L f 2 1 (((sk fb L σ.1) + 1), σ.2)).1.1), .int ((px fb L f 2 1 (((sk fb L σ.1) + 1), σ.2)).1.2.1), .int ((px fb L f 2 1 (((sk fb L σ.1) + 1), σ.2)).1.2.2.1), .int eo, .ref a8, .ref a9, .ref a10, .int ud, .int (nI (px fb L f 2 1 (((sk fb L σ.1) + 1), σ.2)).1.2.2.2), .int 1, .int se, .ref a15])) :: (a8, .inl (k 0, 1798, .inl d)) :: (a9, .inl (k 0, 1798, .inl (emL dr (px fb L f 2 1 (((sk fb L σ.1) + 1), σ.2)).2))) :: (a1, .inl (k 0, 900, .inl fb)) :: wr) H := hP
        refine lv_aload_n hx hb dX5_factor_61 rfl (lv_at hl 1 rfl) ?_
        refine lv_bipush (v := 41) hx hb dX5_factor_62 rfl ?_
        refine w_callV (As := [.int 41]) (rest := []) C (m_expect l D k o a1 a8 a9 a10 a15 t bl eo ud 1 se wr d (emL dr (px fb L f 2 1 (((sk fb L σ.1) + 1), σ.2)).2) fb L hL ((px fb L f 2 1 (((sk fb L σ.1) + 1), σ.2)).1) A (va_D_of hD rfl) q.1 41) (cwV 1 hts (lw_V q1816 q1818 qs46 q76 q1819) rfl rfl rfl (by decide +kernel) ⟨Nat.le_of_ble_eq_true rfl, Nat.le_of_ble_eq_true rfl⟩) hK (va_recv hK hP (ci := 0) (q0 := 0) rfl rfl) hP hS (fun _ h => h) rfl hl.1 rfl (Nat.le_of_ble_eq_true rfl) dX5_factor_64 ⟨Nat.le_of_ble_eq_true rfl, Nat.le_of_ble_eq_true rfl⟩ (fun H locs hP hS _ _ => ?_)
        have hP : va_P D clA ((o, .inr (0, [.int t, .ref a1, .int bl, .int (nI L), .int (nI (exS fb L 41 ((px fb L f 2 1 (((sk fb L σ.1) + 1), σ.2)).1)).1), .int ((exS fb L 41 ((px fb L f 2 1 (((sk fb L σ.1) + 1), σ.2)).1)).2.1), .int ((exS fb L 41 ((px fb L f 2 1 (((sk fb L σ.1) + 1), σ.2)).1)).2.2.1), .int eo, .ref a8, .ref a9, .ref a10, .int ud, .int (nI (exS fb L 41 ((px fb L f 2 1 (((sk fb L σ.1) + 1), σ.2)).1)).2.2.2), .int 1, .int se, .ref a15])) :: (a8, .inl (k 0, 1798, .inl d)) :: (a9, .inl (k 0, 1798, .inl (emL dr (px fb L f 2 1 (((sk fb L σ.1) + 1), σ.2)).2))) :: (a1, .inl (k 0, 900, .inl fb)) :: wr) H := hP
        refine lv_aload_n hx hb dX5_factor_67 rfl (lv_at hl 1 rfl) ?_
        refine lv_dup hx hb dX5_factor_68 rfl ?_
        refine va_get hx hb hts in_X5 hown hK hP 0 rfl rfl 13 (by decide) (hts _ q1675) (fun _ h => h) rfl dX5_factor_69 ?_
        refine lv_iconst (v := 1) hx hb dX5_factor_72 rfl ?_
        refine lv_isub hx hb dX5_factor_73 ?_
        refine w_topi (y := 0) (by decide) ?_
        refine va_put hx hb hts in_X5 tyX5 tyX5_ok nmX5 hown hK hP (va_D_of hD rfl) hS 0 rfl rfl 13 (by decide) (hts _ q1675) (fun _ h => h) rfl rfl rfl rfl (Nat.le_of_ble_eq_true rfl) dX5_factor_74 (fun H locs hP _ hS => ?_)
        have hP : va_P D clA ((o, .inr (0, [.int t, .ref a1, .int bl, .int (nI L), .int (nI (exS fb L 41 ((px fb L f 2 1 (((sk fb L σ.1) + 1), σ.2)).1)).1), .int ((exS fb L 41 ((px fb L f 2 1 (((sk fb L σ.1) + 1), σ.2)).1)).2.1), .int ((exS fb L 41 ((px fb L f 2 1 (((sk fb L σ.1) + 1), σ.2)).1)).2.2.1), .int eo, .ref a8, .ref a9, .ref a10, .int ud, .int (nI (exS fb L 41 ((px fb L f 2 1 (((sk fb L σ.1) + 1), σ.2)).1)).2.2.2), .int 0, .int se, .ref a15])) :: (a8, .inl (k 0, 1798, .inl d)) :: (a9, .inl (k 0, 1798, .inl (emL dr (px fb L f 2 1 (((sk fb L σ.1) + 1), σ.2)).2))) :: (a1, .inl (k 0, 900, .inl fb)) :: wr) H := hP
        exact w_vret C (by simp only [px, ifp_t b_4, ifp_t c_16, ifp_F, Nat.reduceEqDiff]; exact hP) hS dX5_factor_77
      · exact absurd c_24 (by decide)
  · have b_4 := bI_0.mp c_4
    exact w_vret C (by rw [px_bad b_4]; exact hP) hS dX5_factor_7
set_option maxHeartbeats 16000000 in
theorem m_term_0 (l : Launch) (D : va_G) (k : Nat → ClassId) (o a1 a8 a9 a10 a15 : Nat) (t bl eo ud se : Int32) (wr : va_W) (d dr fb : Nat → Int32) (L : Nat) (hL : L ≤ 900) (σ : PS) (A : Nat → Prop) (hD : va_D A ((o, .inr (0, [.int t, .ref a1, .int bl, .int (nI L), .int (nI σ.1), .int σ.2.1, .int σ.2.2.1, .int eo, .ref a8, .ref a9, .ref a10, .int ud, .int (nI σ.2.2.2), .int 0, .int se, .ref a15])) :: (a8, .inl (k 0, 1798, .inl d)) :: (a9, .inl (k 0, 1798, .inl dr)) :: (a1, .inl (k 0, 900, .inl fb)) :: wr)) (hok : okS L σ) (sA sV : Nat → Nat) (f : Nat) (hf : σ.2.1 = 0 → nee 1 (L - σ.1) ≤ f) (h5 : σ.2.1 = 0 → dr 5 = nI (dN dr 5) ∧ 2 * dN dr 5 + 3 * (L - σ.1) + 1 ≤ 3000) : xM l D k yX5_term cX5_term 2 none 18 390 [.ref o] ((o, .inr (0, [.int t, .ref a1, .int bl, .int (nI L), .int (nI σ.1), .int σ.2.1, .int σ.2.2.1, .int eo, .ref a8, .ref a9, .ref a10, .int ud, .int (nI σ.2.2.2), .int 0, .int se, .ref a15])) :: (a8, .inl (k 0, 1798, .inl d)) :: (a9, .inl (k 0, 1798, .inl dr)) :: (a1, .inl (k 0, 900, .inl fb)) :: wr) (MS A sA sV) (none) ((o, .inr (0, [.int t, .ref a1, .int bl, .int (nI L), .int (nI (px fb L f 1 0 σ).1.1), .int ((px fb L f 1 0 σ).1.2.1), .int ((px fb L f 1 0 σ).1.2.2.1), .int eo, .ref a8, .ref a9, .ref a10, .int ud, .int (nI (px fb L f 1 0 σ).1.2.2.2), .int 0, .int se, .ref a15])) :: (a8, .inl (k 0, 1798, .inl d)) :: (a9, .inl (k 0, 1798, .inl (emL dr (px fb L f 1 0 σ).2))) :: (a1, .inl (k 0, 900, .inl fb)) :: wr) A := by
  refine xM_of (by decide) (Nat.le_of_ble_eq_true rfl) ?_
  intro p e s m below meth c ls C hK hX hP hS hl
  obtain ⟨hE, hT⟩ := id hX
  obtain ⟨hx, hb, hr, hml, hown, hts, hlk⟩ := id C
  have hl : lv_has ls 2 [(0, .ref o)] := hl
  rcases Classical.em (σ.2.1 = 0) with hg0 | hg0
  · have hp0 := hok.1 hg0
    have hf := hf hg0
    obtain ⟨c1, c2⟩ := h5 hg0
    obtain ⟨f, rfl⟩ : ∃ g, f = g + 1 := ⟨f - 1, by have hf : 3 * (L - σ.1) + 2 ≤ f := hf; omega⟩
    have hf : 3 * (L - σ.1) + 2 ≤ f + 1 := hf
    have q0 := px_ok (fb := fb) hL f 0 0 σ hok (fun _ => by show 3 * (L - σ.1) + 1 ≤ f; omega)
    refine lv_aload_n hx hb dX5_term_0 rfl (lv_at hl 0 rfl) ?_
    refine x_callV (As := []) (rest := []) C (m_factor_0 l D k o a1 a8 a9 a10 a15 t bl eo ud se wr d dr fb L hL σ A (va_D_of hD rfl) hok sA sV f (fun _ => by show 3 * (L - σ.1) + 1 ≤ f; omega) h5) (cwV 0 hts (lw_V q1812 q1814 qs45 q76 q1815) rfl rfl rfl (by decide +kernel) ⟨Nat.le_of_ble_eq_true rfl, Nat.le_of_ble_eq_true rfl⟩) hK (va_recv hK hP (ci := 0) (q0 := 0) rfl rfl) mv2_MS hP (fun U hU hW => MS_to hX hS (fun _ h => h) U hU hW) hS (fun _ h => h) rfl hl.1 rfl (Nat.le_of_ble_eq_true rfl) dX5_term_1 ⟨Nat.le_of_ble_eq_true rfl, Nat.le_of_ble_eq_true rfl⟩ (fun H locs hP hS _ _ => ?_)
    have hP : va_P D clA ((o, .inr (0, [.int t, .ref a1, .int bl, .int (nI L), .int (nI (px fb L f 0 0 σ).1.1), .int ((px fb L f 0 0 σ).1.2.1), .int ((px fb L f 0 0 σ).1.2.2.1), .int eo, .ref a8, .ref a9, .ref a10, .int ud, .int (nI (px fb L f 0 0 σ).1.2.2.2), .int 0, .int se, .ref a15])) :: (a8, .inl (k 0, 1798, .inl d)) :: (a9, .inl (k 0, 1798, .inl (emL dr (px fb L f 0 0 σ).2))) :: (a1, .inl (k 0, 900, .inl fb)) :: wr) H := hP
    have loop_4 : ∀ (n : Nat) (τ : PS) (cs : List Int32), (okS L τ) → (τ.2.1 = 0 → 3 * (L - τ.1) + 1 ≤ n) → (τ.2.1 = 0 → 2 * (dN dr 5 + cs.length) + 3 * (L - τ.1) ≤ 3000) → ((px fb L n 3 0 τ).1 = (px fb L (f + 1) 1 0 σ).1) → (cs ++ (px fb L n 3 0 τ).2 = (px fb L (f + 1) 1 0 σ).2) → (1 ≤ n) → ∀ (H : Heap) (locs : List Loc), va_P D clA ((o, .inr (0, [.int t, .ref a1, .int bl, .int (nI L), .int (nI τ.1), .int τ.2.1, .int τ.2.2.1, .int eo, .ref a8, .ref a9, .ref a10, .int ud, .int (nI τ.2.2.2), .int 0, .int se, .ref a15])) :: (a8, .inl (k 0, 1798, .inl d)) :: (a9, .inl (k 0, 1798, .inl (emL dr cs))) :: (a1, .inl (k 0, 900, .inl fb)) :: wr) H → va_S A s.heap H locs → ∀ (ls : Array Slot), lv_has ls 2 [(0, .ref o)] → W p l e (Rm 18 390 0 0) s m ([.ref o] : List Value).toArray below meth c H locs 0 0 (MQ below (wQ D (none) ((o, .inr (0, [.int t, .ref a1, .int bl, .int (nI L), .int (nI (px fb L (f + 1) 1 0 σ).1.1), .int ((px fb L (f + 1) 1 0 σ).1.2.1), .int ((px fb L (f + 1) 1 0 σ).1.2.2.1), .int eo, .ref a8, .ref a9, .ref a10, .int ud, .int (nI (px fb L (f + 1) 1 0 σ).1.2.2.2), .int 0, .int se, .ref a15])) :: (a8, .inl (k 0, 1798, .inl d)) :: (a9, .inl (k 0, 1798, .inl (emL dr (px fb L (f + 1) 1 0 σ).2))) :: (a1, .inl (k 0, 900, .inl fb)) :: wr) A) ([.ref o] : List Value).toArray s 0 0 A) (F0 m 4 ls []) := by
      intro n
      induction n with
      | zero =>
        intro τ cs ok2 hf2 hr2 he1 he2 hn
        exact absurd hn (by omega)
      | succ n ih_4 =>
        intro τ cs ok2 hf2 hr2 he1 he2 hn H locs hP hS ls hl
        refine lv_aload_n hx hb dX5_term_4 rfl (lv_at hl 0 rfl) ?_
        refine r_callV (As := []) (rest := []) C (m_isGood l D k o τ.2.1 ([.int t, .ref a1, .int bl, .int (nI L), .int (nI τ.1), .int τ.2.1, .int τ.2.2.1, .int eo, .ref a8, .ref a9, .ref a10, .int ud, .int (nI τ.2.2.2), .int 0, .int se, .ref a15] : List Value) rfl) (cwV 0 hts (lw_V q1731 q1733 qs32 q76 q1734) rfl rfl rfl (by decide +kernel) ⟨Nat.le_of_ble_eq_true rfl, Nat.le_of_ble_eq_true rfl⟩) hK (va_recv hK hP (ci := 0) (q0 := 0) rfl rfl) (hP.sub [0] rfl) rfl hl.1 rfl (Nat.le_of_ble_eq_true rfl) dX5_term_5 ⟨Nat.le_of_ble_eq_true rfl, Nat.le_of_ble_eq_true rfl⟩ ?_
        refine lv_if_eq (tgt := 74) hx hb dX5_term_8 (by decide) (fun c_8 => ?_) (fun c_8 => ?_)
        · have b_8 := bI_0.mp c_8
          exact w_vret C (by rw [px_bad b_8] at he1 he2; rw [List.append_nil] at he2; rw [← he1, ← he2]; exact hP) hS dX5_term_74
        · have b_8 := bI_nz c_8
          have hp := ok2.1 b_8
          have hs := sk_in (fb := fb) hp
          have hf2 := hf2 b_8
          have hr2 := hr2 b_8
          obtain ⟨d1, d2⟩ := room5 c1 hr2
          have hss : sk fb L (sk fb L τ.1) = sk fb L τ.1 := sk_sk hp
          refine lv_aload_n hx hb dX5_term_11 rfl (lv_at hl 0 rfl) ?_
          refine w_callV (As := []) (rest := []) C (m_next l D k o a1 a8 a9 a10 a15 t bl τ.2.1 τ.2.2.1 eo ud (nI τ.2.2.2) 0 se wr d (emL dr cs) fb L hL τ.1 A (va_D_of hD rfl) hp) (cwV 0 hts (lw_V q1735 q1737 qs33 q76 q1738) rfl rfl rfl (by decide +kernel) ⟨Nat.le_of_ble_eq_true rfl, Nat.le_of_ble_eq_true rfl⟩) hK (va_recv hK hP (ci := 0) (q0 := 0) rfl rfl) hP hS (fun _ h => h) rfl hl.1 rfl (Nat.le_of_ble_eq_true rfl) dX5_term_12 ⟨Nat.le_of_ble_eq_true rfl, Nat.le_of_ble_eq_true rfl⟩ (fun H locs hP hS _ _ => ?_)
          have hP : va_P D clA ((o, .inr (0, [.int t, .ref a1, .int bl, .int (nI L), .int (nI (sk fb L τ.1)), .int τ.2.1, .int τ.2.2.1, .int eo, .ref a8, .ref a9, .ref a10, .int ud, .int (nI τ.2.2.2), .int 0, .int se, .ref a15])) :: (a8, .inl (k 0, 1798, .inl d)) :: (a9, .inl (k 0, 1798, .inl (emL dr cs))) :: (a1, .inl (k 0, 900, .inl fb)) :: wr) H := hP
          refine lv_bipush (v := 42) hx hb dX5_term_15 rfl ?_
          refine lv_icmp_eq (tgt := 29) hx hb dX5_term_17 (by decide) (fun c_17 => ?_) (fun c_17 => ?_)
          · have ho : byt fb L (sk fb L τ.1) = 42 ∨ byt fb L (sk fb L τ.1) = 47 := Or.inl c_17
            have hlt : sk fb L τ.1 < L := ho.elim (fun e => byt_lt e (by decide)) (fun e => byt_lt e (by decide))
            have ok3 : okS L (sk fb L τ.1 + 1, τ.2) := ho.elim (fun e => okS_s1 hL ok2 e (by decide)) (fun e => okS_s1 hL ok2 e (by decide))
            have q := px_ok (fb := fb) hL n 0 0 (sk fb L τ.1 + 1, τ.2) ok3 (fun _ => by show 3 * (L - (sk fb L τ.1 + 1)) + 1 ≤ n; omega)
            refine lv_aload_n hx hb dX5_term_29 rfl (lv_at hl 0 rfl) ?_
            refine w_callV (As := []) (rest := []) C (m_next l D k o a1 a8 a9 a10 a15 t bl τ.2.1 τ.2.2.1 eo ud (nI τ.2.2.2) 0 se wr d (emL dr cs) fb L hL (sk fb L τ.1) A (va_D_of hD rfl) hs.2) (cwV 0 hts (lw_V q1735 q1737 qs33 q76 q1738) rfl rfl rfl (by decide +kernel) ⟨Nat.le_of_ble_eq_true rfl, Nat.le_of_ble_eq_true rfl⟩) hK (va_recv hK hP (ci := 0) (q0 := 0) rfl rfl) hP hS (fun _ h => h) rfl hl.1 rfl (Nat.le_of_ble_eq_true rfl) dX5_term_30 ⟨Nat.le_of_ble_eq_true rfl, Nat.le_of_ble_eq_true rfl⟩ (fun H locs hP hS _ _ => ?_)
            rw [hss] at hP
            rw [hss]
            have hP : va_P D clA ((o, .inr (0, [.int t, .ref a1, .int bl, .int (nI L), .int (nI (sk fb L τ.1)), .int τ.2.1, .int τ.2.2.1, .int eo, .ref a8, .ref a9, .ref a10, .int ud, .int (nI τ.2.2.2), .int 0, .int se, .ref a15])) :: (a8, .inl (k 0, 1798, .inl d)) :: (a9, .inl (k 0, 1798, .inl (emL dr cs))) :: (a1, .inl (k 0, 900, .inl fb)) :: wr) H := hP
            refine lv_bipush (v := 42) hx hb dX5_term_33 rfl ?_
            refine lv_icmp_ne (tgt := 42) hx hb dX5_term_35 (by decide) (fun c_35 => ?_) (fun c_35 => ?_)
            · exact absurd c_17 c_35
            · refine lv_iconst (v := 1) hx hb dX5_term_38 rfl ?_
              refine lv_goto (tgt := 43) hx hb dX5_term_39 (by decide) ?_
              refine lv_istore_n (lv' := [(1, .int 1), (0, .ref o)]) hx hb dX5_term_43 rfl hl (by decide) rfl (fun ls hl => ?_)
              refine lv_aload_n hx hb dX5_term_44 rfl (lv_at hl 1 rfl) ?_
              refine lv_dup hx hb dX5_term_45 rfl ?_
              refine va_get hx hb hts in_X5 hown hK hP 0 rfl rfl 4 (by decide) (hts _ q1666) (fun _ h => h) rfl dX5_term_46 ?_
              refine lv_iconst (v := 1) hx hb dX5_term_49 rfl ?_
              refine lv_iadd hx hb dX5_term_50 ?_
              refine w_topi (y := nI ((sk fb L τ.1) + 1)) (nI_add (sk fb L τ.1) 1) ?_
              refine va_put hx hb hts in_X5 tyX5 tyX5_ok nmX5 hown hK hP (va_D_of hD rfl) hS 0 rfl rfl 4 (by decide) (hts _ q1666) (fun _ h => h) rfl rfl rfl rfl (Nat.le_of_ble_eq_true rfl) dX5_term_51 (fun H locs hP _ hS => ?_)
              have hP : va_P D clA ((o, .inr (0, [.int t, .ref a1, .int bl, .int (nI L), .int (nI ((sk fb L τ.1) + 1)), .int τ.2.1, .int τ.2.2.1, .int eo, .ref a8, .ref a9, .ref a10, .int ud, .int (nI τ.2.2.2), .int 0, .int se, .ref a15])) :: (a8, .inl (k 0, 1798, .inl d)) :: (a9, .inl (k 0, 1798, .inl (emL dr cs))) :: (a1, .inl (k 0, 900, .inl fb)) :: wr) H := hP
              refine lv_aload_n hx hb dX5_term_54 rfl (lv_at hl 1 rfl) ?_
              refine x_callV (As := []) (rest := []) C (m_factor_0 l D k o a1 a8 a9 a10 a15 t bl eo ud se wr d (emL dr cs) fb L hL (((sk fb L τ.1) + 1), τ.2) A (va_D_of hD rfl) ok3 sA sV n (fun _ => by show 3 * (L - (sk fb L τ.1 + 1)) + 1 ≤ n; omega) (fun _ => ⟨d1, by show 2 * dN (emL dr cs) 5 + 3 * (L - (sk fb L τ.1 + 1)) + 1 ≤ 3000; omega⟩)) (cwV 0 hts (lw_V q1812 q1814 qs45 q76 q1815) rfl rfl rfl (by decide +kernel) ⟨Nat.le_of_ble_eq_true rfl, Nat.le_of_ble_eq_true rfl⟩) hK (va_recv hK hP (ci := 0) (q0 := 0) rfl rfl) mv2_MS hP (fun U hU hW => MS_to hX hS (fun _ h => h) U hU hW) hS (fun _ h => h) rfl hl.1 rfl (Nat.le_of_ble_eq_true rfl) dX5_term_55 ⟨Nat.le_of_ble_eq_true rfl, Nat.le_of_ble_eq_true rfl⟩ (fun H locs hP hS _ _ => ?_)
              have hP : va_P D clA ((o, .inr (0, [.int t, .ref a1, .int bl, .int (nI L), .int (nI (px fb L n 0 0 (((sk fb L τ.1) + 1), τ.2)).1.1), .int ((px fb L n 0 0 (((sk fb L τ.1) + 1), τ.2)).1.2.1), .int ((px fb L n 0 0 (((sk fb L τ.1) + 1), τ.2)).1.2.2.1), .int eo, .ref a8, .ref a9, .ref a10, .int ud, .int (nI (px fb L n 0 0 (((sk fb L τ.1) + 1), τ.2)).1.2.2.2), .int 0, .int se, .ref a15])) :: (a8, .inl (k 0, 1798, .inl d)) :: (a9, .inl (k 0, 1798, .inl (emL (emL dr cs) (px fb L n 0 0 (((sk fb L τ.1) + 1), τ.2)).2))) :: (a1, .inl (k 0, 900, .inl fb)) :: wr) H := hP
              refine lv_aload_n hx hb dX5_term_58 rfl (lv_at hl 1 rfl) ?_
              refine lv_iload_n hx hb dX5_term_59 rfl (lv_at hl 0 rfl) ?_
              refine lv_if_eq (tgt := 67) hx hb dX5_term_60 (by decide) (fun c_60 => ?_) (fun c_60 => ?_)
              · exact absurd c_60 (by decide)
              · refine lv_iconst (v := 4) hx hb dX5_term_63 rfl ?_
                refine lv_goto (tgt := 68) hx hb dX5_term_64 (by decide) ?_
                refine w_callV (As := [.int 4]) (rest := []) C (m_emit l D k o a1 a8 a9 a10 a15 t bl eo ud 0 se wr d (emL (emL dr cs) (px fb L n 0 0 (((sk fb L τ.1) + 1), τ.2)).2) fb L hL ((px fb L n 0 0 (((sk fb L τ.1) + 1), τ.2)).1) A (va_D_of hD rfl) q.1 4 (fun z => by obtain ⟨-, z2, z3, z4⟩ := q.2 z; have z2 : sk fb L τ.1 + 1 + 1 ≤ _ := z2; have z4 : _ ≤ 3 * (L - (sk fb L τ.1 + 1)) + 1 := z4; obtain ⟨y1, y2⟩ := emL_n (dr := emL dr cs) (px fb L n 0 0 (sk fb L τ.1 + 1, τ.2)).2 d1 (by omega); exact ⟨y1, by omega⟩)) (cwV 1 hts (lw_V q1823 q1825 qs47 q76 q1826) rfl rfl rfl (by decide +kernel) ⟨Nat.le_of_ble_eq_true rfl, Nat.le_of_ble_eq_true rfl⟩) hK (va_recv hK hP (ci := 0) (q0 := 0) rfl rfl) hP hS (fun _ h => h) rfl hl.1 rfl (Nat.le_of_ble_eq_true rfl) dX5_term_68 ⟨Nat.le_of_ble_eq_true rfl, Nat.le_of_ble_eq_true rfl⟩ (fun H locs hP hS _ _ => ?_)
                have hP : va_P D clA ((o, .inr (0, [.int t, .ref a1, .int bl, .int (nI L), .int (nI (px fb L n 0 0 (((sk fb L τ.1) + 1), τ.2)).1.1), .int ((px fb L n 0 0 (((sk fb L τ.1) + 1), τ.2)).1.2.1), .int ((px fb L n 0 0 (((sk fb L τ.1) + 1), τ.2)).1.2.2.1), .int eo, .ref a8, .ref a9, .ref a10, .int ud, .int (nI (px fb L n 0 0 (((sk fb L τ.1) + 1), τ.2)).1.2.2.2), .int 0, .int se, .ref a15])) :: (a8, .inl (k 0, 1798, .inl d)) :: (a9, .inl (k 0, 1798, .inl (emS (emL (emL dr cs) (px fb L n 0 0 (((sk fb L τ.1) + 1), τ.2)).2) 4 ((px fb L n 0 0 (((sk fb L τ.1) + 1), τ.2)).1)))) :: (a1, .inl (k 0, 900, .inl fb)) :: wr) H := hP
                refine lv_goto (tgt := 4) hx hb dX5_term_71 (by decide) ?_
                have hP : va_P D clA ((o, .inr (0, [.int t, .ref a1, .int bl, .int (nI L), .int (nI (px fb L n 0 0 (((sk fb L τ.1) + 1), τ.2)).1.1), .int ((px fb L n 0 0 (((sk fb L τ.1) + 1), τ.2)).1.2.1), .int ((px fb L n 0 0 (((sk fb L τ.1) + 1), τ.2)).1.2.2.1), .int eo, .ref a8, .ref a9, .ref a10, .int ud, .int (nI (px fb L n 0 0 (((sk fb L τ.1) + 1), τ.2)).1.2.2.2), .int 0, .int se, .ref a15])) :: (a8, .inl (k 0, 1798, .inl d)) :: (a9, .inl (k 0, 1798, .inl (emL dr (cs ++ ((px fb L n 0 0 (sk fb L τ.1 + 1, τ.2)).2 ++ ifp ((px fb L n 0 0 (sk fb L τ.1 + 1, τ.2)).1.2.1 = 0) [4] []))))) :: (a1, .inl (k 0, 900, .inl fb)) :: wr) H := by rw [emL_app, emL_app, ← emS_L]; exact hP
                simp only [px, ifp_t b_8, ifp_t ho, ifp_t c_17] at he1 he2
                exact ih_4 (px fb L n 0 0 (sk fb L τ.1 + 1, τ.2)).1 (cs ++ ((px fb L n 0 0 (sk fb L τ.1 + 1, τ.2)).2 ++ ifp ((px fb L n 0 0 (sk fb L τ.1 + 1, τ.2)).1.2.1 = 0) [4] [])) q.1 (fun z => by have z2 : sk fb L τ.1 + 1 + 1 ≤ _ := (q.2 z).2.1; show 3 * (L - (px fb L n 0 0 (sk fb L τ.1 + 1, τ.2)).1.1) + 1 ≤ n; omega) (fun z => by obtain ⟨-, z2, z3, z4⟩ := q.2 z; have z2 : sk fb L τ.1 + 1 + 1 ≤ _ := z2; have z4 : _ ≤ 3 * (L - (sk fb L τ.1 + 1)) + 1 := z4; rw [ifp_t z, List.length_append, List.length_append]; simp only [List.length_cons, List.length_nil]; omega) he1 (by rw [List.append_assoc]; exact he2) (by omega) _ _ hP hS ls (lv_sub hl [1] rfl)
          · refine lv_aload_n hx hb dX5_term_20 rfl (lv_at hl 0 rfl) ?_
            refine w_callV (As := []) (rest := []) C (m_next l D k o a1 a8 a9 a10 a15 t bl τ.2.1 τ.2.2.1 eo ud (nI τ.2.2.2) 0 se wr d (emL dr cs) fb L hL (sk fb L τ.1) A (va_D_of hD rfl) hs.2) (cwV 0 hts (lw_V q1735 q1737 qs33 q76 q1738) rfl rfl rfl (by decide +kernel) ⟨Nat.le_of_ble_eq_true rfl, Nat.le_of_ble_eq_true rfl⟩) hK (va_recv hK hP (ci := 0) (q0 := 0) rfl rfl) hP hS (fun _ h => h) rfl hl.1 rfl (Nat.le_of_ble_eq_true rfl) dX5_term_21 ⟨Nat.le_of_ble_eq_true rfl, Nat.le_of_ble_eq_true rfl⟩ (fun H locs hP hS _ _ => ?_)
            rw [hss] at hP
            rw [hss]
            have hP : va_P D clA ((o, .inr (0, [.int t, .ref a1, .int bl, .int (nI L), .int (nI (sk fb L τ.1)), .int τ.2.1, .int τ.2.2.1, .int eo, .ref a8, .ref a9, .ref a10, .int ud, .int (nI τ.2.2.2), .int 0, .int se, .ref a15])) :: (a8, .inl (k 0, 1798, .inl d)) :: (a9, .inl (k 0, 1798, .inl (emL dr cs))) :: (a1, .inl (k 0, 900, .inl fb)) :: wr) H := hP
            refine lv_bipush (v := 47) hx hb dX5_term_24 rfl ?_
            refine lv_icmp_ne (tgt := 74) hx hb dX5_term_26 (by decide) (fun c_26 => ?_) (fun c_26 => ?_)
            · exact w_vret C (by simp only [px, ifp_t b_8, ifp_f (show ¬ (byt fb L (sk fb L τ.1) = 42 ∨ byt fb L (sk fb L τ.1) = 47) from fun h => h.elim c_17 c_26)] at he1 he2; rw [List.append_nil] at he2; have e1 : (sk fb L τ.1, τ.2) = (px fb L (f + 1) 1 0 σ).1 := he1; have e2 : cs = (px fb L (f + 1) 1 0 σ).2 := he2; rw [← e1, ← e2]; exact hP) hS dX5_term_74
            · have ho : byt fb L (sk fb L τ.1) = 42 ∨ byt fb L (sk fb L τ.1) = 47 := Or.inr c_26
              have hlt : sk fb L τ.1 < L := ho.elim (fun e => byt_lt e (by decide)) (fun e => byt_lt e (by decide))
              have ok3 : okS L (sk fb L τ.1 + 1, τ.2) := ho.elim (fun e => okS_s1 hL ok2 e (by decide)) (fun e => okS_s1 hL ok2 e (by decide))
              have q := px_ok (fb := fb) hL n 0 0 (sk fb L τ.1 + 1, τ.2) ok3 (fun _ => by show 3 * (L - (sk fb L τ.1 + 1)) + 1 ≤ n; omega)
              refine lv_aload_n hx hb dX5_term_29 rfl (lv_at hl 0 rfl) ?_
              refine w_callV (As := []) (rest := []) C (m_next l D k o a1 a8 a9 a10 a15 t bl τ.2.1 τ.2.2.1 eo ud (nI τ.2.2.2) 0 se wr d (emL dr cs) fb L hL (sk fb L τ.1) A (va_D_of hD rfl) hs.2) (cwV 0 hts (lw_V q1735 q1737 qs33 q76 q1738) rfl rfl rfl (by decide +kernel) ⟨Nat.le_of_ble_eq_true rfl, Nat.le_of_ble_eq_true rfl⟩) hK (va_recv hK hP (ci := 0) (q0 := 0) rfl rfl) hP hS (fun _ h => h) rfl hl.1 rfl (Nat.le_of_ble_eq_true rfl) dX5_term_30 ⟨Nat.le_of_ble_eq_true rfl, Nat.le_of_ble_eq_true rfl⟩ (fun H locs hP hS _ _ => ?_)
              rw [hss] at hP
              rw [hss]
              have hP : va_P D clA ((o, .inr (0, [.int t, .ref a1, .int bl, .int (nI L), .int (nI (sk fb L τ.1)), .int τ.2.1, .int τ.2.2.1, .int eo, .ref a8, .ref a9, .ref a10, .int ud, .int (nI τ.2.2.2), .int 0, .int se, .ref a15])) :: (a8, .inl (k 0, 1798, .inl d)) :: (a9, .inl (k 0, 1798, .inl (emL dr cs))) :: (a1, .inl (k 0, 900, .inl fb)) :: wr) H := hP
              refine lv_bipush (v := 42) hx hb dX5_term_33 rfl ?_
              refine lv_icmp_ne (tgt := 42) hx hb dX5_term_35 (by decide) (fun c_35 => ?_) (fun c_35 => ?_)
              · refine lv_iconst (v := 0) hx hb dX5_term_42 rfl ?_
                refine lv_istore_n (lv' := [(1, .int 0), (0, .ref o)]) hx hb dX5_term_43 rfl hl (by decide) rfl (fun ls hl => ?_)
                refine lv_aload_n hx hb dX5_term_44 rfl (lv_at hl 1 rfl) ?_
                refine lv_dup hx hb dX5_term_45 rfl ?_
                refine va_get hx hb hts in_X5 hown hK hP 0 rfl rfl 4 (by decide) (hts _ q1666) (fun _ h => h) rfl dX5_term_46 ?_
                refine lv_iconst (v := 1) hx hb dX5_term_49 rfl ?_
                refine lv_iadd hx hb dX5_term_50 ?_
                refine w_topi (y := nI ((sk fb L τ.1) + 1)) (nI_add (sk fb L τ.1) 1) ?_
                refine va_put hx hb hts in_X5 tyX5 tyX5_ok nmX5 hown hK hP (va_D_of hD rfl) hS 0 rfl rfl 4 (by decide) (hts _ q1666) (fun _ h => h) rfl rfl rfl rfl (Nat.le_of_ble_eq_true rfl) dX5_term_51 (fun H locs hP _ hS => ?_)
                have hP : va_P D clA ((o, .inr (0, [.int t, .ref a1, .int bl, .int (nI L), .int (nI ((sk fb L τ.1) + 1)), .int τ.2.1, .int τ.2.2.1, .int eo, .ref a8, .ref a9, .ref a10, .int ud, .int (nI τ.2.2.2), .int 0, .int se, .ref a15])) :: (a8, .inl (k 0, 1798, .inl d)) :: (a9, .inl (k 0, 1798, .inl (emL dr cs))) :: (a1, .inl (k 0, 900, .inl fb)) :: wr) H := hP
                refine lv_aload_n hx hb dX5_term_54 rfl (lv_at hl 1 rfl) ?_
                refine x_callV (As := []) (rest := []) C (m_factor_0 l D k o a1 a8 a9 a10 a15 t bl eo ud se wr d (emL dr cs) fb L hL (((sk fb L τ.1) + 1), τ.2) A (va_D_of hD rfl) ok3 sA sV n (fun _ => by show 3 * (L - (sk fb L τ.1 + 1)) + 1 ≤ n; omega) (fun _ => ⟨d1, by show 2 * dN (emL dr cs) 5 + 3 * (L - (sk fb L τ.1 + 1)) + 1 ≤ 3000; omega⟩)) (cwV 0 hts (lw_V q1812 q1814 qs45 q76 q1815) rfl rfl rfl (by decide +kernel) ⟨Nat.le_of_ble_eq_true rfl, Nat.le_of_ble_eq_true rfl⟩) hK (va_recv hK hP (ci := 0) (q0 := 0) rfl rfl) mv2_MS hP (fun U hU hW => MS_to hX hS (fun _ h => h) U hU hW) hS (fun _ h => h) rfl hl.1 rfl (Nat.le_of_ble_eq_true rfl) dX5_term_55 ⟨Nat.le_of_ble_eq_true rfl, Nat.le_of_ble_eq_true rfl⟩ (fun H locs hP hS _ _ => ?_)
                have hP : va_P D clA ((o, .inr (0, [.int t, .ref a1, .int bl, .int (nI L), .int (nI (px fb L n 0 0 (((sk fb L τ.1) + 1), τ.2)).1.1), .int ((px fb L n 0 0 (((sk fb L τ.1) + 1), τ.2)).1.2.1), .int ((px fb L n 0 0 (((sk fb L τ.1) + 1), τ.2)).1.2.2.1), .int eo, .ref a8, .ref a9, .ref a10, .int ud, .int (nI (px fb L n 0 0 (((sk fb L τ.1) + 1), τ.2)).1.2.2.2), .int 0, .int se, .ref a15])) :: (a8, .inl (k 0, 1798, .inl d)) :: (a9, .inl (k 0, 1798, .inl (emL (emL dr cs) (px fb L n 0 0 (((sk fb L τ.1) + 1), τ.2)).2))) :: (a1, .inl (k 0, 900, .inl fb)) :: wr) H := hP
                refine lv_aload_n hx hb dX5_term_58 rfl (lv_at hl 1 rfl) ?_
                refine lv_iload_n hx hb dX5_term_59 rfl (lv_at hl 0 rfl) ?_
                refine lv_if_eq (tgt := 67) hx hb dX5_term_60 (by decide) (fun c_60 => ?_) (fun c_60 => ?_)
                · refine lv_iconst (v := 5) hx hb dX5_term_67 rfl ?_
                  refine w_callV (As := [.int 5]) (rest := []) C (m_emit l D k o a1 a8 a9 a10 a15 t bl eo ud 0 se wr d (emL (emL dr cs) (px fb L n 0 0 (((sk fb L τ.1) + 1), τ.2)).2) fb L hL ((px fb L n 0 0 (((sk fb L τ.1) + 1), τ.2)).1) A (va_D_of hD rfl) q.1 5 (fun z => by obtain ⟨-, z2, z3, z4⟩ := q.2 z; have z2 : sk fb L τ.1 + 1 + 1 ≤ _ := z2; have z4 : _ ≤ 3 * (L - (sk fb L τ.1 + 1)) + 1 := z4; obtain ⟨y1, y2⟩ := emL_n (dr := emL dr cs) (px fb L n 0 0 (sk fb L τ.1 + 1, τ.2)).2 d1 (by omega); exact ⟨y1, by omega⟩)) (cwV 1 hts (lw_V q1823 q1825 qs47 q76 q1826) rfl rfl rfl (by decide +kernel) ⟨Nat.le_of_ble_eq_true rfl, Nat.le_of_ble_eq_true rfl⟩) hK (va_recv hK hP (ci := 0) (q0 := 0) rfl rfl) hP hS (fun _ h => h) rfl hl.1 rfl (Nat.le_of_ble_eq_true rfl) dX5_term_68 ⟨Nat.le_of_ble_eq_true rfl, Nat.le_of_ble_eq_true rfl⟩ (fun H locs hP hS _ _ => ?_)
                  have hP : va_P D clA ((o, .inr (0, [.int t, .ref a1, .int bl, .int (nI L), .int (nI (px fb L n 0 0 (((sk fb L τ.1) + 1), τ.2)).1.1), .int ((px fb L n 0 0 (((sk fb L τ.1) + 1), τ.2)).1.2.1), .int ((px fb L n 0 0 (((sk fb L τ.1) + 1), τ.2)).1.2.2.1), .int eo, .ref a8, .ref a9, .ref a10, .int ud, .int (nI (px fb L n 0 0 (((sk fb L τ.1) + 1), τ.2)).1.2.2.2), .int 0, .int se, .ref a15])) :: (a8, .inl (k 0, 1798, .inl d)) :: (a9, .inl (k 0, 1798, .inl (emS (emL (emL dr cs) (px fb L n 0 0 (((sk fb L τ.1) + 1), τ.2)).2) 5 ((px fb L n 0 0 (((sk fb L τ.1) + 1), τ.2)).1)))) :: (a1, .inl (k 0, 900, .inl fb)) :: wr) H := hP
                  refine lv_goto (tgt := 4) hx hb dX5_term_71 (by decide) ?_
                  have hP : va_P D clA ((o, .inr (0, [.int t, .ref a1, .int bl, .int (nI L), .int (nI (px fb L n 0 0 (((sk fb L τ.1) + 1), τ.2)).1.1), .int ((px fb L n 0 0 (((sk fb L τ.1) + 1), τ.2)).1.2.1), .int ((px fb L n 0 0 (((sk fb L τ.1) + 1), τ.2)).1.2.2.1), .int eo, .ref a8, .ref a9, .ref a10, .int ud, .int (nI (px fb L n 0 0 (((sk fb L τ.1) + 1), τ.2)).1.2.2.2), .int 0, .int se, .ref a15])) :: (a8, .inl (k 0, 1798, .inl d)) :: (a9, .inl (k 0, 1798, .inl (emL dr (cs ++ ((px fb L n 0 0 (sk fb L τ.1 + 1, τ.2)).2 ++ ifp ((px fb L n 0 0 (sk fb L τ.1 + 1, τ.2)).1.2.1 = 0) [5] []))))) :: (a1, .inl (k 0, 900, .inl fb)) :: wr) H := by rw [emL_app, emL_app, ← emS_L]; exact hP
                  simp only [px, ifp_t b_8, ifp_t ho, ifp_f c_17] at he1 he2
                  exact ih_4 (px fb L n 0 0 (sk fb L τ.1 + 1, τ.2)).1 (cs ++ ((px fb L n 0 0 (sk fb L τ.1 + 1, τ.2)).2 ++ ifp ((px fb L n 0 0 (sk fb L τ.1 + 1, τ.2)).1.2.1 = 0) [5] [])) q.1 (fun z => by have z2 : sk fb L τ.1 + 1 + 1 ≤ _ := (q.2 z).2.1; show 3 * (L - (px fb L n 0 0 (sk fb L τ.1 + 1, τ.2)).1.1) + 1 ≤ n; omega) (fun z => by obtain ⟨-, z2, z3, z4⟩ := q.2 z; have z2 : sk fb L τ.1 + 1 + 1 ≤ _ := z2; have z4 : _ ≤ 3 * (L - (sk fb L τ.1 + 1)) + 1 := z4; rw [ifp_t z, List.length_append, List.length_append]; simp only [List.length_cons, List.length_nil]; omega) he1 (by rw [List.append_assoc]; exact he2) (by omega) _ _ hP hS ls (lv_sub hl [1] rfl)
                · exact absurd c_60 (by decide)
              · exact absurd c_35 c_17
    exact loop_4 f (px fb L f 0 0 σ).1 (px fb L f 0 0 σ).2 q0.1 (fun z => by have z2 : σ.1 + 1 ≤ _ := (q0.2 z).2.1; show 3 * (L - (px fb L f 0 0 σ).1.1) + 1 ≤ f; omega) (fun z => by have z2 : _ ≤ 3 * (L - σ.1) + 1 := (q0.2 z).2.2.2; omega) (by simp only [px]) (by simp only [px]) (by omega) _ _ hP hS ls (lv_sub hl [0] rfl)
  · skip
    refine lv_aload_n hx hb dX5_term_0 rfl (lv_at hl 0 rfl) ?_
    refine w_callV (As := []) (rest := []) C (m_factorE l D k o a1 a8 a9 a10 a15 t bl eo ud 0 se wr d dr fb L hL σ A (va_D_of hD rfl) hok hg0) (cwV 0 hts (lw_V q1812 q1814 qs45 q76 q1815) rfl rfl rfl (by decide +kernel) ⟨Nat.le_of_ble_eq_true rfl, Nat.le_of_ble_eq_true rfl⟩) hK (va_recv hK hP (ci := 0) (q0 := 0) rfl rfl) hP hS (fun _ h => h) rfl hl.1 rfl (Nat.le_of_ble_eq_true rfl) dX5_term_1 ⟨Nat.le_of_ble_eq_true rfl, Nat.le_of_ble_eq_true rfl⟩ (fun H locs hP hS _ _ => ?_)
    have hP : va_P D clA ((o, .inr (0, [.int t, .ref a1, .int bl, .int (nI L), .int (nI σ.1), .int σ.2.1, .int σ.2.2.1, .int eo, .ref a8, .ref a9, .ref a10, .int ud, .int (nI σ.2.2.2), .int 0, .int se, .ref a15])) :: (a8, .inl (k 0, 1798, .inl d)) :: (a9, .inl (k 0, 1798, .inl dr)) :: (a1, .inl (k 0, 900, .inl fb)) :: wr) H := hP
    refine lv_aload_n hx hb dX5_term_4 rfl (lv_at hl 0 rfl) ?_
    refine r_callV (As := []) (rest := []) C (m_isGood l D k o σ.2.1 ([.int t, .ref a1, .int bl, .int (nI L), .int (nI σ.1), .int σ.2.1, .int σ.2.2.1, .int eo, .ref a8, .ref a9, .ref a10, .int ud, .int (nI σ.2.2.2), .int 0, .int se, .ref a15] : List Value) rfl) (cwV 0 hts (lw_V q1731 q1733 qs32 q76 q1734) rfl rfl rfl (by decide +kernel) ⟨Nat.le_of_ble_eq_true rfl, Nat.le_of_ble_eq_true rfl⟩) hK (va_recv hK hP (ci := 0) (q0 := 0) rfl rfl) (hP.sub [0] rfl) rfl hl.1 rfl (Nat.le_of_ble_eq_true rfl) dX5_term_5 ⟨Nat.le_of_ble_eq_true rfl, Nat.le_of_ble_eq_true rfl⟩ ?_
    refine lv_if_eq (tgt := 74) hx hb dX5_term_8 (by decide) (fun c_8 => ?_) (fun c_8 => ?_)
    · have b_8 := bI_0.mp c_8
      exact w_vret C (by rw [px_bad hg0]; exact hP) hS dX5_term_74
    · exact absurd (bI_nz c_8) hg0
set_option maxHeartbeats 16000000 in
theorem m_sum_0 (l : Launch) (D : va_G) (k : Nat → ClassId) (o a1 a8 a9 a10 a15 : Nat) (t bl eo ud se : Int32) (wr : va_W) (d dr fb : Nat → Int32) (L : Nat) (hL : L ≤ 900) (σ : PS) (A : Nat → Prop) (hD : va_D A ((o, .inr (0, [.int t, .ref a1, .int bl, .int (nI L), .int (nI σ.1), .int σ.2.1, .int σ.2.2.1, .int eo, .ref a8, .ref a9, .ref a10, .int ud, .int (nI σ.2.2.2), .int 0, .int se, .ref a15])) :: (a8, .inl (k 0, 1798, .inl d)) :: (a9, .inl (k 0, 1798, .inl dr)) :: (a1, .inl (k 0, 900, .inl fb)) :: wr)) (hok : okS L σ) (sA sV : Nat → Nat) (f : Nat) (hf : σ.2.1 = 0 → nee 2 (L - σ.1) ≤ f) (h5 : σ.2.1 = 0 → dr 5 = nI (dN dr 5) ∧ 2 * dN dr 5 + 3 * (L - σ.1) + 1 ≤ 3000) : xM l D k yX5_sum cX5_sum 2 none 19 411 [.ref o] ((o, .inr (0, [.int t, .ref a1, .int bl, .int (nI L), .int (nI σ.1), .int σ.2.1, .int σ.2.2.1, .int eo, .ref a8, .ref a9, .ref a10, .int ud, .int (nI σ.2.2.2), .int 0, .int se, .ref a15])) :: (a8, .inl (k 0, 1798, .inl d)) :: (a9, .inl (k 0, 1798, .inl dr)) :: (a1, .inl (k 0, 900, .inl fb)) :: wr) (MS A sA sV) (none) ((o, .inr (0, [.int t, .ref a1, .int bl, .int (nI L), .int (nI (px fb L f 2 0 σ).1.1), .int ((px fb L f 2 0 σ).1.2.1), .int ((px fb L f 2 0 σ).1.2.2.1), .int eo, .ref a8, .ref a9, .ref a10, .int ud, .int (nI (px fb L f 2 0 σ).1.2.2.2), .int 0, .int se, .ref a15])) :: (a8, .inl (k 0, 1798, .inl d)) :: (a9, .inl (k 0, 1798, .inl (emL dr (px fb L f 2 0 σ).2))) :: (a1, .inl (k 0, 900, .inl fb)) :: wr) A := by
  refine xM_of (by decide) (Nat.le_of_ble_eq_true rfl) ?_
  intro p e s m below meth c ls C hK hX hP hS hl
  obtain ⟨hE, hT⟩ := id hX
  obtain ⟨hx, hb, hr, hml, hown, hts, hlk⟩ := id C
  have hl : lv_has ls 2 [(0, .ref o)] := hl
  rcases Classical.em (σ.2.1 = 0) with hg0 | hg0
  · have hp0 := hok.1 hg0
    have hf := hf hg0
    obtain ⟨c1, c2⟩ := h5 hg0
    obtain ⟨f, rfl⟩ : ∃ g, f = g + 1 := ⟨f - 1, by have hf : 3 * (L - σ.1) + 3 ≤ f := hf; omega⟩
    have hf : 3 * (L - σ.1) + 3 ≤ f + 1 := hf
    have q0 := px_ok (fb := fb) hL f 1 0 σ hok (fun _ => by show 3 * (L - σ.1) + 2 ≤ f; omega)
    refine lv_aload_n hx hb dX5_sum_0 rfl (lv_at hl 0 rfl) ?_
    refine x_callV (As := []) (rest := []) C (m_term_0 l D k o a1 a8 a9 a10 a15 t bl eo ud se wr d dr fb L hL σ A (va_D_of hD rfl) hok sA sV f (fun _ => by show 3 * (L - σ.1) + 2 ≤ f; omega) h5) (cwV 0 hts (lw_V q1808 q1810 qs44 q76 q1811) rfl rfl rfl (by decide +kernel) ⟨Nat.le_of_ble_eq_true rfl, Nat.le_of_ble_eq_true rfl⟩) hK (va_recv hK hP (ci := 0) (q0 := 0) rfl rfl) mv2_MS hP (fun U hU hW => MS_to hX hS (fun _ h => h) U hU hW) hS (fun _ h => h) rfl hl.1 rfl (Nat.le_of_ble_eq_true rfl) dX5_sum_1 ⟨Nat.le_of_ble_eq_true rfl, Nat.le_of_ble_eq_true rfl⟩ (fun H locs hP hS _ _ => ?_)
    have hP : va_P D clA ((o, .inr (0, [.int t, .ref a1, .int bl, .int (nI L), .int (nI (px fb L f 1 0 σ).1.1), .int ((px fb L f 1 0 σ).1.2.1), .int ((px fb L f 1 0 σ).1.2.2.1), .int eo, .ref a8, .ref a9, .ref a10, .int ud, .int (nI (px fb L f 1 0 σ).1.2.2.2), .int 0, .int se, .ref a15])) :: (a8, .inl (k 0, 1798, .inl d)) :: (a9, .inl (k 0, 1798, .inl (emL dr (px fb L f 1 0 σ).2))) :: (a1, .inl (k 0, 900, .inl fb)) :: wr) H := hP
    have loop_4 : ∀ (n : Nat) (τ : PS) (cs : List Int32), (okS L τ) → (τ.2.1 = 0 → 3 * (L - τ.1) + 1 ≤ n) → (τ.2.1 = 0 → 2 * (dN dr 5 + cs.length) + 3 * (L - τ.1) ≤ 3000) → ((px fb L n 4 0 τ).1 = (px fb L (f + 1) 2 0 σ).1) → (cs ++ (px fb L n 4 0 τ).2 = (px fb L (f + 1) 2 0 σ).2) → (1 ≤ n) → ∀ (H : Heap) (locs : List Loc), va_P D clA ((o, .inr (0, [.int t, .ref a1, .int bl, .int (nI L), .int (nI τ.1), .int τ.2.1, .int τ.2.2.1, .int eo, .ref a8, .ref a9, .ref a10, .int ud, .int (nI τ.2.2.2), .int 0, .int se, .ref a15])) :: (a8, .inl (k 0, 1798, .inl d)) :: (a9, .inl (k 0, 1798, .inl (emL dr cs))) :: (a1, .inl (k 0, 900, .inl fb)) :: wr) H → va_S A s.heap H locs → ∀ (ls : Array Slot), lv_has ls 2 [(0, .ref o)] → W p l e (Rm 19 411 0 0) s m ([.ref o] : List Value).toArray below meth c H locs 0 0 (MQ below (wQ D (none) ((o, .inr (0, [.int t, .ref a1, .int bl, .int (nI L), .int (nI (px fb L (f + 1) 2 0 σ).1.1), .int ((px fb L (f + 1) 2 0 σ).1.2.1), .int ((px fb L (f + 1) 2 0 σ).1.2.2.1), .int eo, .ref a8, .ref a9, .ref a10, .int ud, .int (nI (px fb L (f + 1) 2 0 σ).1.2.2.2), .int 0, .int se, .ref a15])) :: (a8, .inl (k 0, 1798, .inl d)) :: (a9, .inl (k 0, 1798, .inl (emL dr (px fb L (f + 1) 2 0 σ).2))) :: (a1, .inl (k 0, 900, .inl fb)) :: wr) A) ([.ref o] : List Value).toArray s 0 0 A) (F0 m 4 ls []) := by
      intro n
      induction n with
      | zero =>
        intro τ cs ok2 hf2 hr2 he1 he2 hn
        exact absurd hn (by omega)
      | succ n ih_4 =>
        intro τ cs ok2 hf2 hr2 he1 he2 hn H locs hP hS ls hl
        refine lv_aload_n hx hb dX5_sum_4 rfl (lv_at hl 0 rfl) ?_
        refine r_callV (As := []) (rest := []) C (m_isGood l D k o τ.2.1 ([.int t, .ref a1, .int bl, .int (nI L), .int (nI τ.1), .int τ.2.1, .int τ.2.2.1, .int eo, .ref a8, .ref a9, .ref a10, .int ud, .int (nI τ.2.2.2), .int 0, .int se, .ref a15] : List Value) rfl) (cwV 0 hts (lw_V q1731 q1733 qs32 q76 q1734) rfl rfl rfl (by decide +kernel) ⟨Nat.le_of_ble_eq_true rfl, Nat.le_of_ble_eq_true rfl⟩) hK (va_recv hK hP (ci := 0) (q0 := 0) rfl rfl) (hP.sub [0] rfl) rfl hl.1 rfl (Nat.le_of_ble_eq_true rfl) dX5_sum_5 ⟨Nat.le_of_ble_eq_true rfl, Nat.le_of_ble_eq_true rfl⟩ ?_
        refine lv_if_eq (tgt := 74) hx hb dX5_sum_8 (by decide) (fun c_8 => ?_) (fun c_8 => ?_)
        · have b_8 := bI_0.mp c_8
          exact w_vret C (by rw [px_bad b_8] at he1 he2; rw [List.append_nil] at he2; rw [← he1, ← he2]; exact hP) hS dX5_sum_74
        · have b_8 := bI_nz c_8
          have hp := ok2.1 b_8
          have hs := sk_in (fb := fb) hp
          have hf2 := hf2 b_8
          have hr2 := hr2 b_8
          obtain ⟨d1, d2⟩ := room5 c1 hr2
          have hss : sk fb L (sk fb L τ.1) = sk fb L τ.1 := sk_sk hp
          refine lv_aload_n hx hb dX5_sum_11 rfl (lv_at hl 0 rfl) ?_
          refine w_callV (As := []) (rest := []) C (m_next l D k o a1 a8 a9 a10 a15 t bl τ.2.1 τ.2.2.1 eo ud (nI τ.2.2.2) 0 se wr d (emL dr cs) fb L hL τ.1 A (va_D_of hD rfl) hp) (cwV 0 hts (lw_V q1735 q1737 qs33 q76 q1738) rfl rfl rfl (by decide +kernel) ⟨Nat.le_of_ble_eq_true rfl, Nat.le_of_ble_eq_true rfl⟩) hK (va_recv hK hP (ci := 0) (q0 := 0) rfl rfl) hP hS (fun _ h => h) rfl hl.1 rfl (Nat.le_of_ble_eq_true rfl) dX5_sum_12 ⟨Nat.le_of_ble_eq_true rfl, Nat.le_of_ble_eq_true rfl⟩ (fun H locs hP hS _ _ => ?_)
          have hP : va_P D clA ((o, .inr (0, [.int t, .ref a1, .int bl, .int (nI L), .int (nI (sk fb L τ.1)), .int τ.2.1, .int τ.2.2.1, .int eo, .ref a8, .ref a9, .ref a10, .int ud, .int (nI τ.2.2.2), .int 0, .int se, .ref a15])) :: (a8, .inl (k 0, 1798, .inl d)) :: (a9, .inl (k 0, 1798, .inl (emL dr cs))) :: (a1, .inl (k 0, 900, .inl fb)) :: wr) H := hP
          refine lv_bipush (v := 43) hx hb dX5_sum_15 rfl ?_
          refine lv_icmp_eq (tgt := 29) hx hb dX5_sum_17 (by decide) (fun c_17 => ?_) (fun c_17 => ?_)
          · have ho : byt fb L (sk fb L τ.1) = 43 ∨ byt fb L (sk fb L τ.1) = 45 := Or.inl c_17
            have hlt : sk fb L τ.1 < L := ho.elim (fun e => byt_lt e (by decide)) (fun e => byt_lt e (by decide))
            have ok3 : okS L (sk fb L τ.1 + 1, τ.2) := ho.elim (fun e => okS_s1 hL ok2 e (by decide)) (fun e => okS_s1 hL ok2 e (by decide))
            have q := px_ok (fb := fb) hL n 1 0 (sk fb L τ.1 + 1, τ.2) ok3 (fun _ => by show 3 * (L - (sk fb L τ.1 + 1)) + 2 ≤ n; omega)
            refine lv_aload_n hx hb dX5_sum_29 rfl (lv_at hl 0 rfl) ?_
            refine w_callV (As := []) (rest := []) C (m_next l D k o a1 a8 a9 a10 a15 t bl τ.2.1 τ.2.2.1 eo ud (nI τ.2.2.2) 0 se wr d (emL dr cs) fb L hL (sk fb L τ.1) A (va_D_of hD rfl) hs.2) (cwV 0 hts (lw_V q1735 q1737 qs33 q76 q1738) rfl rfl rfl (by decide +kernel) ⟨Nat.le_of_ble_eq_true rfl, Nat.le_of_ble_eq_true rfl⟩) hK (va_recv hK hP (ci := 0) (q0 := 0) rfl rfl) hP hS (fun _ h => h) rfl hl.1 rfl (Nat.le_of_ble_eq_true rfl) dX5_sum_30 ⟨Nat.le_of_ble_eq_true rfl, Nat.le_of_ble_eq_true rfl⟩ (fun H locs hP hS _ _ => ?_)
            rw [hss] at hP
            rw [hss]
            have hP : va_P D clA ((o, .inr (0, [.int t, .ref a1, .int bl, .int (nI L), .int (nI (sk fb L τ.1)), .int τ.2.1, .int τ.2.2.1, .int eo, .ref a8, .ref a9, .ref a10, .int ud, .int (nI τ.2.2.2), .int 0, .int se, .ref a15])) :: (a8, .inl (k 0, 1798, .inl d)) :: (a9, .inl (k 0, 1798, .inl (emL dr cs))) :: (a1, .inl (k 0, 900, .inl fb)) :: wr) H := hP
            refine lv_bipush (v := 43) hx hb dX5_sum_33 rfl ?_
            refine lv_icmp_ne (tgt := 42) hx hb dX5_sum_35 (by decide) (fun c_35 => ?_) (fun c_35 => ?_)
            · exact absurd c_17 c_35
            · refine lv_iconst (v := 1) hx hb dX5_sum_38 rfl ?_
              refine lv_goto (tgt := 43) hx hb dX5_sum_39 (by decide) ?_
              refine lv_istore_n (lv' := [(1, .int 1), (0, .ref o)]) hx hb dX5_sum_43 rfl hl (by decide) rfl (fun ls hl => ?_)
              refine lv_aload_n hx hb dX5_sum_44 rfl (lv_at hl 1 rfl) ?_
              refine lv_dup hx hb dX5_sum_45 rfl ?_
              refine va_get hx hb hts in_X5 hown hK hP 0 rfl rfl 4 (by decide) (hts _ q1666) (fun _ h => h) rfl dX5_sum_46 ?_
              refine lv_iconst (v := 1) hx hb dX5_sum_49 rfl ?_
              refine lv_iadd hx hb dX5_sum_50 ?_
              refine w_topi (y := nI ((sk fb L τ.1) + 1)) (nI_add (sk fb L τ.1) 1) ?_
              refine va_put hx hb hts in_X5 tyX5 tyX5_ok nmX5 hown hK hP (va_D_of hD rfl) hS 0 rfl rfl 4 (by decide) (hts _ q1666) (fun _ h => h) rfl rfl rfl rfl (Nat.le_of_ble_eq_true rfl) dX5_sum_51 (fun H locs hP _ hS => ?_)
              have hP : va_P D clA ((o, .inr (0, [.int t, .ref a1, .int bl, .int (nI L), .int (nI ((sk fb L τ.1) + 1)), .int τ.2.1, .int τ.2.2.1, .int eo, .ref a8, .ref a9, .ref a10, .int ud, .int (nI τ.2.2.2), .int 0, .int se, .ref a15])) :: (a8, .inl (k 0, 1798, .inl d)) :: (a9, .inl (k 0, 1798, .inl (emL dr cs))) :: (a1, .inl (k 0, 900, .inl fb)) :: wr) H := hP
              refine lv_aload_n hx hb dX5_sum_54 rfl (lv_at hl 1 rfl) ?_
              refine x_callV (As := []) (rest := []) C (m_term_0 l D k o a1 a8 a9 a10 a15 t bl eo ud se wr d (emL dr cs) fb L hL (((sk fb L τ.1) + 1), τ.2) A (va_D_of hD rfl) ok3 sA sV n (fun _ => by show 3 * (L - (sk fb L τ.1 + 1)) + 2 ≤ n; omega) (fun _ => ⟨d1, by show 2 * dN (emL dr cs) 5 + 3 * (L - (sk fb L τ.1 + 1)) + 1 ≤ 3000; omega⟩)) (cwV 0 hts (lw_V q1808 q1810 qs44 q76 q1811) rfl rfl rfl (by decide +kernel) ⟨Nat.le_of_ble_eq_true rfl, Nat.le_of_ble_eq_true rfl⟩) hK (va_recv hK hP (ci := 0) (q0 := 0) rfl rfl) mv2_MS hP (fun U hU hW => MS_to hX hS (fun _ h => h) U hU hW) hS (fun _ h => h) rfl hl.1 rfl (Nat.le_of_ble_eq_true rfl) dX5_sum_55 ⟨Nat.le_of_ble_eq_true rfl, Nat.le_of_ble_eq_true rfl⟩ (fun H locs hP hS _ _ => ?_)
              have hP : va_P D clA ((o, .inr (0, [.int t, .ref a1, .int bl, .int (nI L), .int (nI (px fb L n 1 0 (((sk fb L τ.1) + 1), τ.2)).1.1), .int ((px fb L n 1 0 (((sk fb L τ.1) + 1), τ.2)).1.2.1), .int ((px fb L n 1 0 (((sk fb L τ.1) + 1), τ.2)).1.2.2.1), .int eo, .ref a8, .ref a9, .ref a10, .int ud, .int (nI (px fb L n 1 0 (((sk fb L τ.1) + 1), τ.2)).1.2.2.2), .int 0, .int se, .ref a15])) :: (a8, .inl (k 0, 1798, .inl d)) :: (a9, .inl (k 0, 1798, .inl (emL (emL dr cs) (px fb L n 1 0 (((sk fb L τ.1) + 1), τ.2)).2))) :: (a1, .inl (k 0, 900, .inl fb)) :: wr) H := hP
              refine lv_aload_n hx hb dX5_sum_58 rfl (lv_at hl 1 rfl) ?_
              refine lv_iload_n hx hb dX5_sum_59 rfl (lv_at hl 0 rfl) ?_
              refine lv_if_eq (tgt := 67) hx hb dX5_sum_60 (by decide) (fun c_60 => ?_) (fun c_60 => ?_)
              · exact absurd c_60 (by decide)
              · refine lv_iconst (v := 2) hx hb dX5_sum_63 rfl ?_
                refine lv_goto (tgt := 68) hx hb dX5_sum_64 (by decide) ?_
                refine w_callV (As := [.int 2]) (rest := []) C (m_emit l D k o a1 a8 a9 a10 a15 t bl eo ud 0 se wr d (emL (emL dr cs) (px fb L n 1 0 (((sk fb L τ.1) + 1), τ.2)).2) fb L hL ((px fb L n 1 0 (((sk fb L τ.1) + 1), τ.2)).1) A (va_D_of hD rfl) q.1 2 (fun z => by obtain ⟨-, z2, z3, z4⟩ := q.2 z; have z2 : sk fb L τ.1 + 1 + 1 ≤ _ := z2; have z4 : _ ≤ 3 * (L - (sk fb L τ.1 + 1)) + 1 := z4; obtain ⟨y1, y2⟩ := emL_n (dr := emL dr cs) (px fb L n 1 0 (sk fb L τ.1 + 1, τ.2)).2 d1 (by omega); exact ⟨y1, by omega⟩)) (cwV 1 hts (lw_V q1823 q1825 qs47 q76 q1826) rfl rfl rfl (by decide +kernel) ⟨Nat.le_of_ble_eq_true rfl, Nat.le_of_ble_eq_true rfl⟩) hK (va_recv hK hP (ci := 0) (q0 := 0) rfl rfl) hP hS (fun _ h => h) rfl hl.1 rfl (Nat.le_of_ble_eq_true rfl) dX5_sum_68 ⟨Nat.le_of_ble_eq_true rfl, Nat.le_of_ble_eq_true rfl⟩ (fun H locs hP hS _ _ => ?_)
                have hP : va_P D clA ((o, .inr (0, [.int t, .ref a1, .int bl, .int (nI L), .int (nI (px fb L n 1 0 (((sk fb L τ.1) + 1), τ.2)).1.1), .int ((px fb L n 1 0 (((sk fb L τ.1) + 1), τ.2)).1.2.1), .int ((px fb L n 1 0 (((sk fb L τ.1) + 1), τ.2)).1.2.2.1), .int eo, .ref a8, .ref a9, .ref a10, .int ud, .int (nI (px fb L n 1 0 (((sk fb L τ.1) + 1), τ.2)).1.2.2.2), .int 0, .int se, .ref a15])) :: (a8, .inl (k 0, 1798, .inl d)) :: (a9, .inl (k 0, 1798, .inl (emS (emL (emL dr cs) (px fb L n 1 0 (((sk fb L τ.1) + 1), τ.2)).2) 2 ((px fb L n 1 0 (((sk fb L τ.1) + 1), τ.2)).1)))) :: (a1, .inl (k 0, 900, .inl fb)) :: wr) H := hP
                refine lv_goto (tgt := 4) hx hb dX5_sum_71 (by decide) ?_
                have hP : va_P D clA ((o, .inr (0, [.int t, .ref a1, .int bl, .int (nI L), .int (nI (px fb L n 1 0 (((sk fb L τ.1) + 1), τ.2)).1.1), .int ((px fb L n 1 0 (((sk fb L τ.1) + 1), τ.2)).1.2.1), .int ((px fb L n 1 0 (((sk fb L τ.1) + 1), τ.2)).1.2.2.1), .int eo, .ref a8, .ref a9, .ref a10, .int ud, .int (nI (px fb L n 1 0 (((sk fb L τ.1) + 1), τ.2)).1.2.2.2), .int 0, .int se, .ref a15])) :: (a8, .inl (k 0, 1798, .inl d)) :: (a9, .inl (k 0, 1798, .inl (emL dr (cs ++ ((px fb L n 1 0 (sk fb L τ.1 + 1, τ.2)).2 ++ ifp ((px fb L n 1 0 (sk fb L τ.1 + 1, τ.2)).1.2.1 = 0) [2] []))))) :: (a1, .inl (k 0, 900, .inl fb)) :: wr) H := by rw [emL_app, emL_app, ← emS_L]; exact hP
                simp only [px, ifp_t b_8, ifp_t ho, ifp_t c_17] at he1 he2
                exact ih_4 (px fb L n 1 0 (sk fb L τ.1 + 1, τ.2)).1 (cs ++ ((px fb L n 1 0 (sk fb L τ.1 + 1, τ.2)).2 ++ ifp ((px fb L n 1 0 (sk fb L τ.1 + 1, τ.2)).1.2.1 = 0) [2] [])) q.1 (fun z => by have z2 : sk fb L τ.1 + 1 + 1 ≤ _ := (q.2 z).2.1; show 3 * (L - (px fb L n 1 0 (sk fb L τ.1 + 1, τ.2)).1.1) + 1 ≤ n; omega) (fun z => by obtain ⟨-, z2, z3, z4⟩ := q.2 z; have z2 : sk fb L τ.1 + 1 + 1 ≤ _ := z2; have z4 : _ ≤ 3 * (L - (sk fb L τ.1 + 1)) + 1 := z4; rw [ifp_t z, List.length_append, List.length_append]; simp only [List.length_cons, List.length_nil]; omega) he1 (by rw [List.append_assoc]; exact he2) (by omega) _ _ hP hS ls (lv_sub hl [1] rfl)
          · refine lv_aload_n hx hb dX5_sum_20 rfl (lv_at hl 0 rfl) ?_
            refine w_callV (As := []) (rest := []) C (m_next l D k o a1 a8 a9 a10 a15 t bl τ.2.1 τ.2.2.1 eo ud (nI τ.2.2.2) 0 se wr d (emL dr cs) fb L hL (sk fb L τ.1) A (va_D_of hD rfl) hs.2) (cwV 0 hts (lw_V q1735 q1737 qs33 q76 q1738) rfl rfl rfl (by decide +kernel) ⟨Nat.le_of_ble_eq_true rfl, Nat.le_of_ble_eq_true rfl⟩) hK (va_recv hK hP (ci := 0) (q0 := 0) rfl rfl) hP hS (fun _ h => h) rfl hl.1 rfl (Nat.le_of_ble_eq_true rfl) dX5_sum_21 ⟨Nat.le_of_ble_eq_true rfl, Nat.le_of_ble_eq_true rfl⟩ (fun H locs hP hS _ _ => ?_)
            rw [hss] at hP
            rw [hss]
            have hP : va_P D clA ((o, .inr (0, [.int t, .ref a1, .int bl, .int (nI L), .int (nI (sk fb L τ.1)), .int τ.2.1, .int τ.2.2.1, .int eo, .ref a8, .ref a9, .ref a10, .int ud, .int (nI τ.2.2.2), .int 0, .int se, .ref a15])) :: (a8, .inl (k 0, 1798, .inl d)) :: (a9, .inl (k 0, 1798, .inl (emL dr cs))) :: (a1, .inl (k 0, 900, .inl fb)) :: wr) H := hP
            refine lv_bipush (v := 45) hx hb dX5_sum_24 rfl ?_
            refine lv_icmp_ne (tgt := 74) hx hb dX5_sum_26 (by decide) (fun c_26 => ?_) (fun c_26 => ?_)
            · exact w_vret C (by simp only [px, ifp_t b_8, ifp_f (show ¬ (byt fb L (sk fb L τ.1) = 43 ∨ byt fb L (sk fb L τ.1) = 45) from fun h => h.elim c_17 c_26)] at he1 he2; rw [List.append_nil] at he2; have e1 : (sk fb L τ.1, τ.2) = (px fb L (f + 1) 2 0 σ).1 := he1; have e2 : cs = (px fb L (f + 1) 2 0 σ).2 := he2; rw [← e1, ← e2]; exact hP) hS dX5_sum_74
            · have ho : byt fb L (sk fb L τ.1) = 43 ∨ byt fb L (sk fb L τ.1) = 45 := Or.inr c_26
              have hlt : sk fb L τ.1 < L := ho.elim (fun e => byt_lt e (by decide)) (fun e => byt_lt e (by decide))
              have ok3 : okS L (sk fb L τ.1 + 1, τ.2) := ho.elim (fun e => okS_s1 hL ok2 e (by decide)) (fun e => okS_s1 hL ok2 e (by decide))
              have q := px_ok (fb := fb) hL n 1 0 (sk fb L τ.1 + 1, τ.2) ok3 (fun _ => by show 3 * (L - (sk fb L τ.1 + 1)) + 2 ≤ n; omega)
              refine lv_aload_n hx hb dX5_sum_29 rfl (lv_at hl 0 rfl) ?_
              refine w_callV (As := []) (rest := []) C (m_next l D k o a1 a8 a9 a10 a15 t bl τ.2.1 τ.2.2.1 eo ud (nI τ.2.2.2) 0 se wr d (emL dr cs) fb L hL (sk fb L τ.1) A (va_D_of hD rfl) hs.2) (cwV 0 hts (lw_V q1735 q1737 qs33 q76 q1738) rfl rfl rfl (by decide +kernel) ⟨Nat.le_of_ble_eq_true rfl, Nat.le_of_ble_eq_true rfl⟩) hK (va_recv hK hP (ci := 0) (q0 := 0) rfl rfl) hP hS (fun _ h => h) rfl hl.1 rfl (Nat.le_of_ble_eq_true rfl) dX5_sum_30 ⟨Nat.le_of_ble_eq_true rfl, Nat.le_of_ble_eq_true rfl⟩ (fun H locs hP hS _ _ => ?_)
              rw [hss] at hP
              rw [hss]
              have hP : va_P D clA ((o, .inr (0, [.int t, .ref a1, .int bl, .int (nI L), .int (nI (sk fb L τ.1)), .int τ.2.1, .int τ.2.2.1, .int eo, .ref a8, .ref a9, .ref a10, .int ud, .int (nI τ.2.2.2), .int 0, .int se, .ref a15])) :: (a8, .inl (k 0, 1798, .inl d)) :: (a9, .inl (k 0, 1798, .inl (emL dr cs))) :: (a1, .inl (k 0, 900, .inl fb)) :: wr) H := hP
              refine lv_bipush (v := 43) hx hb dX5_sum_33 rfl ?_
              refine lv_icmp_ne (tgt := 42) hx hb dX5_sum_35 (by decide) (fun c_35 => ?_) (fun c_35 => ?_)
              · refine lv_iconst (v := 0) hx hb dX5_sum_42 rfl ?_
                refine lv_istore_n (lv' := [(1, .int 0), (0, .ref o)]) hx hb dX5_sum_43 rfl hl (by decide) rfl (fun ls hl => ?_)
                refine lv_aload_n hx hb dX5_sum_44 rfl (lv_at hl 1 rfl) ?_
                refine lv_dup hx hb dX5_sum_45 rfl ?_
                refine va_get hx hb hts in_X5 hown hK hP 0 rfl rfl 4 (by decide) (hts _ q1666) (fun _ h => h) rfl dX5_sum_46 ?_
                refine lv_iconst (v := 1) hx hb dX5_sum_49 rfl ?_
                refine lv_iadd hx hb dX5_sum_50 ?_
                refine w_topi (y := nI ((sk fb L τ.1) + 1)) (nI_add (sk fb L τ.1) 1) ?_
                refine va_put hx hb hts in_X5 tyX5 tyX5_ok nmX5 hown hK hP (va_D_of hD rfl) hS 0 rfl rfl 4 (by decide) (hts _ q1666) (fun _ h => h) rfl rfl rfl rfl (Nat.le_of_ble_eq_true rfl) dX5_sum_51 (fun H locs hP _ hS => ?_)
                have hP : va_P D clA ((o, .inr (0, [.int t, .ref a1, .int bl, .int (nI L), .int (nI ((sk fb L τ.1) + 1)), .int τ.2.1, .int τ.2.2.1, .int eo, .ref a8, .ref a9, .ref a10, .int ud, .int (nI τ.2.2.2), .int 0, .int se, .ref a15])) :: (a8, .inl (k 0, 1798, .inl d)) :: (a9, .inl (k 0, 1798, .inl (emL dr cs))) :: (a1, .inl (k 0, 900, .inl fb)) :: wr) H := hP
                refine lv_aload_n hx hb dX5_sum_54 rfl (lv_at hl 1 rfl) ?_
                refine x_callV (As := []) (rest := []) C (m_term_0 l D k o a1 a8 a9 a10 a15 t bl eo ud se wr d (emL dr cs) fb L hL (((sk fb L τ.1) + 1), τ.2) A (va_D_of hD rfl) ok3 sA sV n (fun _ => by show 3 * (L - (sk fb L τ.1 + 1)) + 2 ≤ n; omega) (fun _ => ⟨d1, by show 2 * dN (emL dr cs) 5 + 3 * (L - (sk fb L τ.1 + 1)) + 1 ≤ 3000; omega⟩)) (cwV 0 hts (lw_V q1808 q1810 qs44 q76 q1811) rfl rfl rfl (by decide +kernel) ⟨Nat.le_of_ble_eq_true rfl, Nat.le_of_ble_eq_true rfl⟩) hK (va_recv hK hP (ci := 0) (q0 := 0) rfl rfl) mv2_MS hP (fun U hU hW => MS_to hX hS (fun _ h => h) U hU hW) hS (fun _ h => h) rfl hl.1 rfl (Nat.le_of_ble_eq_true rfl) dX5_sum_55 ⟨Nat.le_of_ble_eq_true rfl, Nat.le_of_ble_eq_true rfl⟩ (fun H locs hP hS _ _ => ?_)
                have hP : va_P D clA ((o, .inr (0, [.int t, .ref a1, .int bl, .int (nI L), .int (nI (px fb L n 1 0 (((sk fb L τ.1) + 1), τ.2)).1.1), .int ((px fb L n 1 0 (((sk fb L τ.1) + 1), τ.2)).1.2.1), .int ((px fb L n 1 0 (((sk fb L τ.1) + 1), τ.2)).1.2.2.1), .int eo, .ref a8, .ref a9, .ref a10, .int ud, .int (nI (px fb L n 1 0 (((sk fb L τ.1) + 1), τ.2)).1.2.2.2), .int 0, .int se, .ref a15])) :: (a8, .inl (k 0, 1798, .inl d)) :: (a9, .inl (k 0, 1798, .inl (emL (emL dr cs) (px fb L n 1 0 (((sk fb L τ.1) + 1), τ.2)).2))) :: (a1, .inl (k 0, 900, .inl fb)) :: wr) H := hP
                refine lv_aload_n hx hb dX5_sum_58 rfl (lv_at hl 1 rfl) ?_
                refine lv_iload_n hx hb dX5_sum_59 rfl (lv_at hl 0 rfl) ?_
                refine lv_if_eq (tgt := 67) hx hb dX5_sum_60 (by decide) (fun c_60 => ?_) (fun c_60 => ?_)
                · refine lv_iconst (v := 3) hx hb dX5_sum_67 rfl ?_
                  refine w_callV (As := [.int 3]) (rest := []) C (m_emit l D k o a1 a8 a9 a10 a15 t bl eo ud 0 se wr d (emL (emL dr cs) (px fb L n 1 0 (((sk fb L τ.1) + 1), τ.2)).2) fb L hL ((px fb L n 1 0 (((sk fb L τ.1) + 1), τ.2)).1) A (va_D_of hD rfl) q.1 3 (fun z => by obtain ⟨-, z2, z3, z4⟩ := q.2 z; have z2 : sk fb L τ.1 + 1 + 1 ≤ _ := z2; have z4 : _ ≤ 3 * (L - (sk fb L τ.1 + 1)) + 1 := z4; obtain ⟨y1, y2⟩ := emL_n (dr := emL dr cs) (px fb L n 1 0 (sk fb L τ.1 + 1, τ.2)).2 d1 (by omega); exact ⟨y1, by omega⟩)) (cwV 1 hts (lw_V q1823 q1825 qs47 q76 q1826) rfl rfl rfl (by decide +kernel) ⟨Nat.le_of_ble_eq_true rfl, Nat.le_of_ble_eq_true rfl⟩) hK (va_recv hK hP (ci := 0) (q0 := 0) rfl rfl) hP hS (fun _ h => h) rfl hl.1 rfl (Nat.le_of_ble_eq_true rfl) dX5_sum_68 ⟨Nat.le_of_ble_eq_true rfl, Nat.le_of_ble_eq_true rfl⟩ (fun H locs hP hS _ _ => ?_)
                  have hP : va_P D clA ((o, .inr (0, [.int t, .ref a1, .int bl, .int (nI L), .int (nI (px fb L n 1 0 (((sk fb L τ.1) + 1), τ.2)).1.1), .int ((px fb L n 1 0 (((sk fb L τ.1) + 1), τ.2)).1.2.1), .int ((px fb L n 1 0 (((sk fb L τ.1) + 1), τ.2)).1.2.2.1), .int eo, .ref a8, .ref a9, .ref a10, .int ud, .int (nI (px fb L n 1 0 (((sk fb L τ.1) + 1), τ.2)).1.2.2.2), .int 0, .int se, .ref a15])) :: (a8, .inl (k 0, 1798, .inl d)) :: (a9, .inl (k 0, 1798, .inl (emS (emL (emL dr cs) (px fb L n 1 0 (((sk fb L τ.1) + 1), τ.2)).2) 3 ((px fb L n 1 0 (((sk fb L τ.1) + 1), τ.2)).1)))) :: (a1, .inl (k 0, 900, .inl fb)) :: wr) H := hP
                  refine lv_goto (tgt := 4) hx hb dX5_sum_71 (by decide) ?_
                  have hP : va_P D clA ((o, .inr (0, [.int t, .ref a1, .int bl, .int (nI L), .int (nI (px fb L n 1 0 (((sk fb L τ.1) + 1), τ.2)).1.1), .int ((px fb L n 1 0 (((sk fb L τ.1) + 1), τ.2)).1.2.1), .int ((px fb L n 1 0 (((sk fb L τ.1) + 1), τ.2)).1.2.2.1), .int eo, .ref a8, .ref a9, .ref a10, .int ud, .int (nI (px fb L n 1 0 (((sk fb L τ.1) + 1), τ.2)).1.2.2.2), .int 0, .int se, .ref a15])) :: (a8, .inl (k 0, 1798, .inl d)) :: (a9, .inl (k 0, 1798, .inl (emL dr (cs ++ ((px fb L n 1 0 (sk fb L τ.1 + 1, τ.2)).2 ++ ifp ((px fb L n 1 0 (sk fb L τ.1 + 1, τ.2)).1.2.1 = 0) [3] []))))) :: (a1, .inl (k 0, 900, .inl fb)) :: wr) H := by rw [emL_app, emL_app, ← emS_L]; exact hP
                  simp only [px, ifp_t b_8, ifp_t ho, ifp_f c_17] at he1 he2
                  exact ih_4 (px fb L n 1 0 (sk fb L τ.1 + 1, τ.2)).1 (cs ++ ((px fb L n 1 0 (sk fb L τ.1 + 1, τ.2)).2 ++ ifp ((px fb L n 1 0 (sk fb L τ.1 + 1, τ.2)).1.2.1 = 0) [3] [])) q.1 (fun z => by have z2 : sk fb L τ.1 + 1 + 1 ≤ _ := (q.2 z).2.1; show 3 * (L - (px fb L n 1 0 (sk fb L τ.1 + 1, τ.2)).1.1) + 1 ≤ n; omega) (fun z => by obtain ⟨-, z2, z3, z4⟩ := q.2 z; have z2 : sk fb L τ.1 + 1 + 1 ≤ _ := z2; have z4 : _ ≤ 3 * (L - (sk fb L τ.1 + 1)) + 1 := z4; rw [ifp_t z, List.length_append, List.length_append]; simp only [List.length_cons, List.length_nil]; omega) he1 (by rw [List.append_assoc]; exact he2) (by omega) _ _ hP hS ls (lv_sub hl [1] rfl)
                · exact absurd c_60 (by decide)
              · exact absurd c_35 c_17
    exact loop_4 f (px fb L f 1 0 σ).1 (px fb L f 1 0 σ).2 q0.1 (fun z => by have z2 : σ.1 + 1 ≤ _ := (q0.2 z).2.1; show 3 * (L - (px fb L f 1 0 σ).1.1) + 1 ≤ f; omega) (fun z => by have z2 : _ ≤ 3 * (L - σ.1) + 1 := (q0.2 z).2.2.2; omega) (by simp only [px]) (by simp only [px]) (by omega) _ _ hP hS ls (lv_sub hl [0] rfl)
  · skip
    refine lv_aload_n hx hb dX5_sum_0 rfl (lv_at hl 0 rfl) ?_
    refine w_callV (As := []) (rest := []) C (m_termE l D k o a1 a8 a9 a10 a15 t bl eo ud 0 se wr d dr fb L hL σ A (va_D_of hD rfl) hok hg0) (cwV 0 hts (lw_V q1808 q1810 qs44 q76 q1811) rfl rfl rfl (by decide +kernel) ⟨Nat.le_of_ble_eq_true rfl, Nat.le_of_ble_eq_true rfl⟩) hK (va_recv hK hP (ci := 0) (q0 := 0) rfl rfl) hP hS (fun _ h => h) rfl hl.1 rfl (Nat.le_of_ble_eq_true rfl) dX5_sum_1 ⟨Nat.le_of_ble_eq_true rfl, Nat.le_of_ble_eq_true rfl⟩ (fun H locs hP hS _ _ => ?_)
    have hP : va_P D clA ((o, .inr (0, [.int t, .ref a1, .int bl, .int (nI L), .int (nI σ.1), .int σ.2.1, .int σ.2.2.1, .int eo, .ref a8, .ref a9, .ref a10, .int ud, .int (nI σ.2.2.2), .int 0, .int se, .ref a15])) :: (a8, .inl (k 0, 1798, .inl d)) :: (a9, .inl (k 0, 1798, .inl dr)) :: (a1, .inl (k 0, 900, .inl fb)) :: wr) H := hP
    refine lv_aload_n hx hb dX5_sum_4 rfl (lv_at hl 0 rfl) ?_
    refine r_callV (As := []) (rest := []) C (m_isGood l D k o σ.2.1 ([.int t, .ref a1, .int bl, .int (nI L), .int (nI σ.1), .int σ.2.1, .int σ.2.2.1, .int eo, .ref a8, .ref a9, .ref a10, .int ud, .int (nI σ.2.2.2), .int 0, .int se, .ref a15] : List Value) rfl) (cwV 0 hts (lw_V q1731 q1733 qs32 q76 q1734) rfl rfl rfl (by decide +kernel) ⟨Nat.le_of_ble_eq_true rfl, Nat.le_of_ble_eq_true rfl⟩) hK (va_recv hK hP (ci := 0) (q0 := 0) rfl rfl) (hP.sub [0] rfl) rfl hl.1 rfl (Nat.le_of_ble_eq_true rfl) dX5_sum_5 ⟨Nat.le_of_ble_eq_true rfl, Nat.le_of_ble_eq_true rfl⟩ ?_
    refine lv_if_eq (tgt := 74) hx hb dX5_sum_8 (by decide) (fun c_8 => ?_) (fun c_8 => ?_)
    · have b_8 := bI_0.mp c_8
      exact w_vret C (by rw [px_bad hg0]; exact hP) hS dX5_sum_74
    · exact absurd (bI_nz c_8) hg0
