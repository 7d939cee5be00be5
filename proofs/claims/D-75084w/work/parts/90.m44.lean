/-! the component: accept (printed by gen/m44.py) -/
set_option maxRecDepth 100000
theorem wd_all : ∀ ix, ix < 9 → ∀ j, j < 13 → wd ix j = (mBy ix).getD j 0 := by decide +kernel
theorem wd_let : ∀ ix, ix < 9 → ∀ j, j < mLen ix → (97 : Int32) ≤ (mBy ix).getD j 0 ∧ (mBy ix).getD j 0 ≤ 122 := by decide +kernel
theorem mL12 : ∀ ix, ix < 9 → mLen ix ≤ 12 := by decide +kernel
theorem eq_tw {fb : Nat → Int32} {L x n ix : Nat} {f : Nat → Int32} (hix : ix < 9) (h : wdB fb L x n f) : (n = mLen ix ∧ ∀ j, j < n → f j = (mBy ix).getD j 0) = twP fb L (mLen ix) (wd ix) x := by
  have h12 := mL12 ix hix
  apply propext
  constructor
  · intro ⟨e, hq⟩
    subst e
    exact ⟨fun j hj => by rw [wd_all ix hix j (by omega), ← hq j hj]; exact (h.1.1 j hj).2.symm, h.2⟩
  · intro ⟨h1, h2⟩
    have en : n = mLen ix := by
      rcases Nat.lt_trichotomy n (mLen ix) with q | q | q
      · have := h1 n q
        rw [wd_all ix hix n (by omega)] at this
        exact absurd (by rw [this]; exact wd_let ix hix n q) h.2
      · exact q
      · exact absurd (h.1.1 _ q).1 h2
    exact ⟨en, fun j hj => by rw [(h.1.1 j hj).2, h1 j (by omega), wd_all ix hix j (by omega)]⟩
theorem TW_e {fb : Nat → Int32} {L ix : Nat} {σ : PS} (h0 : σ.2.1 = 0) : TW fb L ix σ = twP fb L (mLen ix) (wd ix) (sk fb L σ.1) := propext ⟨fun h => h.2, fun h => ⟨h0, h⟩⟩
theorem TS_y {fb : Nat → Int32} {L ix : Nat} {σ : PS} (h : TW fb L ix σ) : TS fb L ix σ = (sk fb L σ.1 + mLen ix, σ.2) := by
  unfold TS twS
  rw [ifp_t h.1, ifp_t h.2]
theorem TS_n {fb : Nat → Int32} {L ix : Nat} {σ : PS} (h0 : σ.2.1 = 0) (h : ¬ TW fb L ix σ) : TS fb L ix σ = (sk fb L σ.1, σ.2) := by
  unfold TS twS
  rw [ifp_t h0, ifp_f (fun q => h ⟨h0, q⟩)]
set_option maxHeartbeats 4000000 in
theorem c_accept (l : Launch) (D : va_G) (k : Nat → ClassId) (g : Nat → Nat) (pa o bb dq cu ca ds L : Nat) (bl eo dp hfe : Int32) (fb : Nat → Int32) (hL : L ≤ 900) (hfb : okF fb) (σ : PS) (hσ : σ.2.1 = 0) (hok : okS L σ) (ix : Nat) (hix : ix < 9) : jM l D k yX6_accept cX6_accept 2 (some .boolean) 7 173 (L / 9 + 5) (5 * L + 44) [.ref pa, .ref (g (20 + ix))] g [(pa, .inr (5, [.int (nI L), .ref ca, .ref ds, .int (nI σ.1), .int (nI σ.2.2.2), .int dp, .int hfe, .ref o]))] (fun HH => FZ D [(pa, .inr (5, [.int (nI L), .ref ca, .ref ds, .int (nI σ.1), .int (nI σ.2.2.2), .int dp, .int hfe, .ref o]))] [(o, .inr (1, [.ref bb, .ref dq, .ref cu, .int bl, .int eo])), (bb, .inl (k 1, 900, .inl (cB fb)))] HH) (fun _ : Unit => some (.int (bI (TW fb L ix σ)))) (fun _ _ => True) (fun _ : Unit => [(pa, .inr (5, [.int (nI L), .ref ca, .ref ds, .int (nI (TS fb L ix σ).1), .int (nI (TS fb L ix σ).2.2.2), .int dp, .int hfe, .ref o]))]) := by
  refine jM_of (by decide) (Nat.le_of_ble_eq_true rfl) ?_
  intro p e s m below meth c ls A hAe C hnm hmn hK hP hD hA hAN hF hX hS hl
  have hN : NW s := hX.nw
  obtain ⟨hx, hb, hr, hml, hown, hts, hlk⟩ := id C
  have hl : lv_has ls 2 [(0, .ref pa), (1, .ref (g (20 + ix)))] := hl
  have hpl : σ.1 ≤ L := hok.1 hσ
  have hsk := sk_in (fb := fb) hpl
  have hTx := (hX.ps ix hix).2
  refine lv_aload_n hx hb dX6_accept_0 rfl (lv_at hl 0 rfl) ?_
  refine j_after (w1 := [(pa, .inr (5, [.int (nI L), .ref ca, .ref ds, .int (nI σ.1), .int (nI σ.2.2.2), .int dp, .int hfe, .ref o]))]) (w2 := []) (va_runV (As := []) (rest := []) (g := F0 m 1 ls [.ref pa]) C.fix (c_word l D k g pa o bb dq cu ca ds L σ.1 bl eo (nI σ.2.2.2) dp hfe fb hL (by omega) hfb) (cwV 0 hts (lw_V q499 q501 qs4 q81 q502) rfl rfl rfl (by decide +kernel) ⟨Nat.le_of_ble_eq_true rfl, Nat.le_of_ble_eq_true rfl⟩) (preV mv2_jPre hK (va_recv hK hP (ci := 5) (q0 := 0) rfl rfl) (fun U hU hW => jPre_at (w1 := [(pa, .inr (5, [.int (nI L), .ref ca, .ref ds, .int (nI σ.1), .int (nI σ.2.2.2), .int dp, .int hfe, .ref o]))]) (w2 := []) hP (va_D_of hD rfl) hAN hX hS (FZ.sub (FZ_call (w1 := [(pa, .inr (5, [.int (nI L), .ref ca, .ref ds, .int (nI σ.1), .int (nI σ.2.2.2), .int dp, .int hfe, .ref o]))]) (w2 := []) hAe hF hS (va_D_of hD rfl)) [0, 1] rfl) hU hW)) rfl rfl hl.1 rfl (lv_room (Nat.le_of_ble_eq_true rfl)) dX6_accept_1 ⟨(by first | exact Nat.le_of_ble_eq_true rfl | omega | (dsimp only [Rm]; omega)), (by first | exact Nat.le_of_ble_eq_true rfl | omega | (dsimp only [Rm]; omega))⟩) hP (va_D_of hD rfl) hS hA (fun xx H locs hB hP hD hS hsz hk => ?_)
  obtain ⟨tx, q3, n9, f9⟩ := xx
  have hP : va_P D clA [(pa, .inr (5, [.int (nI L), .ref ca, .ref ds, .int (nI (sk fb L σ.1)), .int (nI σ.2.2.2), .int dp, .int hfe, .ref o])), (tx, .inr (14, [.ref q3, .int 0, .int 0, .int 0])), (q3, .inl (k 1, n9, .inl f9))] H := hP
  have hD : va_D A [(pa, .inr (5, [.int (nI L), .ref ca, .ref ds, .int (nI (sk fb L σ.1)), .int (nI σ.2.2.2), .int dp, .int hfe, .ref o])), (tx, .inr (14, [.ref q3, .int 0, .int 0, .int 0])), (q3, .inl (k 1, n9, .inl f9))] := hD
  have hwd : wdB fb L (sk fb L σ.1) n9 f9 := hB
  refine lv_aload_n hx hb dX6_accept_4 rfl (lv_at hl 1 rfl) ?_
  refine r_after (va_runV (As := [.ref (g (20 + ix))]) (rest := []) (g := F0 m 5 ls [.ref (g (20 + ix)), .ref tx]) C.fix (j_strEq l D k g tx q3 n9 ix 0 0 f9 (by have := hwd.1.2; omega) hix (hAN _ (hD.2 1 _ rfl))) (cwV 1 hts (lw_V q848 q849 q850 q84 q851) rfl rfl rfl (by decide +kernel) ⟨Nat.le_of_ble_eq_true rfl, Nat.le_of_ble_eq_true rfl⟩) (preV mv2_hKX hK (va_recv hK hP (ci := 14) (q0 := 1) rfl rfl) (fun U hU hW => (hKX_at hX hS hAN (va_cons (hP 1 _ rfl) (va_cons (hP 2 _ rfl) va_nil)) hU hW))) rfl rfl hl.1 rfl (lv_room (Nat.le_of_ble_eq_true rfl)) dX6_accept_5 ⟨(by first | exact Nat.le_of_ble_eq_true rfl | omega | (dsimp only [Rm]; omega)), (by first | exact Nat.le_of_ble_eq_true rfl | omega | (dsimp only [Rm]; omega))⟩) ?_
  refine w_topi (y := bI (TW fb L ix σ)) (by rw [eq_tw hix hwd, TW_e hσ]) ?_
  refine lv_if_ne (tgt := 13) hx hb dX6_accept_8 (by decide) (fun c_8 => ?_) (fun c_8 => ?_)
  · have b_8 := bI_nz c_8
    refine lv_aload_n hx hb dX6_accept_13 rfl (lv_at hl 0 rfl) ?_
    refine lv_dup hx hb dX6_accept_14 rfl ?_
    refine va_get hx hb hts in_X6 hown hK hP 0 rfl rfl 3 (by decide) (hts _ q465) (fun _ h => h) rfl dX6_accept_15 ?_
    refine lv_aload_n hx hb dX6_accept_18 rfl (lv_at hl 1 rfl) ?_
    refine r_after (va_runV (As := []) (rest := [.int (nI (sk fb L σ.1)), .ref pa]) (g := F0 m 19 ls [.ref (g (20 + ix)), .int (nI (sk fb L σ.1)), .ref pa]) C.fix (j_length l D k (g (20 + ix)) (g (30 + ix)) (mLen ix) (fun j => (mBy ix).getD j 0)) (cwV 0 hts (lw_V q785 q723 q724 q84 q725) rfl rfl rfl (by decide +kernel) ⟨Nat.le_of_ble_eq_true rfl, Nat.le_of_ble_eq_true rfl⟩) (preV (mv.to2 (mv_and mv_EnS mv_stC)) hK (stX_rc hTx (S_wide hS hAN)) (fun U hU hW => ⟨EnX_at hX.en (S_wide hS hAN) U hU hW, stX_at hTx (S_wide hS hAN) U hU hW⟩)) rfl rfl hl.1 rfl (lv_room (Nat.le_of_ble_eq_true rfl)) dX6_accept_19 ⟨(by first | exact Nat.le_of_ble_eq_true rfl | omega | (dsimp only [Rm]; omega)), (by first | exact Nat.le_of_ble_eq_true rfl | omega | (dsimp only [Rm]; omega))⟩) ?_
    refine lv_iadd hx hb dX6_accept_22 ?_
    refine w_topi (y := nI (sk fb L σ.1 + mLen ix)) (nI_add _ _) ?_
    refine va_put hx hb hts in_X6 tyX6 tyX6_ok nmX6 hown hK hP (va_D_of hD rfl) hS 0 rfl rfl 3 (by decide) (hts _ q465) (fun _ h => h) rfl rfl rfl rfl (Nat.le_of_ble_eq_true rfl) dX6_accept_23 (fun H locs hP _ hS => ?_)
    have hP : va_P D clA [(pa, .inr (5, [.int (nI L), .ref ca, .ref ds, .int (nI (sk fb L σ.1 + mLen ix)), .int (nI σ.2.2.2), .int dp, .int hfe, .ref o])), (tx, .inr (14, [.ref q3, .int 0, .int 0, .int 0])), (q3, .inl (k 1, n9, .inl f9))] H := hP
    refine lv_iconst (v := 1) hx hb dX6_accept_26 rfl ?_
    exact j_zret hAe C () (bI_t (bI_nz c_8)) rfl trivial (by rw [TS_y (bI_nz c_8)]; exact hP.sub [0] rfl) (va_D_of (D_sub (ws' := [(pa, .inr (5, [.int (nI L), .ref ca, .ref ds, .int (nI (sk fb L σ.1 + mLen ix)), .int (nI σ.2.2.2), .int dp, .int hfe, .ref o]))]) (va_D_of (ws' := [(pa, .inr (5, [.int (nI L), .ref ca, .ref ds, .int (nI (sk fb L σ.1 + mLen ix)), .int (nI σ.2.2.2), .int dp, .int hfe, .ref o])), (tx, .inr (14, [.ref q3, .int 0, .int 0, .int 0])), (q3, .inl (k 1, n9, .inl f9))]) hD rfl) [0] rfl rfl) rfl) hS (by first | exact Nat.le_of_ble_eq_true rfl | omega | (dsimp only [Rm]; omega)) (by first | exact Nat.le_of_ble_eq_true rfl | omega | (dsimp only [Rm]; omega)) dX6_accept_27
  · have b_8 := bI_0.mp c_8
    refine lv_iconst (v := 0) hx hb dX6_accept_11 rfl ?_
    exact j_zret hAe C () (bI_f (bI_0.mp c_8)) rfl trivial (by rw [TS_n hσ (bI_0.mp c_8)]; exact hP.sub [0] rfl) (va_D_of (D_sub (ws' := [(pa, .inr (5, [.int (nI L), .ref ca, .ref ds, .int (nI (sk fb L σ.1)), .int (nI σ.2.2.2), .int dp, .int hfe, .ref o]))]) (va_D_of (ws' := [(pa, .inr (5, [.int (nI L), .ref ca, .ref ds, .int (nI (sk fb L σ.1)), .int (nI σ.2.2.2), .int dp, .int hfe, .ref o])), (tx, .inr (14, [.ref q3, .int 0, .int 0, .int 0])), (q3, .inl (k 1, n9, .inl f9))]) hD rfl) [0] rfl rfl) rfl) hS (by first | exact Nat.le_of_ble_eq_true rfl | omega | (dsimp only [Rm]; omega)) (by first | exact Nat.le_of_ble_eq_true rfl | omega | (dsimp only [Rm]; omega)) dX6_accept_12
