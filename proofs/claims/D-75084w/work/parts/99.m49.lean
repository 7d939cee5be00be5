/-! the component: signs and numbers inside an expression (printed by gen/m49.py) -/
set_option maxRecDepth 100000
set_option maxHeartbeats 4000000 in
theorem c_expectP (l : Launch) (D : va_G) (k : Nat → ClassId) (g : Nat → Nat) (pa o bb dq cu ca ds L : Nat) (bl eo dp hfe : Int32) (fb : Nat → Int32) (hL : L ≤ 900) (hfb : okF fb) (σ : PS) (hσ : σ.2.1 = 0) (hok : okS L σ) (cc0 : Nat) (hcc : cc0 < 128) (htr : l.stackTraces = false) : uM l D k yX6_expect cX6_expect 3 none 6 132 1 7 [.ref pa, .int (nI cc0)] g [(pa, .inr (5, [.int (nI L), .ref ca, .ref ds, .int (nI σ.1), .int (nI σ.2.2.2), .int dp, .int hfe, .ref o]))] (fun HH => FZ D [(pa, .inr (5, [.int (nI L), .ref ca, .ref ds, .int (nI σ.1), .int (nI σ.2.2.2), .int dp, .int hfe, .ref o]))] [(o, .inr (1, [.ref bb, .ref dq, .ref cu, .int bl, .int eo])), (bb, .inl (k 1, 900, .inl (cB fb)))] HH) (fun _ : Unit => none) (fun (xx : Unit) HH => (exS fb L (nI cc0) σ).2.1 = 0) (fun _ : Unit => [(pa, .inr (5, [.int (nI L), .ref ca, .ref ds, .int (nI (exS fb L (nI cc0) σ).1), .int (nI (exS fb L (nI cc0) σ).2.2.2), .int dp, .int hfe, .ref o]))]) (feX D pa o ca ds L hfe (exS fb L (nI cc0) σ)) := by
  refine uM_of (by decide) (Nat.le_of_ble_eq_true rfl) ?_
  intro p e s m below meth c ls A hAe C hnt hnm hmn hK hP hD hA hAN hF hX hS hl
  have hN : NW s := hX.nw
  obtain ⟨hx, hb, hr, hml, hown, hts, hlk⟩ := id C
  have hl : lv_has ls 3 [(0, .ref pa), (1, .int (nI cc0))] := hl
  have hpl : σ.1 ≤ L := hok.1 hσ
  have hsk := sk_in (fb := fb) hpl
  refine lv_aload_n hx hb dX6_expect_0 rfl (lv_at hl 0 rfl) ?_
  refine j_after (w1 := [(pa, .inr (5, [.int (nI L), .ref ca, .ref ds, .int (nI σ.1), .int (nI σ.2.2.2), .int dp, .int hfe, .ref o]))]) (w2 := []) (va_runV (As := []) (rest := []) (g := F0 m 1 ls [.ref pa]) C.fix (c_peek l D k g pa o bb dq cu ca ds L σ.1 bl eo (nI σ.2.2.2) dp hfe fb hL (by omega) hfb) (cwV 0 hts (lw_V q491 q493 qs2 q81 q494) rfl rfl rfl (by decide +kernel) ⟨Nat.le_of_ble_eq_true rfl, Nat.le_of_ble_eq_true rfl⟩) (preV mv2_jPre hK (va_recv hK hP (ci := 5) (q0 := 0) rfl rfl) (fun U hU hW => jPre_at (w1 := [(pa, .inr (5, [.int (nI L), .ref ca, .ref ds, .int (nI σ.1), .int (nI σ.2.2.2), .int dp, .int hfe, .ref o]))]) (w2 := []) hP (va_D_of hD rfl) hAN hX hS (FZ.sub (FZ_call (w1 := [(pa, .inr (5, [.int (nI L), .ref ca, .ref ds, .int (nI σ.1), .int (nI σ.2.2.2), .int dp, .int hfe, .ref o]))]) (w2 := []) hAe hF hS (va_D_of hD rfl)) [0, 1] rfl) hU hW)) rfl rfl hl.1 rfl (lv_room (Nat.le_of_ble_eq_true rfl)) dX6_expect_1 ⟨(by first | exact Nat.le_of_ble_eq_true rfl | omega | (dsimp only [Rm]; omega)), (by first | exact Nat.le_of_ble_eq_true rfl | omega | (dsimp only [Rm]; omega))⟩) hP (va_D_of hD rfl) hS hA (fun xx H locs hB hP hD hS hsz hk => ?_)
  have hP : va_P D clA [(pa, .inr (5, [.int (nI L), .ref ca, .ref ds, .int (nI (sk fb L σ.1)), .int (nI σ.2.2.2), .int dp, .int hfe, .ref o]))] H := hP
  have hD : va_D A [(pa, .inr (5, [.int (nI L), .ref ca, .ref ds, .int (nI (sk fb L σ.1)), .int (nI σ.2.2.2), .int dp, .int hfe, .ref o]))] := hD
  refine lv_iload_n hx hb dX6_expect_4 rfl (lv_at hl 1 rfl) ?_
  have J_13 : ∀ (zz : Int32), (zz = bI (byt fb L (sk fb L σ.1) = nI cc0)) → ∀ (ls : Array Slot), lv_has ls 3 [(0, .ref pa), (1, .int (nI cc0))] → W p l e (Rm 6 132 1 7) s m ([.ref pa, .int (nI cc0)] : List Value).toArray below meth c H locs (0 + 0) (0 + 0) (vy_MQ below (jQ D (fun _ : Unit => none) (fun (xx : Unit) HH => (exS fb L (nI cc0) σ).2.1 = 0) (fun _ : Unit => [(pa, .inr (5, [.int (nI L), .ref ca, .ref ds, .int (nI (exS fb L (nI cc0) σ).1), .int (nI (exS fb L (nI cc0) σ).2.2.2), .int dp, .int hfe, .ref o]))]) (inL [(pa, .inr (5, [.int (nI L), .ref ca, .ref ds, .int (nI σ.1), .int (nI σ.2.2.2), .int dp, .int hfe, .ref o]))])) (uX (feX D pa o ca ds L hfe (exS fb L (nI cc0) σ)) (inL [(pa, .inr (5, [.int (nI L), .ref ca, .ref ds, .int (nI σ.1), .int (nI σ.2.2.2), .int dp, .int hfe, .ref o]))])) ([.ref pa, .int (nI cc0)] : List Value).toArray s 1 7 (inL [(pa, .inr (5, [.int (nI L), .ref ca, .ref ds, .int (nI σ.1), .int (nI σ.2.2.2), .int dp, .int hfe, .ref o]))])) (F0 m 13 ls [.int zz]) := by
    intro zz h_zz ls hl
    refine lv_istore_n (lv' := [(2, .int zz), (0, .ref pa), (1, .int (nI cc0))]) hx hb dX6_expect_13 rfl hl (by decide) rfl (fun ls hl => ?_)
    refine lv_aload_n hx hb dX6_expect_14 rfl (lv_at hl 1 rfl) ?_
    refine lv_iload_n hx hb dX6_expect_15 rfl (lv_at hl 0 rfl) ?_
    refine lv_aload_n hx hb dX6_expect_16 rfl (lv_at hl 1 rfl) ?_
    refine va_get hx hb hts in_X6 hown hK hP 0 rfl rfl 3 (by decide) (hts _ q465) (fun _ h => h) rfl dX6_expect_17 ?_
    subst h_zz
    refine u_after (w1 := []) (w2 := [(pa, .inr (5, [.int (nI L), .ref ca, .ref ds, .int (nI (sk fb L σ.1)), .int (nI σ.2.2.2), .int dp, .int hfe, .ref o]))]) (vy_runV (As := [.int (bI (byt fb L (sk fb L σ.1) = nI cc0)), .int (nI (sk fb L σ.1))]) (rest := []) (g := F0 m 20 ls [.int (nI (sk fb L σ.1)), .int (bI (byt fb L (sk fb L σ.1) = nI cc0)), .ref pa]) C.fix (c_reqSyntax l D k g pa (byt fb L (sk fb L σ.1) = nI cc0) (nI (sk fb L σ.1)) htr) (cwV 2 hts (lw_V q872 q874 qs9 q81 q875) rfl rfl rfl (by decide +kernel) ⟨Nat.le_of_ble_eq_true rfl, Nat.le_of_ble_eq_true rfl⟩) (preV mv2_jPre hK (va_recv hK hP (ci := 5) (q0 := 0) rfl rfl) (fun U hU hW => jPre_at (w1 := []) (w2 := [(pa, .inr (5, [.int (nI L), .ref ca, .ref ds, .int (nI (sk fb L σ.1)), .int (nI σ.2.2.2), .int dp, .int hfe, .ref o]))]) hP (va_D_of hD rfl) hAN hX hS trivial hU hW)) rfl rfl hl.1 rfl (lv_room (Nat.le_of_ble_eq_true rfl)) dX6_expect_20 ⟨(by first | exact Nat.le_of_ble_eq_true rfl | omega | (dsimp only [Rm]; omega)), (by first | exact Nat.le_of_ble_eq_true rfl | omega | (dsimp only [Rm]; omega))⟩) hP (va_D_of hD rfl) hS hA (fun E ce q9 H locs hth hS hsz hk hce hcv hcl => u_out hAe hnt hlk (⟨rdT_of (ex_er hσ hth.1) (by decide) hth.2, _, _, _, hP.kept (fun i q hi => hk q.1 ((hP i q hi).lt) (fun z => by cases z))⟩) hS hce hcv hcl (by first | exact Nat.le_of_ble_eq_true rfl | omega | (dsimp only [Rm]; omega)) (by first | exact Nat.le_of_ble_eq_true rfl | omega | (dsimp only [Rm]; omega))) (fun xx H locs hB hP hD hS hsz hk => ?_)
    have hP : va_P D clA [(pa, .inr (5, [.int (nI L), .ref ca, .ref ds, .int (nI (sk fb L σ.1)), .int (nI σ.2.2.2), .int dp, .int hfe, .ref o]))] H := hP
    have hD : va_D A [(pa, .inr (5, [.int (nI L), .ref ca, .ref ds, .int (nI (sk fb L σ.1)), .int (nI σ.2.2.2), .int dp, .int hfe, .ref o]))] := hD
    have hbe : byt fb L (sk fb L σ.1) = nI cc0 := hB
    refine lv_aload_n hx hb dX6_expect_23 rfl (lv_at hl 1 rfl) ?_
    refine lv_dup hx hb dX6_expect_24 rfl ?_
    refine va_get hx hb hts in_X6 hown hK hP 0 rfl rfl 3 (by decide) (hts _ q465) (fun _ h => h) rfl dX6_expect_25 ?_
    refine lv_iconst (v := 1) hx hb dX6_expect_28 rfl ?_
    refine lv_iadd hx hb dX6_expect_29 ?_
    refine w_topi (y := nI ((sk fb L σ.1) + 1)) (nI_add (sk fb L σ.1) 1) ?_
    refine va_put hx hb hts in_X6 tyX6 tyX6_ok nmX6 hown hK hP (va_D_of hD rfl) hS 0 rfl rfl 3 (by decide) (hts _ q465) (fun _ h => h) rfl rfl rfl rfl (Nat.le_of_ble_eq_true rfl) dX6_expect_30 (fun H locs hP _ hS => ?_)
    have hP : va_P D clA [(pa, .inr (5, [.int (nI L), .ref ca, .ref ds, .int (nI ((sk fb L σ.1) + 1)), .int (nI σ.2.2.2), .int dp, .int hfe, .ref o]))] H := hP
    exact vy_ret (j_vret hAe C () rfl (by rw [ex_ok hσ hbe]; exact hσ) (by rw [ex_ok hσ hbe]; exact hP) (va_D_of hD rfl) hS (by first | exact Nat.le_of_ble_eq_true rfl | omega | (dsimp only [Rm]; omega)) (by first | exact Nat.le_of_ble_eq_true rfl | omega | (dsimp only [Rm]; omega)) dX6_expect_33)
  refine lv_icmp_ne (tgt := 12) hx hb dX6_expect_5 (by decide) (fun c_5 => ?_) (fun c_5 => ?_)
  · refine lv_iconst (v := 0) hx hb dX6_expect_12 rfl ?_
    exact J_13 0 (by first | exact bI_t ((cby_eq hfb cc0 hcc).mp c_5) | exact bI_f (fun h => c_5 ((cby_eq hfb cc0 hcc).mpr h))) ls hl
  · refine lv_iconst (v := 1) hx hb dX6_expect_8 rfl ?_
    refine lv_goto (tgt := 13) hx hb dX6_expect_9 (by decide) ?_
    exact J_13 1 (by first | exact bI_t ((cby_eq hfb cc0 hcc).mp c_5) | exact bI_f (fun h => c_5 ((cby_eq hfb cc0 hcc).mpr h))) ls hl
set_option maxHeartbeats 4000000 in
theorem c_numberP (l : Launch) (D : va_G) (k : Nat → ClassId) (g : Nat → Nat) (pa o bb dq cu ca ds L : Nat) (bl eo dp hfe : Int32) (fb : Nat → Int32) (hL : L ≤ 900) (hfb : okF fb) (σ : PS) (hσ : σ.2.1 = 0) (hok : okS L σ) (lo hi : Int32) (htr : l.stackTraces = false) : uM l D k yX6_number cX6_number 5 (some .int) 6 134 2 15 [.ref pa, .int lo, .int hi] g [(pa, .inr (5, [.int (nI L), .ref ca, .ref ds, .int (nI σ.1), .int (nI σ.2.2.2), .int dp, .int hfe, .ref o]))] (fun HH => FZ D [(pa, .inr (5, [.int (nI L), .ref ca, .ref ds, .int (nI σ.1), .int (nI σ.2.2.2), .int dp, .int hfe, .ref o]))] [(o, .inr (1, [.ref bb, .ref dq, .ref cu, .int bl, .int eo])), (bb, .inl (k 1, 900, .inl (cB fb)))] HH) (fun _ : Unit => some (.int ((nmS fb L lo hi σ).1))) (fun (xx : Unit) HH => (nmS fb L lo hi σ).2.2.1 = 0) (fun _ : Unit => [(pa, .inr (5, [.int (nI L), .ref ca, .ref ds, .int (nI ((nmS fb L lo hi σ).2).1), .int (nI ((nmS fb L lo hi σ).2).2.2.2), .int dp, .int hfe, .ref o]))]) (feX D pa o ca ds L hfe ((nmS fb L lo hi σ).2)) := by
  refine uM_of (by decide) (Nat.le_of_ble_eq_true rfl) ?_
  intro p e s m below meth c ls A hAe C hnt hnm hmn hK hP hD hA hAN hF hX hS hl
  have hN : NW s := hX.nw
  obtain ⟨hx, hb, hr, hml, hown, hts, hlk⟩ := id C
  have hl : lv_has ls 5 [(0, .ref pa), (1, .int lo), (2, .int hi)] := hl
  have hpl : σ.1 ≤ L := hok.1 hσ
  have hsk := sk_in (fb := fb) hpl
  refine lv_aload_n hx hb dX6_number_0 rfl (lv_at hl 0 rfl) ?_
  refine j_after (w1 := [(pa, .inr (5, [.int (nI L), .ref ca, .ref ds, .int (nI σ.1), .int (nI σ.2.2.2), .int dp, .int hfe, .ref o]))]) (w2 := []) (va_runV (As := []) (rest := []) (g := F0 m 1 ls [.ref pa]) C.fix (c_isDigitNext l D k g pa o bb dq cu ca ds L σ.1 bl eo (nI σ.2.2.2) dp hfe fb hL (by omega) hfb) (cwV 0 hts (lw_V q866 q868 qs8 q81 q869) rfl rfl rfl (by decide +kernel) ⟨Nat.le_of_ble_eq_true rfl, Nat.le_of_ble_eq_true rfl⟩) (preV mv2_jPre hK (va_recv hK hP (ci := 5) (q0 := 0) rfl rfl) (fun U hU hW => jPre_at (w1 := [(pa, .inr (5, [.int (nI L), .ref ca, .ref ds, .int (nI σ.1), .int (nI σ.2.2.2), .int dp, .int hfe, .ref o]))]) (w2 := []) hP (va_D_of hD rfl) hAN hX hS (FZ.sub (FZ_call (w1 := [(pa, .inr (5, [.int (nI L), .ref ca, .ref ds, .int (nI σ.1), .int (nI σ.2.2.2), .int dp, .int hfe, .ref o]))]) (w2 := []) hAe hF hS (va_D_of hD rfl)) [0, 1] rfl) hU hW)) rfl rfl hl.1 rfl (lv_room (Nat.le_of_ble_eq_true rfl)) dX6_number_1 ⟨(by first | exact Nat.le_of_ble_eq_true rfl | omega | (dsimp only [Rm]; omega)), (by first | exact Nat.le_of_ble_eq_true rfl | omega | (dsimp only [Rm]; omega))⟩) hP (va_D_of hD rfl) hS hA (fun xx H locs hB hP hD hS hsz hk => ?_)
  have hP : va_P D clA [(pa, .inr (5, [.int (nI L), .ref ca, .ref ds, .int (nI (sk fb L σ.1)), .int (nI σ.2.2.2), .int dp, .int hfe, .ref o]))] H := hP
  have hD : va_D A [(pa, .inr (5, [.int (nI L), .ref ca, .ref ds, .int (nI (sk fb L σ.1)), .int (nI σ.2.2.2), .int dp, .int hfe, .ref o]))] := hD
  refine lv_istore_n (lv' := [(3, .int (bI (dig (byt fb L (sk fb L σ.1))))), (0, .ref pa), (1, .int lo), (2, .int hi)]) hx hb dX6_number_4 rfl hl (by decide) rfl (fun ls hl => ?_)
  refine lv_aload_n hx hb dX6_number_5 rfl (lv_at hl 1 rfl) ?_
  refine lv_iload_n hx hb dX6_number_6 rfl (lv_at hl 0 rfl) ?_
  refine lv_aload_n hx hb dX6_number_7 rfl (lv_at hl 1 rfl) ?_
  refine va_get hx hb hts in_X6 hown hK hP 0 rfl rfl 3 (by decide) (hts _ q465) (fun _ h => h) rfl dX6_number_8 ?_
  refine u_after (w1 := []) (w2 := [(pa, .inr (5, [.int (nI L), .ref ca, .ref ds, .int (nI (sk fb L σ.1)), .int (nI σ.2.2.2), .int dp, .int hfe, .ref o]))]) (vy_runV (As := [.int (bI (dig (byt fb L (sk fb L σ.1)))), .int (nI (sk fb L σ.1))]) (rest := []) (g := F0 m 11 ls [.int (nI (sk fb L σ.1)), .int (bI (dig (byt fb L (sk fb L σ.1)))), .ref pa]) C.fix (c_reqSyntax l D k g pa (dig (byt fb L (sk fb L σ.1))) (nI (sk fb L σ.1)) htr) (cwV 2 hts (lw_V q872 q874 qs9 q81 q875) rfl rfl rfl (by decide +kernel) ⟨Nat.le_of_ble_eq_true rfl, Nat.le_of_ble_eq_true rfl⟩) (preV mv2_jPre hK (va_recv hK hP (ci := 5) (q0 := 0) rfl rfl) (fun U hU hW => jPre_at (w1 := []) (w2 := [(pa, .inr (5, [.int (nI L), .ref ca, .ref ds, .int (nI (sk fb L σ.1)), .int (nI σ.2.2.2), .int dp, .int hfe, .ref o]))]) hP (va_D_of hD rfl) hAN hX hS trivial hU hW)) rfl rfl hl.1 rfl (lv_room (Nat.le_of_ble_eq_true rfl)) dX6_number_11 ⟨(by first | exact Nat.le_of_ble_eq_true rfl | omega | (dsimp only [Rm]; omega)), (by first | exact Nat.le_of_ble_eq_true rfl | omega | (dsimp only [Rm]; omega))⟩) hP (va_D_of hD rfl) hS hA (fun E ce q9 H locs hth hS hsz hk hce hcv hcl => u_out hAe hnt hlk (⟨rdT_of (congrArg Prod.snd (nm_nd hσ hth.1)) (show ¬ (-2 : Int32) = 0 by decide) hth.2, _, _, _, hP.kept (fun i q hi => hk q.1 ((hP i q hi).lt) (fun z => by cases z))⟩) hS hce hcv hcl (by first | exact Nat.le_of_ble_eq_true rfl | omega | (dsimp only [Rm]; omega)) (by first | exact Nat.le_of_ble_eq_true rfl | omega | (dsimp only [Rm]; omega))) (fun xx H locs hB hP hD hS hsz hk => ?_)
  have hP : va_P D clA [(pa, .inr (5, [.int (nI L), .ref ca, .ref ds, .int (nI (sk fb L σ.1)), .int (nI σ.2.2.2), .int dp, .int hfe, .ref o]))] H := hP
  have hD : va_D A [(pa, .inr (5, [.int (nI L), .ref ca, .ref ds, .int (nI (sk fb L σ.1)), .int (nI σ.2.2.2), .int dp, .int hfe, .ref o]))] := hD
  have hdg : dig (byt fb L (sk fb L σ.1)) := hB
  refine lv_aload_n hx hb dX6_number_14 rfl (lv_at hl 1 rfl) ?_
  refine lv_aload_n hx hb dX6_number_15 rfl (lv_at hl 1 rfl) ?_
  refine va_get hx hb hts in_X6 hown hK hP 0 rfl rfl 3 (by decide) (hts _ q465) (fun _ h => h) rfl dX6_number_16 ?_
  refine va_put hx hb hts in_X6 tyX6 tyX6_ok nmX6 hown hK hP (va_D_of hD rfl) hS 0 rfl rfl 4 (by decide) (hts _ q466) (fun _ h => h) rfl rfl rfl rfl (Nat.le_of_ble_eq_true rfl) dX6_number_19 (fun H locs hP _ hS => ?_)
  have hP : va_P D clA [(pa, .inr (5, [.int (nI L), .ref ca, .ref ds, .int (nI (sk fb L σ.1)), .int (nI (sk fb L σ.1)), .int dp, .int hfe, .ref o]))] H := hP
  refine lv_iconst (v := 0) hx hb dX6_number_22 rfl ?_
  refine lv_istore (lv' := [(4, .int 0), (3, .int (bI (dig (byt fb L (sk fb L σ.1))))), (0, .ref pa), (1, .int lo), (2, .int hi)]) hx hb dX6_number_23 hl (by decide) rfl (fun ls hl => ?_)
  have loop_25 : ∀ (n : Nat) (x : Nat) (v : Int32), (x ≤ L) → (nd fb L x v = nd fb L (sk fb L σ.1) 0) → (L + 1 ≤ x + n) → ∀ (H : Heap) (locs : List Loc), va_P D clA [(pa, .inr (5, [.int (nI L), .ref ca, .ref ds, .int (nI x), .int (nI (sk fb L σ.1)), .int dp, .int hfe, .ref o]))] H → va_D A [(pa, .inr (5, [.int (nI L), .ref ca, .ref ds, .int (nI x), .int (nI (sk fb L σ.1)), .int dp, .int hfe, .ref o]))] → va_S A s.heap H locs → ∀ (ls : Array Slot), lv_has ls 5 [(0, .ref pa), (1, .int lo), (2, .int hi), (3, .int (bI (dig (byt fb L (sk fb L σ.1))))), (4, .int v)] → W p l e (Rm 6 134 2 15) s m ([.ref pa, .int lo, .int hi] : List Value).toArray below meth c H locs (0 + 0 + 1) (0 + 0 + 7) (vy_MQ below (jQ D (fun _ : Unit => some (.int ((nmS fb L lo hi σ).1))) (fun (xx : Unit) HH => (nmS fb L lo hi σ).2.2.1 = 0) (fun _ : Unit => [(pa, .inr (5, [.int (nI L), .ref ca, .ref ds, .int (nI ((nmS fb L lo hi σ).2).1), .int (nI ((nmS fb L lo hi σ).2).2.2.2), .int dp, .int hfe, .ref o]))]) (inL [(pa, .inr (5, [.int (nI L), .ref ca, .ref ds, .int (nI σ.1), .int (nI σ.2.2.2), .int dp, .int hfe, .ref o]))])) (uX (feX D pa o ca ds L hfe ((nmS fb L lo hi σ).2)) (inL [(pa, .inr (5, [.int (nI L), .ref ca, .ref ds, .int (nI σ.1), .int (nI σ.2.2.2), .int dp, .int hfe, .ref o]))])) ([.ref pa, .int lo, .int hi] : List Value).toArray s 2 15 (inL [(pa, .inr (5, [.int (nI L), .ref ca, .ref ds, .int (nI σ.1), .int (nI σ.2.2.2), .int dp, .int hfe, .ref o]))])) (F0 m 25 ls []) := by
    intro n
    induction n with
    | zero =>
      intro x v hxL hnd hn
      exact absurd hn (by omega)
    | succ n ih_25 =>
      intro x v hxL hnd hn H locs hP hD hS ls hl
      refine lv_aload_n hx hb dX6_number_25 rfl (lv_at hl 0 rfl) ?_
      refine va_get hx hb hts in_X6 hown hK hP 0 rfl rfl 3 (by decide) (hts _ q465) (fun _ h => h) rfl dX6_number_26 ?_
      refine lv_aload_n hx hb dX6_number_29 rfl (lv_at hl 0 rfl) ?_
      refine va_get hx hb hts in_X6 hown hK hP 0 rfl rfl 0 (by decide) (hts _ q462) (fun _ h => h) rfl dX6_number_30 ?_
      refine lv_icmp_ge (tgt := 102) hx hb dX6_number_33 (by decide) (fun c_33 => ?_) (fun c_33 => ?_)
      · have g_33 := nI_le' c_33 (by omega) (by omega)
        have hnv : nd fb L (sk fb L σ.1) 0 = (x, v) := hnd.symm.trans (nd_stop (fun h => by have := dig_lt h; omega))
        refine lv_aload_n hx hb dX6_number_102 rfl (lv_at hl 0 rfl) ?_
        refine lv_iload hx hb dX6_number_103 (lv_at hl 4 rfl) ?_
        refine lv_i2l (v := v.toInt64) hx hb dX6_number_105 rfl ?_
        refine lv_iload_n hx hb dX6_number_106 rfl (lv_at hl 1 rfl) ?_
        refine lv_i2l (v := lo.toInt64) hx hb dX6_number_107 rfl ?_
        refine lv_iload_n hx hb dX6_number_108 rfl (lv_at hl 2 rfl) ?_
        refine lv_i2l (v := hi.toInt64) hx hb dX6_number_109 rfl ?_
        refine r_after (va_runSN (As := [.long v.toInt64, .long lo.toInt64, .long hi.toInt64]) (rest := [.ref pa]) (g := F0 m 110 ls [.long hi.toInt64, .long lo.toInt64, .long v.toInt64, .ref pa]) C.fix (c_isBetween l D k v.toInt64 lo.toInt64 hi.toInt64) ⟨(va_cnB 3 hts (lw_meth q303) rfl rfl rfl (hN _ q540 rfl) (hts _ q68) (by decide +kernel) ⟨Nat.le_of_ble_eq_true rfl, Nat.le_of_ble_eq_true rfl⟩), hts _ q302, trivial⟩ (preR hK trivial) rfl rfl hl.1 rfl (lv_room (Nat.le_of_ble_eq_true rfl)) dX6_number_110 ⟨(by first | exact Nat.le_of_ble_eq_true rfl | omega | (dsimp only [Rm]; omega)), (by first | exact Nat.le_of_ble_eq_true rfl | omega | (dsimp only [Rm]; omega))⟩) ?_
        refine w_topi (y := bI (inR v lo hi)) (congrArg bI (bet v lo hi rfl rfl)) ?_
        refine lv_bipush (v := (-3)) hx hb dX6_number_113 rfl ?_
        refine lv_aload_n hx hb dX6_number_115 rfl (lv_at hl 0 rfl) ?_
        refine va_get hx hb hts in_X6 hown hK hP 0 rfl rfl 4 (by decide) (hts _ q466) (fun _ h => h) rfl dX6_number_116 ?_
        refine u_after (w1 := []) (w2 := [(pa, .inr (5, [.int (nI L), .ref ca, .ref ds, .int (nI x), .int (nI (sk fb L σ.1)), .int dp, .int hfe, .ref o]))]) (vy_runV (As := [.int (bI (inR v lo hi)), .int (-3), .int (nI (sk fb L σ.1))]) (rest := []) (g := F0 m 119 ls [.int (nI (sk fb L σ.1)), .int (-3), .int (bI (inR v lo hi)), .ref pa]) C.fix (c_reqLimit l D k g pa (inR v lo hi) (-3) (nI (sk fb L σ.1)) htr) (cwV 3 hts (lw_V q905 q907 qs10 q81 q908) rfl rfl rfl (by decide +kernel) ⟨Nat.le_of_ble_eq_true rfl, Nat.le_of_ble_eq_true rfl⟩) (preV mv2_jPre hK (va_recv hK hP (ci := 5) (q0 := 0) rfl rfl) (fun U hU hW => jPre_at (w1 := []) (w2 := [(pa, .inr (5, [.int (nI L), .ref ca, .ref ds, .int (nI x), .int (nI (sk fb L σ.1)), .int dp, .int hfe, .ref o]))]) hP (va_D_of hD rfl) hAN hX hS trivial hU hW)) rfl rfl hl.1 rfl (lv_room (Nat.le_of_ble_eq_true rfl)) dX6_number_119 ⟨(by first | exact Nat.le_of_ble_eq_true rfl | omega | (dsimp only [Rm]; omega)), (by first | exact Nat.le_of_ble_eq_true rfl | omega | (dsimp only [Rm]; omega))⟩) hP (va_D_of hD rfl) hS hA (fun E ce q9 H locs hth hS hsz hk hce hcv hcl => u_out hAe hnt hlk (⟨rdT_of (congrArg Prod.snd (nm_lo hσ hdg hnv hth.1)) (show ¬ (-3 : Int32) = 0 by decide) hth.2, _, _, _, hP.kept (fun i q hi => hk q.1 ((hP i q hi).lt) (fun z => by cases z))⟩) hS hce hcv hcl (by first | exact Nat.le_of_ble_eq_true rfl | omega | (dsimp only [Rm]; omega)) (by first | exact Nat.le_of_ble_eq_true rfl | omega | (dsimp only [Rm]; omega))) (fun xx H locs hB hP hD hS hsz hk => ?_)
        have hP : va_P D clA [(pa, .inr (5, [.int (nI L), .ref ca, .ref ds, .int (nI x), .int (nI (sk fb L σ.1)), .int dp, .int hfe, .ref o]))] H := hP
        have hD : va_D A [(pa, .inr (5, [.int (nI L), .ref ca, .ref ds, .int (nI x), .int (nI (sk fb L σ.1)), .int dp, .int hfe, .ref o]))] := hD
        have hrg : inR v lo hi := hB
        refine lv_iload hx hb dX6_number_122 (lv_at hl 4 rfl) ?_
        exact vy_ret (j_iret hAe C () (by rw [nm_ok hσ hdg hnv hrg]) (by rw [nm_ok hσ hdg hnv hrg]) (by rw [nm_ok hσ hdg hnv hrg]; exact hP) (va_D_of hD rfl) hS (by first | exact Nat.le_of_ble_eq_true rfl | omega | (dsimp only [Rm]; omega)) (by first | exact Nat.le_of_ble_eq_true rfl | omega | (dsimp only [Rm]; omega)) dX6_number_124)
      · have g_33 := nI_nle' c_33 (by omega) (by omega)
        refine lv_aload_n hx hb dX6_number_36 rfl (lv_at hl 0 rfl) ?_
        refine va_get hx hb hts in_X6 hown hK hP 0 rfl rfl 7 (by decide) (hts _ q469) (fun _ h => h) rfl dX6_number_37 ?_
        refine va_getN hx hb hts in_X1 hown hK (FZ_at hAe hF hS) 0 rfl rfl 0 (by decide) ((hN _ q218 rfl).use rfl) (fun _ h => h) rfl dX6_number_40 ?_
        refine lv_aload_n hx hb dX6_number_43 rfl (lv_at hl 0 rfl) ?_
        refine va_get hx hb hts in_X6 hown hK hP 0 rfl rfl 3 (by decide) (hts _ q465) (fun _ h => h) rfl dX6_number_44 ?_
        refine w_bald hx hb hK (FZ_at hAe hF hS) 1 rfl x rfl (by omega) (Nat.le_of_ble_eq_true rfl) dX6_number_47 ?_
        refine lv_i2l (v := ((cB fb) x).toInt64) hx hb dX6_number_48 rfl ?_
        refine lv_ldc2 (v := 48) hx hb hown (hts _ q870) dX6_number_49 ?_
        refine lv_ldc2 (v := 57) hx hb hown (hts _ q871) dX6_number_52 ?_
        refine r_after (va_runSN (As := [.long (((cB fb) x).toInt64), .long 48, .long 57]) (rest := []) (g := F0 m 55 ls [.long 57, .long 48, .long (((cB fb) x).toInt64)]) C.fix (c_isBetween l D k (((cB fb) x).toInt64) 48 57) ⟨(va_cnB 3 hts (lw_meth q303) rfl rfl rfl (hN _ q540 rfl) (hts _ q68) (by decide +kernel) ⟨Nat.le_of_ble_eq_true rfl, Nat.le_of_ble_eq_true rfl⟩), hts _ q302, trivial⟩ (preR hK trivial) rfl rfl hl.1 rfl (lv_room (Nat.le_of_ble_eq_true rfl)) dX6_number_55 ⟨(by first | exact Nat.le_of_ble_eq_true rfl | omega | (dsimp only [Rm]; omega)), (by first | exact Nat.le_of_ble_eq_true rfl | omega | (dsimp only [Rm]; omega))⟩) ?_
        refine w_topi (y := bI (inR ((cB fb) x) 48 57)) (congrArg bI (bet ((cB fb) x) 48 57 (by decide) (by decide))) ?_
        refine lv_if_eq (tgt := 102) hx hb dX6_number_58 (by decide) (fun c_58 => ?_) (fun c_58 => ?_)
        · have b_58 := bI_0.mp c_58
          have hnv : nd fb L (sk fb L σ.1) 0 = (x, v) := hnd.symm.trans (nd_stop (fun h => bI_0.mp c_58 (by rw [← dig_c hfb, cby_in (by omega)] at h; exact h)))
          refine lv_aload_n hx hb dX6_number_102 rfl (lv_at hl 0 rfl) ?_
          refine lv_iload hx hb dX6_number_103 (lv_at hl 4 rfl) ?_
          refine lv_i2l (v := v.toInt64) hx hb dX6_number_105 rfl ?_
          refine lv_iload_n hx hb dX6_number_106 rfl (lv_at hl 1 rfl) ?_
          refine lv_i2l (v := lo.toInt64) hx hb dX6_number_107 rfl ?_
          refine lv_iload_n hx hb dX6_number_108 rfl (lv_at hl 2 rfl) ?_
          refine lv_i2l (v := hi.toInt64) hx hb dX6_number_109 rfl ?_
          refine r_after (va_runSN (As := [.long v.toInt64, .long lo.toInt64, .long hi.toInt64]) (rest := [.ref pa]) (g := F0 m 110 ls [.long hi.toInt64, .long lo.toInt64, .long v.toInt64, .ref pa]) C.fix (c_isBetween l D k v.toInt64 lo.toInt64 hi.toInt64) ⟨(va_cnB 3 hts (lw_meth q303) rfl rfl rfl (hN _ q540 rfl) (hts _ q68) (by decide +kernel) ⟨Nat.le_of_ble_eq_true rfl, Nat.le_of_ble_eq_true rfl⟩), hts _ q302, trivial⟩ (preR hK trivial) rfl rfl hl.1 rfl (lv_room (Nat.le_of_ble_eq_true rfl)) dX6_number_110 ⟨(by first | exact Nat.le_of_ble_eq_true rfl | omega | (dsimp only [Rm]; omega)), (by first | exact Nat.le_of_ble_eq_true rfl | omega | (dsimp only [Rm]; omega))⟩) ?_
          refine w_topi (y := bI (inR v lo hi)) (congrArg bI (bet v lo hi rfl rfl)) ?_
          refine lv_bipush (v := (-3)) hx hb dX6_number_113 rfl ?_
          refine lv_aload_n hx hb dX6_number_115 rfl (lv_at hl 0 rfl) ?_
          refine va_get hx hb hts in_X6 hown hK hP 0 rfl rfl 4 (by decide) (hts _ q466) (fun _ h => h) rfl dX6_number_116 ?_
          refine u_after (w1 := []) (w2 := [(pa, .inr (5, [.int (nI L), .ref ca, .ref ds, .int (nI x), .int (nI (sk fb L σ.1)), .int dp, .int hfe, .ref o]))]) (vy_runV (As := [.int (bI (inR v lo hi)), .int (-3), .int (nI (sk fb L σ.1))]) (rest := []) (g := F0 m 119 ls [.int (nI (sk fb L σ.1)), .int (-3), .int (bI (inR v lo hi)), .ref pa]) C.fix (c_reqLimit l D k g pa (inR v lo hi) (-3) (nI (sk fb L σ.1)) htr) (cwV 3 hts (lw_V q905 q907 qs10 q81 q908) rfl rfl rfl (by decide +kernel) ⟨Nat.le_of_ble_eq_true rfl, Nat.le_of_ble_eq_true rfl⟩) (preV mv2_jPre hK (va_recv hK hP (ci := 5) (q0 := 0) rfl rfl) (fun U hU hW => jPre_at (w1 := []) (w2 := [(pa, .inr (5, [.int (nI L), .ref ca, .ref ds, .int (nI x), .int (nI (sk fb L σ.1)), .int dp, .int hfe, .ref o]))]) hP (va_D_of hD rfl) hAN hX hS trivial hU hW)) rfl rfl hl.1 rfl (lv_room (Nat.le_of_ble_eq_true rfl)) dX6_number_119 ⟨(by first | exact Nat.le_of_ble_eq_true rfl | omega | (dsimp only [Rm]; omega)), (by first | exact Nat.le_of_ble_eq_true rfl | omega | (dsimp only [Rm]; omega))⟩) hP (va_D_of hD rfl) hS hA (fun E ce q9 H locs hth hS hsz hk hce hcv hcl => u_out hAe hnt hlk (⟨rdT_of (congrArg Prod.snd (nm_lo hσ hdg hnv hth.1)) (show ¬ (-3 : Int32) = 0 by decide) hth.2, _, _, _, hP.kept (fun i q hi => hk q.1 ((hP i q hi).lt) (fun z => by cases z))⟩) hS hce hcv hcl (by first | exact Nat.le_of_ble_eq_true rfl | omega | (dsimp only [Rm]; omega)) (by first | exact Nat.le_of_ble_eq_true rfl | omega | (dsimp only [Rm]; omega))) (fun xx H locs hB hP hD hS hsz hk => ?_)
          have hP : va_P D clA [(pa, .inr (5, [.int (nI L), .ref ca, .ref ds, .int (nI x), .int (nI (sk fb L σ.1)), .int dp, .int hfe, .ref o]))] H := hP
          have hD : va_D A [(pa, .inr (5, [.int (nI L), .ref ca, .ref ds, .int (nI x), .int (nI (sk fb L σ.1)), .int dp, .int hfe, .ref o]))] := hD
          have hrg : inR v lo hi := hB
          refine lv_iload hx hb dX6_number_122 (lv_at hl 4 rfl) ?_
          exact vy_ret (j_iret hAe C () (by rw [nm_ok hσ hdg hnv hrg]) (by rw [nm_ok hσ hdg hnv hrg]) (by rw [nm_ok hσ hdg hnv hrg]; exact hP) (va_D_of hD rfl) hS (by first | exact Nat.le_of_ble_eq_true rfl | omega | (dsimp only [Rm]; omega)) (by first | exact Nat.le_of_ble_eq_true rfl | omega | (dsimp only [Rm]; omega)) dX6_number_124)
        · have b_58 := bI_nz c_58
          have hdx : dig (byt fb L x) := by rw [← dig_c hfb, cby_in (by omega)]; exact bI_nz c_58
          refine lv_ldc (v := 1000000) hx hb hown (hts _ q903) dX6_number_61 ?_
          refine lv_bipush (v := 10) hx hb dX6_number_63 rfl ?_
          refine lv_iload hx hb dX6_number_65 (lv_at hl 4 rfl) ?_
          refine lv_imul hx hb dX6_number_67 ?_
          refine lv_aload_n hx hb dX6_number_68 rfl (lv_at hl 0 rfl) ?_
          refine va_get hx hb hts in_X6 hown hK hP 0 rfl rfl 7 (by decide) (hts _ q469) (fun _ h => h) rfl dX6_number_69 ?_
          refine va_getN hx hb hts in_X1 hown hK (FZ_at hAe hF hS) 0 rfl rfl 0 (by decide) ((hN _ q218 rfl).use rfl) (fun _ h => h) rfl dX6_number_72 ?_
          refine lv_aload_n hx hb dX6_number_75 rfl (lv_at hl 0 rfl) ?_
          refine va_get hx hb hts in_X6 hown hK hP 0 rfl rfl 3 (by decide) (hts _ q465) (fun _ h => h) rfl dX6_number_76 ?_
          refine w_bald hx hb hK (FZ_at hAe hF hS) 1 rfl x rfl (by omega) (Nat.le_of_ble_eq_true rfl) dX6_number_79 ?_
          refine w_topi (y := byt fb L x) (cB_dig hfb hdx) ?_
          refine lv_iadd hx hb dX6_number_80 ?_
          refine lv_bipush (v := 48) hx hb dX6_number_81 rfl ?_
          refine lv_isub hx hb dX6_number_83 ?_
          refine va_mmin hx hb (hml.trans hl.1.symm) hown (hts _ q904) (hts _ q578) (hts _ q87) (hts _ q579) (Nat.le_of_ble_eq_true rfl) (Nat.le_of_ble_eq_true rfl) (by first | exact Nat.le_of_ble_eq_true rfl | omega | (dsimp only [Rm]; omega)) (by first | exact Nat.le_of_ble_eq_true rfl | omega | (dsimp only [Rm]; omega)) dX6_number_84 ?_
          refine w_topi (y := mn 1000000 (((10 * v) + (byt fb L x)) - 48)) (mn_if _ _) ?_
          refine lv_istore (lv' := [(4, .int (mn 1000000 (((10 * v) + (byt fb L x)) - 48))), (0, .ref pa), (1, .int lo), (2, .int hi), (3, .int (bI (dig (byt fb L (sk fb L σ.1)))))]) hx hb dX6_number_87 hl (by decide) rfl (fun ls hl => ?_)
          refine lv_aload_n hx hb dX6_number_89 rfl (lv_at hl 1 rfl) ?_
          refine lv_dup hx hb dX6_number_90 rfl ?_
          refine va_get hx hb hts in_X6 hown hK hP 0 rfl rfl 3 (by decide) (hts _ q465) (fun _ h => h) rfl dX6_number_91 ?_
          refine lv_iconst (v := 1) hx hb dX6_number_94 rfl ?_
          refine lv_iadd hx hb dX6_number_95 ?_
          refine w_topi (y := nI (x + 1)) (nI_add x 1) ?_
          refine va_put hx hb hts in_X6 tyX6 tyX6_ok nmX6 hown hK hP (va_D_of hD rfl) hS 0 rfl rfl 3 (by decide) (hts _ q465) (fun _ h => h) rfl rfl rfl rfl (Nat.le_of_ble_eq_true rfl) dX6_number_96 (fun H locs hP _ hS => ?_)
          have hP : va_P D clA [(pa, .inr (5, [.int (nI L), .ref ca, .ref ds, .int (nI (x + 1)), .int (nI (sk fb L σ.1)), .int dp, .int hfe, .ref o]))] H := hP
          refine lv_goto (tgt := 25) hx hb dX6_number_99 (by decide) ?_
          exact W_more (by first | exact Nat.le_of_ble_eq_true rfl | omega | (dsimp only [Rm]; omega)) (by first | exact Nat.le_of_ble_eq_true rfl | omega | (dsimp only [Rm]; omega)) (ih_25 (x + 1) _ (by omega) ((nd_step hdx).symm.trans hnd) (by omega) _ _ hP (va_D_of hD rfl) hS ls (lv_sub hl [1, 2, 3, 4, 0] rfl))
  exact W_more (by first | exact Nat.le_of_ble_eq_true rfl | omega | (dsimp only [Rm]; omega)) (by first | exact Nat.le_of_ble_eq_true rfl | omega | (dsimp only [Rm]; omega)) (loop_25 (L + 1) (sk fb L σ.1) 0 (by omega) rfl (by omega) _ _ hP (va_D_of hD rfl) hS ls (lv_sub hl [2, 3, 4, 1, 0] rfl))
theorem c_peekS (l : Launch) (D : va_G) (k : Nat → ClassId) (g : Nat → Nat) (pa o bb dq cu ca ds L pl : Nat) (bl eo st dp hfe : Int32) (fb : Nat → Int32) (hL : L ≤ 900) (hpl : pl ≤ L) (hfb : okF fb) (hsk0 : sk fb L pl = pl) : jM l D k yX6_peek cX6_peek 1 (some .int) 0 0 0 0 [.ref pa] g [(pa, .inr (5, [.int (nI L), .ref ca, .ref ds, .int (nI pl), .int st, .int dp, .int hfe, .ref o]))] (fun HH => FZ D [(pa, .inr (5, [.int (nI L), .ref ca, .ref ds, .int (nI pl), .int st, .int dp, .int hfe, .ref o]))] [(o, .inr (1, [.ref bb, .ref dq, .ref cu, .int bl, .int eo])), (bb, .inl (k 1, 900, .inl (cB fb)))] HH) (fun _ : Unit => some (.int (cby fb L pl))) (fun _ _ => True) (fun _ : Unit => [(pa, .inr (5, [.int (nI L), .ref ca, .ref ds, .int (nI pl), .int st, .int dp, .int hfe, .ref o]))]) := by
  have h := c_peek l D k g pa o bb dq cu ca ds L pl bl eo st dp hfe fb hL hpl hfb
  rw [hsk0] at h
  exact h
theorem c_isDigitNextS (l : Launch) (D : va_G) (k : Nat → ClassId) (g : Nat → Nat) (pa o bb dq cu ca ds L pl : Nat) (bl eo st dp hfe : Int32) (fb : Nat → Int32) (hL : L ≤ 900) (hpl : pl ≤ L) (hfb : okF fb) (hsk0 : sk fb L pl = pl) : jM l D k yX6_isDigitNext cX6_isDigitNext 1 (some .boolean) 1 25 0 0 [.ref pa] g [(pa, .inr (5, [.int (nI L), .ref ca, .ref ds, .int (nI pl), .int st, .int dp, .int hfe, .ref o]))] (fun HH => FZ D [(pa, .inr (5, [.int (nI L), .ref ca, .ref ds, .int (nI pl), .int st, .int dp, .int hfe, .ref o]))] [(o, .inr (1, [.ref bb, .ref dq, .ref cu, .int bl, .int eo])), (bb, .inl (k 1, 900, .inl (cB fb)))] HH) (fun _ : Unit => some (.int (bI (dig (byt fb L pl))))) (fun _ _ => True) (fun _ : Unit => [(pa, .inr (5, [.int (nI L), .ref ca, .ref ds, .int (nI pl), .int st, .int dp, .int hfe, .ref o]))]) := by
  have h := c_isDigitNext l D k g pa o bb dq cu ca ds L pl bl eo st dp hfe fb hL hpl hfb
  rw [hsk0] at h
  exact h
theorem c_wordS (l : Launch) (D : va_G) (k : Nat → ClassId) (g : Nat → Nat) (pa o bb dq cu ca ds L pl : Nat) (bl eo st dp hfe : Int32) (fb : Nat → Int32) (hL : L ≤ 900) (hpl : pl ≤ L) (hfb : okF fb) (hsk0 : sk fb L pl = pl) : jM l D k yX6_word cX6_word 3 (some (.object "java/lang/String")) 6 151 (L / 9 + 5) (5 * L + 44) [.ref pa] g [(pa, .inr (5, [.int (nI L), .ref ca, .ref ds, .int (nI pl), .int st, .int dp, .int hfe, .ref o]))] (fun HH => FZ D [(pa, .inr (5, [.int (nI L), .ref ca, .ref ds, .int (nI pl), .int st, .int dp, .int hfe, .ref o]))] [(o, .inr (1, [.ref bb, .ref dq, .ref cu, .int bl, .int eo])), (bb, .inl (k 1, 900, .inl (cB fb)))] HH) (fun xx : Nat × Nat × Nat × (Nat → Int32) => some (.ref xx.1)) (fun (xx : Nat × Nat × Nat × (Nat → Int32)) HH => wdB fb L pl xx.2.2.1 xx.2.2.2) (fun xx : Nat × Nat × Nat × (Nat → Int32) => [(pa, .inr (5, [.int (nI L), .ref ca, .ref ds, .int (nI pl), .int st, .int dp, .int hfe, .ref o])), (xx.1, .inr (14, [.ref xx.2.1, .int 0, .int 0, .int 0])), (xx.2.1, .inl (k 1, xx.2.2.1, .inl xx.2.2.2))]) := by
  have h := c_word l D k g pa o bb dq cu ca ds L pl bl eo st dp hfe fb hL hpl hfb
  rw [hsk0] at h
  exact h
set_option maxHeartbeats 4000000 in
theorem j_txCoder (l : Launch) (D : va_G) (k : Nat → ClassId) (g : Nat → Nat) (tx q3 : Nat) : sM l D k yJ10_coder cJ10_coder 1 (some .byte) 0 0 [.ref tx] (hKX (fun HH => va_P D clA [(tx, .inr (14, [.ref q3, .int 0, .int 0, .int 0]))] HH) g) (some (.int 0)) := by
  refine sM_of (by decide) (Nat.le_of_ble_eq_true rfl) ?_
  intro p e s m below meth c ls C hK ⟨hF, hX⟩ hl
  have hS : va_S (G0 g) s.heap s.heap [] := va_S.rf
  have hAN : ∀ q, G0 g q → g 0 ≤ q := fun _ h => h
  have hN : NW s := hX.nw
  obtain ⟨hx, hb, hr, hml, hown, hts, hlk⟩ := id C
  have hl : lv_has ls 1 [(0, .ref tx)] := hl
  have hSg := hS
  refine va_gets (v := .int 1) hx hb hX.en.1 hSg hown (hts _ q730) (fun _ h => h) dJ10_coder_0 ?_
  refine lv_if_eq (tgt := 13) hx hb dJ10_coder_3 (by decide) (fun c_3 => ?_) (fun c_3 => ?_)
  · exact absurd c_3 (by decide)
  · refine lv_aload_n hx hb dJ10_coder_6 rfl (lv_at hl 0 rfl) ?_
    refine va_get hx hb hts in_J10 hown hK hF 0 rfl rfl 1 (by decide) (hts _ q773) (fun _ h => h) rfl dJ10_coder_7 ?_
    refine lv_goto (tgt := 14) hx hb dJ10_coder_10 (by decide) ?_
    exact r_nret C rfl rfl dJ10_coder_14
set_option maxHeartbeats 4000000 in
theorem j_txLen (l : Launch) (D : va_G) (k : Nat → ClassId) (g : Nat → Nat) (tx q3 nt : Nat) (f : Nat → Int32) : sM l D k yJ10_length cJ10_length 1 (some .int) 1 20 [.ref tx] (hKX (fun HH => va_P D clA [(tx, .inr (14, [.ref q3, .int 0, .int 0, .int 0])), (q3, .inl (k 1, nt, .inl f))] HH) g) (some (.int (nI nt))) := by
  refine sM_of (by decide) (Nat.le_of_ble_eq_true rfl) ?_
  intro p e s m below meth c ls C hK ⟨hF, hX⟩ hl
  have hS : va_S (G0 g) s.heap s.heap [] := va_S.rf
  have hAN : ∀ q, G0 g q → g 0 ≤ q := fun _ h => h
  have hN : NW s := hX.nw
  obtain ⟨hx, hb, hr, hml, hown, hts, hlk⟩ := id C
  have hl : lv_has ls 1 [(0, .ref tx)] := hl
  refine lv_aload_n hx hb dJ10_length_0 rfl (lv_at hl 0 rfl) ?_
  refine va_get hx hb hts in_J10 hown hK hF 0 rfl rfl 0 (by decide) (hts _ q772) (fun _ h => h) rfl dJ10_length_1 ?_
  refine va_alen (v := nI nt) hx hb hK hF 1 1 rfl rfl rfl dJ10_length_4 ?_
  refine lv_aload_n hx hb dJ10_length_5 rfl (lv_at hl 0 rfl) ?_
  refine r_after (va_runV (As := []) (rest := [.int (nI nt)]) (g := F0 m 6 ls [.ref tx, .int (nI nt)]) C.fix (j_txCoder l D k g tx q3) (cwV 0 hts (lw_V q726 q727 q728 q84 q729) rfl rfl rfl (by decide +kernel) ⟨Nat.le_of_ble_eq_true rfl, Nat.le_of_ble_eq_true rfl⟩) (preV mv2_hKX hK (va_recv hK hF (ci := 14) (q0 := 0) rfl rfl) (fun U hU hW => (hKX_at hX hS hAN (va_cons (hF 0 _ rfl) va_nil) hU hW))) rfl rfl hl.1 rfl (lv_room (Nat.le_of_ble_eq_true rfl)) dJ10_length_6 ⟨(by first | exact Nat.le_of_ble_eq_true rfl | omega | (dsimp only [Rm]; omega)), (by first | exact Nat.le_of_ble_eq_true rfl | omega | (dsimp only [Rm]; omega))⟩) ?_
  refine lv_ishr hx hb dJ10_length_9 ?_
  refine w_topi (y := nI nt) (sb_shr0 _) ?_
  exact r_iret C rfl dJ10_length_10
