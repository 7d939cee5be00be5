/-! the component: public questions, 2 (printed by gen/m25.py) -/
set_option maxRecDepth 100000
set_option maxHeartbeats 4000000 in
theorem c_Pavailable (l : Launch) (D : va_G) (k : Nat → ClassId) (g : Nat → Nat) (o bb dq : Nat) (bl eo : Int32) (z : Nat → Nat) (hf d : Nat → Int32) (hz : dkN g z hf d) (x : Int32) (htr : l.stackTraces = false) : oM l D k yX1_available cX1_available 2 (some .int) 8 142 1 6 [.ref o, .int x] (hKX (fun HH => va_P D clA [(o, .inr (1, [.ref bb, .ref dq, .ref (z 0), .int bl, .int eo]))] HH ∧ dk D k z hf d HH) g) (hasC d x) (some (.int (avail d (ci x)))) (fun E => ¬ hasC d x ∧ E = "java/lang/IndexOutOfBoundsException") := by
  refine oM_of (by decide) (Nat.le_of_ble_eq_true rfl) ?_
  intro p e s m below meth c ls C hnt hK ⟨⟨hO, hdk⟩, hX⟩ hS hl
  have hP : va_P D clA [] s.heap := va_nil
  have hD : va_D (fun q => s.heap.size ≤ q) [] := va_D_nod.mpr ⟨List.nodup_nil, fun q h => by cases h⟩
  have hA : ∀ q, s.heap.size ≤ q → s.heap.size ≤ q := fun _ h => h
  have hAN : ∀ q, s.heap.size ≤ q → g 0 ≤ q := fun q h => Nat.le_trans hX.le h
  have hN : NW s := hX.nw
  obtain ⟨hx, hb, hr, hml, hown, hts, hlk⟩ := id C
  have hl : lv_has ls 2 [(0, .ref o), (1, .int x)] := hl
  have hF : va_P D clA [(o, .inr (1, [.ref bb, .ref dq, .ref (z 0), .int bl, .int eo])), (z 0, .inr (2, [.ref (z 1), .ref (z 3), .ref (z 6), .ref (z 9), .int (d 3)])), (z 1, .inr (3, [.ref (z 2), .int (d 2)])), (z 2, .inl (k 0, 16, .inl hf)), (z 3, .inr (4, [.ref (z 4), .int 12])), (z 4, .inr (12, [.int (nI (z 12)), .ref (z 5), .int (nI (dN d 0))])), (z 6, .inr (4, [.ref (z 7), .int 24])), (z 7, .inr (12, [.int (nI (z 13)), .ref (z 8), .int (nI (dN d 1))]))] s.heap := va_cons (hO 0 _ rfl) hdk.1
  have hd := hz.1
  have hh := hz.2.1
  have h10 := hz.2.2
  obtain ⟨h10, h10b, h11, h11b, -⟩ := h10
  have hd0 := hd.1.1.2
  have hd1 := hd.1.2.1.2
  refine lv_aload_n hx hb dX1_available_0 rfl (lv_at hl 0 rfl) ?_
  refine lv_iload_n hx hb dX1_available_1 rfl (lv_at hl 1 rfl) ?_
  refine o_after (vy_runV (As := [.int x]) (rest := []) (g := F0 m 2 ls [.int x, .ref o]) C.fix (c_reqCredit l D k g o bb dq bl eo z hf d hz x htr) (cwV 1 hts (lw_V q1325 q1327 qs25 q68 q1328) rfl rfl rfl (by decide +kernel) ⟨Nat.le_of_ble_eq_true rfl, Nat.le_of_ble_eq_true rfl⟩) (preV mv2_hKX hK (va_recv hK (frzF hF hS) (ci := 1) (q0 := 0) rfl rfl) (fun U hU hW => (hKX_at hX hS hAN (⟨(frzF hO hS), (dk_frF hdk hS)⟩) hU hW))) rfl rfl hl.1 rfl (lv_room (Nat.le_of_ble_eq_true rfl)) dX1_available_2 ⟨(by first | exact Nat.le_of_ble_eq_true rfl | omega | (dsimp only [Rm]; omega)), (by first | exact Nat.le_of_ble_eq_true rfl | omega | (dsimp only [Rm]; omega))⟩) hS (fun E ce q9 H hth hS hk hce hcv hcl => o_out hnt hlk (hth) hS hce hcv hcl (by first | exact Nat.le_of_ble_eq_true rfl | omega | (dsimp only [Rm]; omega)) (by first | exact Nat.le_of_ble_eq_true rfl | omega | (dsimp only [Rm]; omega))) (fun H hp2 hS hsz hk => ?_)
  have hP : va_P D clA [] H := hP.kept (fun i q hi => hk q.1 ((hP i q hi).lt))
  have hD : va_D (fun q => s.heap.size ≤ q) [] := hD
  refine lv_aload_n hx hb dX1_available_5 rfl (lv_at hl 0 rfl) ?_
  refine va_get hx hb hts in_X1 hown hK (frzF hF hS) 0 rfl rfl 2 (by decide) (hts _ q221) (fun _ h => h) rfl dX1_available_6 ?_
  refine lv_iload_n hx hb dX1_available_9 rfl (lv_at hl 1 rfl) ?_
  obtain ⟨hcx, ecx⟩ := hasC_ci hd hp2
  refine w_topi (y := nI (ci x)) ecx ?_
  refine r_after (va_runV (As := [.int (nI (ci x))]) (rest := []) (g := F0 m 10 ls [.int (nI (ci x)), .ref (z 0)]) C.fix (c_available l D k g z hf d hz (ci x) (by omega)) (cwV 1 hts (lw_V q357 q358 q359 q71 q360) rfl rfl rfl (by decide +kernel) ⟨Nat.le_of_ble_eq_true rfl, Nat.le_of_ble_eq_true rfl⟩) (preV mv2_hKX hK (va_recv hK (frzF hF hS) (ci := 2) (q0 := 1) rfl rfl) (fun U hU hW => (hKX_at hX hS hAN (dk_frF hdk hS) hU hW))) rfl rfl hl.1 rfl (lv_room (Nat.le_of_ble_eq_true rfl)) dX1_available_10 ⟨(by first | exact Nat.le_of_ble_eq_true rfl | omega | (dsimp only [Rm]; omega)), (by first | exact Nat.le_of_ble_eq_true rfl | omega | (dsimp only [Rm]; omega))⟩) ?_
  exact o_iret C hp2 rfl hS (by first | exact Nat.le_of_ble_eq_true rfl | omega | (dsimp only [Rm]; omega)) (by first | exact Nat.le_of_ble_eq_true rfl | omega | (dsimp only [Rm]; omega)) dX1_available_13
set_option maxHeartbeats 4000000 in
theorem c_Pdeadline (l : Launch) (D : va_G) (k : Nat → ClassId) (g : Nat → Nat) (o bb dq : Nat) (bl eo : Int32) (z : Nat → Nat) (hf d : Nat → Int32) (hz : dkN g z hf d) (x : Int32) (htr : l.stackTraces = false) : oM l D k yX1_deadline cX1_deadline 2 (some .int) 8 167 7 14 [.ref o, .int x] (hKX (fun HH => va_P D clA [(o, .inr (1, [.ref bb, .ref dq, .ref (z 0), .int bl, .int eo]))] HH ∧ dk D k z hf d HH) g) (hasP d x) (some (.int (nI (dead d (ci x))))) (fun E => ¬ hasP d x ∧ E = "java/lang/IndexOutOfBoundsException") := by
  refine oM_of (by decide) (Nat.le_of_ble_eq_true rfl) ?_
  intro p e s m below meth c ls C hnt hK ⟨⟨hO, hdk⟩, hX⟩ hS hl
  have hP : va_P D clA [] s.heap := va_nil
  have hD : va_D (fun q => s.heap.size ≤ q) [] := va_D_nod.mpr ⟨List.nodup_nil, fun q h => by cases h⟩
  have hA : ∀ q, s.heap.size ≤ q → s.heap.size ≤ q := fun _ h => h
  have hAN : ∀ q, s.heap.size ≤ q → g 0 ≤ q := fun q h => Nat.le_trans hX.le h
  have hN : NW s := hX.nw
  obtain ⟨hx, hb, hr, hml, hown, hts, hlk⟩ := id C
  have hl : lv_has ls 2 [(0, .ref o), (1, .int x)] := hl
  have hF : va_P D clA [(o, .inr (1, [.ref bb, .ref dq, .ref (z 0), .int bl, .int eo])), (z 0, .inr (2, [.ref (z 1), .ref (z 3), .ref (z 6), .ref (z 9), .int (d 3)])), (z 1, .inr (3, [.ref (z 2), .int (d 2)])), (z 2, .inl (k 0, 16, .inl hf)), (z 3, .inr (4, [.ref (z 4), .int 12])), (z 4, .inr (12, [.int (nI (z 12)), .ref (z 5), .int (nI (dN d 0))])), (z 6, .inr (4, [.ref (z 7), .int 24])), (z 7, .inr (12, [.int (nI (z 13)), .ref (z 8), .int (nI (dN d 1))]))] s.heap := va_cons (hO 0 _ rfl) hdk.1
  have hd := hz.1
  have hh := hz.2.1
  have h10 := hz.2.2
  obtain ⟨h10, h10b, h11, h11b, -⟩ := h10
  have hd0 := hd.1.1.2
  have hd1 := hd.1.2.1.2
  refine lv_aload_n hx hb dX1_deadline_0 rfl (lv_at hl 0 rfl) ?_
  refine va_get hx hb hts in_X1 hown hK (frzF hF hS) 0 rfl rfl 2 (by decide) (hts _ q221) (fun _ h => h) rfl dX1_deadline_1 ?_
  refine lv_aload_n hx hb dX1_deadline_4 rfl (lv_at hl 0 rfl) ?_
  refine lv_iload_n hx hb dX1_deadline_5 rfl (lv_at hl 1 rfl) ?_
  refine o_after (vy_runV (As := [.int x]) (rest := [.ref (z 0)]) (g := F0 m 6 ls [.int x, .ref o, .ref (z 0)]) C.fix (c_presAt l D k g o bb dq bl eo z hf d hz x htr) (cwV 1 hts (lw_V q1395 q1397 qs26 q68 q1398) rfl rfl rfl (by decide +kernel) ⟨Nat.le_of_ble_eq_true rfl, Nat.le_of_ble_eq_true rfl⟩) (preV mv2_hKX hK (va_recv hK (frzF hF hS) (ci := 1) (q0 := 0) rfl rfl) (fun U hU hW => (hKX_at hX hS hAN (⟨(frzF hO hS), (dk_frF hdk hS)⟩) hU hW))) rfl rfl hl.1 rfl (lv_room (Nat.le_of_ble_eq_true rfl)) dX1_deadline_6 ⟨(by first | exact Nat.le_of_ble_eq_true rfl | omega | (dsimp only [Rm]; omega)), (by first | exact Nat.le_of_ble_eq_true rfl | omega | (dsimp only [Rm]; omega))⟩) hS (fun E ce q9 H hth hS hk hce hcv hcl => o_out hnt hlk (hth) hS hce hcv hcl (by first | exact Nat.le_of_ble_eq_true rfl | omega | (dsimp only [Rm]; omega)) (by first | exact Nat.le_of_ble_eq_true rfl | omega | (dsimp only [Rm]; omega))) (fun H hp6 hS hsz hk => ?_)
  have hP : va_P D clA [] H := hP.kept (fun i q hi => hk q.1 ((hP i q hi).lt))
  have hD : va_D (fun q => s.heap.size ≤ q) [] := hD
  obtain ⟨hcx, ecx⟩ := hasP_ci hd hp6
  refine g_after (va_runV (As := [.ref (z (32 + ci x))]) (rest := []) (g := F0 m 9 ls [.ref (z (32 + ci x)), .ref (z 0)]) C.fix (c_deadline l D k g z hf d hz (ci x) (by omega)) (cwV 1 hts (lw_V q1420 q1421 q1422 q71 q1423) rfl rfl rfl (by decide +kernel) ⟨Nat.le_of_ble_eq_true rfl, Nat.le_of_ble_eq_true rfl⟩) (preV mv2_hKX hK (va_recv hK (frzF hF hS) (ci := 2) (q0 := 1) rfl rfl) (fun U hU hW => (hKX_at hX hS hAN (dk_frF hdk hS) hU hW))) rfl rfl hl.1 rfl (lv_room (Nat.le_of_ble_eq_true rfl)) dX1_deadline_9 ⟨(by first | exact Nat.le_of_ble_eq_true rfl | omega | (dsimp only [Rm]; omega)), (by first | exact Nat.le_of_ble_eq_true rfl | omega | (dsimp only [Rm]; omega))⟩) hS (fun H hS hsz hk => ?_)
  have hP : va_P D clA [] H := hP.kept (fun i q hi => hk q.1 ((hP i q hi).lt))
  have hD : va_D (fun q => s.heap.size ≤ q) [] := hD
  exact o_iret C hp6 rfl hS (by first | exact Nat.le_of_ble_eq_true rfl | omega | (dsimp only [Rm]; omega)) (by first | exact Nat.le_of_ble_eq_true rfl | omega | (dsimp only [Rm]; omega)) dX1_deadline_12
set_option maxHeartbeats 4000000 in
theorem c_PisBusinessDay (l : Launch) (D : va_G) (k : Nat → ClassId) (g : Nat → Nat) (o bb dq : Nat) (bl eo : Int32) (z : Nat → Nat) (hf d : Nat → Int32) (hz : dkN g z hf d) (x : Int32) (htr : l.stackTraces = false) : oM l D k yX1_isBusinessDay cX1_isBusinessDay 2 (some .boolean) 8 140 1 6 [.ref o, .int x] (hKX (fun HH => va_P D clA [(o, .inr (1, [.ref bb, .ref dq, .ref (z 0), .int bl, .int eo]))] HH ∧ dk D k z hf d HH) g) (inR x 0 9999) (some (.int (bI (isBus d (ci x))))) (fun E => ¬ inR x 0 9999 ∧ E = "java/lang/IllegalArgumentException") := by
  refine oM_of (by decide) (Nat.le_of_ble_eq_true rfl) ?_
  intro p e s m below meth c ls C hnt hK ⟨⟨hO, hdk⟩, hX⟩ hS hl
  have hP : va_P D clA [] s.heap := va_nil
  have hD : va_D (fun q => s.heap.size ≤ q) [] := va_D_nod.mpr ⟨List.nodup_nil, fun q h => by cases h⟩
  have hA : ∀ q, s.heap.size ≤ q → s.heap.size ≤ q := fun _ h => h
  have hAN : ∀ q, s.heap.size ≤ q → g 0 ≤ q := fun q h => Nat.le_trans hX.le h
  have hN : NW s := hX.nw
  obtain ⟨hx, hb, hr, hml, hown, hts, hlk⟩ := id C
  have hl : lv_has ls 2 [(0, .ref o), (1, .int x)] := hl
  have hF : va_P D clA [(o, .inr (1, [.ref bb, .ref dq, .ref (z 0), .int bl, .int eo])), (z 0, .inr (2, [.ref (z 1), .ref (z 3), .ref (z 6), .ref (z 9), .int (d 3)])), (z 1, .inr (3, [.ref (z 2), .int (d 2)])), (z 2, .inl (k 0, 16, .inl hf)), (z 3, .inr (4, [.ref (z 4), .int 12])), (z 4, .inr (12, [.int (nI (z 12)), .ref (z 5), .int (nI (dN d 0))])), (z 6, .inr (4, [.ref (z 7), .int 24])), (z 7, .inr (12, [.int (nI (z 13)), .ref (z 8), .int (nI (dN d 1))]))] s.heap := va_cons (hO 0 _ rfl) hdk.1
  have hd := hz.1
  have hh := hz.2.1
  have h10 := hz.2.2
  obtain ⟨h10, h10b, h11, h11b, -⟩ := h10
  have hd0 := hd.1.1.2
  have hd1 := hd.1.2.1.2
  refine lv_iload_n hx hb dX1_isBusinessDay_0 rfl (lv_at hl 1 rfl) ?_
  refine o_after (vy_runS (As := [.int x]) (rest := []) (g := F0 m 1 ls [.int x]) C.fix (c_reqDay l D k g x htr) (va_cwS 1 hts (lw_S q1177 q1178 q68 q1179) rfl rfl rfl (by decide +kernel) ⟨Nat.le_of_ble_eq_true rfl, Nat.le_of_ble_eq_true rfl⟩) (preS mv2_hKX hK (fun U hU hW => (hKX_at hX hS hAN trivial hU hW))) rfl rfl hl.1 rfl (lv_room (Nat.le_of_ble_eq_true rfl)) dX1_isBusinessDay_1 ⟨(by first | exact Nat.le_of_ble_eq_true rfl | omega | (dsimp only [Rm]; omega)), (by first | exact Nat.le_of_ble_eq_true rfl | omega | (dsimp only [Rm]; omega))⟩) hS (fun E ce q9 H hth hS hk hce hcv hcl => o_out hnt hlk (hth) hS hce hcv hcl (by first | exact Nat.le_of_ble_eq_true rfl | omega | (dsimp only [Rm]; omega)) (by first | exact Nat.le_of_ble_eq_true rfl | omega | (dsimp only [Rm]; omega))) (fun H hp1 hS hsz hk => ?_)
  have hP : va_P D clA [] H := hP.kept (fun i q hi => hk q.1 ((hP i q hi).lt))
  have hD : va_D (fun q => s.heap.size ≤ q) [] := hD
  refine lv_aload_n hx hb dX1_isBusinessDay_4 rfl (lv_at hl 0 rfl) ?_
  refine va_get hx hb hts in_X1 hown hK (frzF hF hS) 0 rfl rfl 2 (by decide) (hts _ q221) (fun _ h => h) rfl dX1_isBusinessDay_5 ?_
  refine va_getN hx hb hts in_X2 hown hK (frzF hF hS) 1 rfl rfl 0 (by decide) ((hN _ q197 rfl).use rfl) (fun _ h => h) rfl dX1_isBusinessDay_8 ?_
  refine lv_iload_n hx hb dX1_isBusinessDay_11 rfl (lv_at hl 1 rfl) ?_
  obtain ⟨hcx, ecx⟩ := day_ci hp1
  refine w_topi (y := nI (ci x)) ecx ?_
  refine r_after (va_runV (As := [.int (nI (ci x))]) (rest := []) (g := F0 m 12 ls [.int (nI (ci x)), .ref (z 1)]) C.fix (c_isBusinessDay l D k (z 1) (z 2) hf d [] hh hd.1.2.2.1 (ci x) (by omega)) (cwV 1 hts (lw_V q1181 q1182 q1183 q72 q1184) rfl rfl rfl (by decide +kernel) ⟨Nat.le_of_ble_eq_true rfl, Nat.le_of_ble_eq_true rfl⟩) (preRV hK (va_recv hK (frzF hF hS) (ci := 3) (q0 := 2) rfl rfl) (va_cons ((frzF hF hS) 2 _ rfl) (va_cons ((frzF hF hS) 3 _ rfl) va_nil))) rfl rfl hl.1 rfl (lv_room (Nat.le_of_ble_eq_true rfl)) dX1_isBusinessDay_12 ⟨(by first | exact Nat.le_of_ble_eq_true rfl | omega | (dsimp only [Rm]; omega)), (by first | exact Nat.le_of_ble_eq_true rfl | omega | (dsimp only [Rm]; omega))⟩) ?_
  exact o_zret C hp1 rfl hS (by first | exact Nat.le_of_ble_eq_true rfl | omega | (dsimp only [Rm]; omega)) (by first | exact Nat.le_of_ble_eq_true rfl | omega | (dsimp only [Rm]; omega)) dX1_isBusinessDay_15
set_option maxHeartbeats 4000000 in
theorem c_Pextended (l : Launch) (D : va_G) (k : Nat → ClassId) (g : Nat → Nat) (o bb dq : Nat) (bl eo : Int32) (z : Nat → Nat) (hf d : Nat → Int32) (hz : dkN g z hf d) (x : Int32) (htr : l.stackTraces = false) : oM l D k yX1_extended cX1_extended 2 (some .int) 8 142 3 10 [.ref o, .int x] (hKX (fun HH => va_P D clA [(o, .inr (1, [.ref bb, .ref dq, .ref (z 0), .int bl, .int eo]))] HH ∧ dk D k z hf d HH) g) (inR x 0 9999) (some (.int (nI (ext d (ci x))))) (fun E => ¬ inR x 0 9999 ∧ E = "java/lang/IllegalArgumentException") := by
  refine oM_of (by decide) (Nat.le_of_ble_eq_true rfl) ?_
  intro p e s m below meth c ls C hnt hK ⟨⟨hO, hdk⟩, hX⟩ hS hl
  have hP : va_P D clA [] s.heap := va_nil
  have hD : va_D (fun q => s.heap.size ≤ q) [] := va_D_nod.mpr ⟨List.nodup_nil, fun q h => by cases h⟩
  have hA : ∀ q, s.heap.size ≤ q → s.heap.size ≤ q := fun _ h => h
  have hAN : ∀ q, s.heap.size ≤ q → g 0 ≤ q := fun q h => Nat.le_trans hX.le h
  have hN : NW s := hX.nw
  obtain ⟨hx, hb, hr, hml, hown, hts, hlk⟩ := id C
  have hl : lv_has ls 2 [(0, .ref o), (1, .int x)] := hl
  have hF : va_P D clA [(o, .inr (1, [.ref bb, .ref dq, .ref (z 0), .int bl, .int eo])), (z 0, .inr (2, [.ref (z 1), .ref (z 3), .ref (z 6), .ref (z 9), .int (d 3)])), (z 1, .inr (3, [.ref (z 2), .int (d 2)])), (z 2, .inl (k 0, 16, .inl hf)), (z 3, .inr (4, [.ref (z 4), .int 12])), (z 4, .inr (12, [.int (nI (z 12)), .ref (z 5), .int (nI (dN d 0))])), (z 6, .inr (4, [.ref (z 7), .int 24])), (z 7, .inr (12, [.int (nI (z 13)), .ref (z 8), .int (nI (dN d 1))]))] s.heap := va_cons (hO 0 _ rfl) hdk.1
  have hd := hz.1
  have hh := hz.2.1
  have h10 := hz.2.2
  obtain ⟨h10, h10b, h11, h11b, -⟩ := h10
  have hd0 := hd.1.1.2
  have hd1 := hd.1.2.1.2
  refine lv_iload_n hx hb dX1_extended_0 rfl (lv_at hl 1 rfl) ?_
  refine o_after (vy_runS (As := [.int x]) (rest := []) (g := F0 m 1 ls [.int x]) C.fix (c_reqDay l D k g x htr) (va_cwS 1 hts (lw_S q1177 q1178 q68 q1179) rfl rfl rfl (by decide +kernel) ⟨Nat.le_of_ble_eq_true rfl, Nat.le_of_ble_eq_true rfl⟩) (preS mv2_hKX hK (fun U hU hW => (hKX_at hX hS hAN trivial hU hW))) rfl rfl hl.1 rfl (lv_room (Nat.le_of_ble_eq_true rfl)) dX1_extended_1 ⟨(by first | exact Nat.le_of_ble_eq_true rfl | omega | (dsimp only [Rm]; omega)), (by first | exact Nat.le_of_ble_eq_true rfl | omega | (dsimp only [Rm]; omega))⟩) hS (fun E ce q9 H hth hS hk hce hcv hcl => o_out hnt hlk (hth) hS hce hcv hcl (by first | exact Nat.le_of_ble_eq_true rfl | omega | (dsimp only [Rm]; omega)) (by first | exact Nat.le_of_ble_eq_true rfl | omega | (dsimp only [Rm]; omega))) (fun H hp1 hS hsz hk => ?_)
  have hP : va_P D clA [] H := hP.kept (fun i q hi => hk q.1 ((hP i q hi).lt))
  have hD : va_D (fun q => s.heap.size ≤ q) [] := hD
  refine lv_aload_n hx hb dX1_extended_4 rfl (lv_at hl 0 rfl) ?_
  refine va_get hx hb hts in_X1 hown hK (frzF hF hS) 0 rfl rfl 2 (by decide) (hts _ q221) (fun _ h => h) rfl dX1_extended_5 ?_
  refine va_getN hx hb hts in_X2 hown hK (frzF hF hS) 1 rfl rfl 0 (by decide) ((hN _ q197 rfl).use rfl) (fun _ h => h) rfl dX1_extended_8 ?_
  refine lv_iload_n hx hb dX1_extended_11 rfl (lv_at hl 1 rfl) ?_
  obtain ⟨hcx, ecx⟩ := day_ci hp1
  refine w_topi (y := nI (ci x)) ecx ?_
  refine g_after (va_runV (As := [.int (nI (ci x))]) (rest := []) (g := F0 m 12 ls [.int (nI (ci x)), .ref (z 1)]) C.fix (c_extended l D k g (z 1) (z 2) hf d hd hh (ci x) (by omega)) (cwV 1 hts (lw_V q1193 q1194 q1195 q72 q1196) rfl rfl rfl (by decide +kernel) ⟨Nat.le_of_ble_eq_true rfl, Nat.le_of_ble_eq_true rfl⟩) (preV mv2_hKX hK (va_recv hK (frzF hF hS) (ci := 3) (q0 := 2) rfl rfl) (fun U hU hW => (hKX_at hX hS hAN (va_P.sub (frzF hF hS) [2, 3] rfl) hU hW))) rfl rfl hl.1 rfl (lv_room (Nat.le_of_ble_eq_true rfl)) dX1_extended_12 ⟨(by first | exact Nat.le_of_ble_eq_true rfl | omega | (dsimp only [Rm]; omega)), (by first | exact Nat.le_of_ble_eq_true rfl | omega | (dsimp only [Rm]; omega))⟩) hS (fun H hS hsz hk => ?_)
  have hP : va_P D clA [] H := hP.kept (fun i q hi => hk q.1 ((hP i q hi).lt))
  have hD : va_D (fun q => s.heap.size ≤ q) [] := hD
  exact o_iret C hp1 rfl hS (by first | exact Nat.le_of_ble_eq_true rfl | omega | (dsimp only [Rm]; omega)) (by first | exact Nat.le_of_ble_eq_true rfl | omega | (dsimp only [Rm]; omega)) dX1_extended_15
section SEC
variable {p : Program} {l : Launch} {e : Env} {R : Room} {s : State} {m : MethodId} {args : Array Value} {below : List Frame} {meth : Method} {c : Code} {H : Heap} {locs : List Loc} {cells slots : Nat} {Q : State → Prop} {pc : Nat} {ls : Array Slot} {rest : List Value}
theorem w_sec {v : Value} {x y : Int32} (h : x = y) (kk : W p l e R s m args below meth c H locs cells slots Q (F0 m pc ls (v :: .int y :: rest))) : W p l e R s m args below meth c H locs cells slots Q (F0 m pc ls (v :: .int x :: rest)) := h ▸ kk
end SEC
set_option maxHeartbeats 4000000 in
theorem c_PaddDays (l : Launch) (D : va_G) (k : Nat → ClassId) (g : Nat → Nat) (o bb dq : Nat) (bl eo : Int32) (z : Nat → Nat) (hf d : Nat → Int32) (hz : dkN g z hf d) (x y : Int32) (htr : l.stackTraces = false) : oM l D k yX1_addBusinessDays cX1_addBusinessDays 3 (some .int) 8 146 (ci y + 3) (ci y + 15) [.ref o, .int x, .int y] (hKX (fun HH => va_P D clA [(o, .inr (1, [.ref bb, .ref dq, .ref (z 0), .int bl, .int eo]))] HH ∧ dk D k z hf d HH) g) (inR x 0 9999 ∧ inR y 0 100) (some (.int (nI (addB d (ci x) (ci y))))) (fun E => ¬ (inR x 0 9999 ∧ inR y 0 100) ∧ E = "java/lang/IllegalArgumentException") := by
  refine oM_of (by decide) (Nat.le_of_ble_eq_true rfl) ?_
  intro p e s m below meth c ls C hnt hK ⟨⟨hO, hdk⟩, hX⟩ hS hl
  have hP : va_P D clA [] s.heap := va_nil
  have hD : va_D (fun q => s.heap.size ≤ q) [] := va_D_nod.mpr ⟨List.nodup_nil, fun q h => by cases h⟩
  have hA : ∀ q, s.heap.size ≤ q → s.heap.size ≤ q := fun _ h => h
  have hAN : ∀ q, s.heap.size ≤ q → g 0 ≤ q := fun q h => Nat.le_trans hX.le h
  have hN : NW s := hX.nw
  obtain ⟨hx, hb, hr, hml, hown, hts, hlk⟩ := id C
  have hl : lv_has ls 3 [(0, .ref o), (1, .int x), (2, .int y)] := hl
  have hF : va_P D clA [(o, .inr (1, [.ref bb, .ref dq, .ref (z 0), .int bl, .int eo])), (z 0, .inr (2, [.ref (z 1), .ref (z 3), .ref (z 6), .ref (z 9), .int (d 3)])), (z 1, .inr (3, [.ref (z 2), .int (d 2)])), (z 2, .inl (k 0, 16, .inl hf)), (z 3, .inr (4, [.ref (z 4), .int 12])), (z 4, .inr (12, [.int (nI (z 12)), .ref (z 5), .int (nI (dN d 0))])), (z 6, .inr (4, [.ref (z 7), .int 24])), (z 7, .inr (12, [.int (nI (z 13)), .ref (z 8), .int (nI (dN d 1))]))] s.heap := va_cons (hO 0 _ rfl) hdk.1
  have hd := hz.1
  have hh := hz.2.1
  have h10 := hz.2.2
  obtain ⟨h10, h10b, h11, h11b, -⟩ := h10
  have hd0 := hd.1.1.2
  have hd1 := hd.1.2.1.2
  refine lv_iload_n hx hb dX1_addBusinessDays_0 rfl (lv_at hl 1 rfl) ?_
  refine o_after (vy_runS (As := [.int x]) (rest := []) (g := F0 m 1 ls [.int x]) C.fix (c_reqDay l D k g x htr) (va_cwS 1 hts (lw_S q1177 q1178 q68 q1179) rfl rfl rfl (by decide +kernel) ⟨Nat.le_of_ble_eq_true rfl, Nat.le_of_ble_eq_true rfl⟩) (preS mv2_hKX hK (fun U hU hW => (hKX_at hX hS hAN trivial hU hW))) rfl rfl hl.1 rfl (lv_room (Nat.le_of_ble_eq_true rfl)) dX1_addBusinessDays_1 ⟨(by first | exact Nat.le_of_ble_eq_true rfl | omega | (dsimp only [Rm]; omega)), (by first | exact Nat.le_of_ble_eq_true rfl | omega | (dsimp only [Rm]; omega))⟩) hS (fun E ce q9 H hth hS hk hce hcv hcl => o_out hnt hlk (⟨fun h => hth.1 h.1, hth.2⟩) hS hce hcv hcl (by first | exact Nat.le_of_ble_eq_true rfl | omega | (dsimp only [Rm]; omega)) (by first | exact Nat.le_of_ble_eq_true rfl | omega | (dsimp only [Rm]; omega))) (fun H hp1 hS hsz hk => ?_)
  have hP : va_P D clA [] H := hP.kept (fun i q hi => hk q.1 ((hP i q hi).lt))
  have hD : va_D (fun q => s.heap.size ≤ q) [] := hD
  refine lv_iload_n hx hb dX1_addBusinessDays_4 rfl (lv_at hl 2 rfl) ?_
  refine lv_i2l (v := y.toInt64) hx hb dX1_addBusinessDays_5 rfl ?_
  refine lv_lconst (v := 0) hx hb dX1_addBusinessDays_6 rfl ?_
  refine lv_ldc2 (v := 100) hx hb hown (hts _ q1283) dX1_addBusinessDays_7 ?_
  refine r_after (va_runS (As := [.long y.toInt64, .long 0, .long 100]) (rest := []) (g := F0 m 10 ls [.long 100, .long 0, .long y.toInt64]) C.fix (c_isBetween l D k y.toInt64 0 100) (va_cwS 3 hts (lw_S q301 q302 q68 q303) rfl rfl rfl (by decide +kernel) ⟨Nat.le_of_ble_eq_true rfl, Nat.le_of_ble_eq_true rfl⟩) (preR hK trivial) rfl rfl hl.1 rfl (lv_room (Nat.le_of_ble_eq_true rfl)) dX1_addBusinessDays_10 ⟨(by first | exact Nat.le_of_ble_eq_true rfl | omega | (dsimp only [Rm]; omega)), (by first | exact Nat.le_of_ble_eq_true rfl | omega | (dsimp only [Rm]; omega))⟩) ?_
  refine w_topi (y := bI (inR y 0 100)) (congrArg bI (bet y 0 100 (by decide) (by decide))) ?_
  refine o_after (vy_runS (As := [.int (bI (inR y 0 100))]) (rest := []) (g := F0 m 13 ls [.int (bI (inR y 0 100))]) C.fix (c_reqArg l D k g (inR y 0 100) htr) (va_cwS 1 hts (lw_S q381 q382 q68 q383) rfl rfl rfl (by decide +kernel) ⟨Nat.le_of_ble_eq_true rfl, Nat.le_of_ble_eq_true rfl⟩) (preS mv2_hKX hK (fun U hU hW => (hKX_at hX hS hAN trivial hU hW))) rfl rfl hl.1 rfl (lv_room (Nat.le_of_ble_eq_true rfl)) dX1_addBusinessDays_13 ⟨(by first | exact Nat.le_of_ble_eq_true rfl | omega | (dsimp only [Rm]; omega)), (by first | exact Nat.le_of_ble_eq_true rfl | omega | (dsimp only [Rm]; omega))⟩) hS (fun E ce q9 H hth hS hk hce hcv hcl => o_out hnt hlk (⟨fun h => hth.1 h.2, hth.2⟩) hS hce hcv hcl (by first | exact Nat.le_of_ble_eq_true rfl | omega | (dsimp only [Rm]; omega)) (by first | exact Nat.le_of_ble_eq_true rfl | omega | (dsimp only [Rm]; omega))) (fun H hp13 hS hsz hk => ?_)
  have hP : va_P D clA [] H := hP.kept (fun i q hi => hk q.1 ((hP i q hi).lt))
  have hD : va_D (fun q => s.heap.size ≤ q) [] := hD
  refine lv_aload_n hx hb dX1_addBusinessDays_16 rfl (lv_at hl 0 rfl) ?_
  refine va_get hx hb hts in_X1 hown hK (frzF hF hS) 0 rfl rfl 2 (by decide) (hts _ q221) (fun _ h => h) rfl dX1_addBusinessDays_17 ?_
  refine va_getN hx hb hts in_X2 hown hK (frzF hF hS) 1 rfl rfl 0 (by decide) ((hN _ q197 rfl).use rfl) (fun _ h => h) rfl dX1_addBusinessDays_20 ?_
  refine lv_iload_n hx hb dX1_addBusinessDays_23 rfl (lv_at hl 1 rfl) ?_
  refine lv_iload_n hx hb dX1_addBusinessDays_24 rfl (lv_at hl 2 rfl) ?_
  obtain ⟨hcx, ecx⟩ := day_ci hp1
  obtain ⟨hcy, ecy⟩ := cnt_ci hp13
  refine w_topi (y := nI (ci y)) ecy ?_
  refine w_sec (y := nI (ci x)) ecx ?_
  refine g_after (va_runV (As := [.int (nI (ci x)), .int (nI (ci y))]) (rest := []) (g := F0 m 25 ls [.int (nI (ci y)), .int (nI (ci x)), .ref (z 1)]) C.fix (c_add l D k g (z 1) (z 2) hf d hd hh (ci x) (ci y) (by omega) (by omega)) (cwV 2 hts (lw_V q1284 q1285 q1286 q72 q1287) rfl rfl rfl (by decide +kernel) ⟨Nat.le_of_ble_eq_true rfl, Nat.le_of_ble_eq_true rfl⟩) (preV mv2_hKX hK (va_recv hK (frzF hF hS) (ci := 3) (q0 := 2) rfl rfl) (fun U hU hW => (hKX_at hX hS hAN (va_P.sub (frzF hF hS) [2, 3] rfl) hU hW))) rfl rfl hl.1 rfl (lv_room (Nat.le_of_ble_eq_true rfl)) dX1_addBusinessDays_25 ⟨(by first | exact Nat.le_of_ble_eq_true rfl | omega | (dsimp only [Rm]; omega)), (by first | exact Nat.le_of_ble_eq_true rfl | omega | (dsimp only [Rm]; omega))⟩) hS (fun H hS hsz hk => ?_)
  have hP : va_P D clA [] H := hP.kept (fun i q hi => hk q.1 ((hP i q hi).lt))
  have hD : va_D (fun q => s.heap.size ≤ q) [] := hD
  exact o_iret C ⟨hp1, hp13⟩ rfl hS (by first | exact Nat.le_of_ble_eq_true rfl | omega | (dsimp only [Rm]; omega)) (by first | exact Nat.le_of_ble_eq_true rfl | omega | (dsimp only [Rm]; omega)) dX1_addBusinessDays_28
set_option maxHeartbeats 4000000 in
theorem c_PbusDays (l : Launch) (D : va_G) (k : Nat → ClassId) (g : Nat → Nat) (o bb dq : Nat) (bl eo : Int32) (z : Nat → Nat) (hf d : Nat → Int32) (hz : dkN g z hf d) (x y : Int32) (htr : l.stackTraces = false) : oM l D k yX1_businessDays cX1_businessDays 5 (some .int) 8 140 2 12 [.ref o, .int x, .int y] (hKX (fun HH => va_P D clA [(o, .inr (1, [.ref bb, .ref dq, .ref (z 0), .int bl, .int eo]))] HH ∧ dk D k z hf d HH) g) (inR x 0 9999 ∧ inR y 0 9999) (some (.int (cntB d (ci x) (ci y - ci x)))) (fun E => ¬ (inR x 0 9999 ∧ inR y 0 9999) ∧ E = "java/lang/IllegalArgumentException") := by
  refine oM_of (by decide) (Nat.le_of_ble_eq_true rfl) ?_
  intro p e s m below meth c ls C hnt hK ⟨⟨hO, hdk⟩, hX⟩ hS hl
  have hP : va_P D clA [] s.heap := va_nil
  have hD : va_D (fun q => s.heap.size ≤ q) [] := va_D_nod.mpr ⟨List.nodup_nil, fun q h => by cases h⟩
  have hA : ∀ q, s.heap.size ≤ q → s.heap.size ≤ q := fun _ h => h
  have hAN : ∀ q, s.heap.size ≤ q → g 0 ≤ q := fun q h => Nat.le_trans hX.le h
  have hN : NW s := hX.nw
  obtain ⟨hx, hb, hr, hml, hown, hts, hlk⟩ := id C
  have hl : lv_has ls 5 [(0, .ref o), (1, .int x), (2, .int y)] := hl
  have hF : va_P D clA [(o, .inr (1, [.ref bb, .ref dq, .ref (z 0), .int bl, .int eo])), (z 0, .inr (2, [.ref (z 1), .ref (z 3), .ref (z 6), .ref (z 9), .int (d 3)])), (z 1, .inr (3, [.ref (z 2), .int (d 2)])), (z 2, .inl (k 0, 16, .inl hf)), (z 3, .inr (4, [.ref (z 4), .int 12])), (z 4, .inr (12, [.int (nI (z 12)), .ref (z 5), .int (nI (dN d 0))])), (z 6, .inr (4, [.ref (z 7), .int 24])), (z 7, .inr (12, [.int (nI (z 13)), .ref (z 8), .int (nI (dN d 1))]))] s.heap := va_cons (hO 0 _ rfl) hdk.1
  have hd := hz.1
  have hh := hz.2.1
  have h10 := hz.2.2
  obtain ⟨h10, h10b, h11, h11b, -⟩ := h10
  have hd0 := hd.1.1.2
  have hd1 := hd.1.2.1.2
  refine lv_iload_n hx hb dX1_businessDays_0 rfl (lv_at hl 1 rfl) ?_
  refine o_after (vy_runS (As := [.int x]) (rest := []) (g := F0 m 1 ls [.int x]) C.fix (c_reqDay l D k g x htr) (va_cwS 1 hts (lw_S q1177 q1178 q68 q1179) rfl rfl rfl (by decide +kernel) ⟨Nat.le_of_ble_eq_true rfl, Nat.le_of_ble_eq_true rfl⟩) (preS mv2_hKX hK (fun U hU hW => (hKX_at hX hS hAN trivial hU hW))) rfl rfl hl.1 rfl (lv_room (Nat.le_of_ble_eq_true rfl)) dX1_businessDays_1 ⟨(by first | exact Nat.le_of_ble_eq_true rfl | omega | (dsimp only [Rm]; omega)), (by first | exact Nat.le_of_ble_eq_true rfl | omega | (dsimp only [Rm]; omega))⟩) hS (fun E ce q9 H hth hS hk hce hcv hcl => o_out hnt hlk (⟨fun h => hth.1 h.1, hth.2⟩) hS hce hcv hcl (by first | exact Nat.le_of_ble_eq_true rfl | omega | (dsimp only [Rm]; omega)) (by first | exact Nat.le_of_ble_eq_true rfl | omega | (dsimp only [Rm]; omega))) (fun H hp1 hS hsz hk => ?_)
  have hP : va_P D clA [] H := hP.kept (fun i q hi => hk q.1 ((hP i q hi).lt))
  have hD : va_D (fun q => s.heap.size ≤ q) [] := hD
  refine lv_iload_n hx hb dX1_businessDays_4 rfl (lv_at hl 2 rfl) ?_
  refine o_after (vy_runS (As := [.int y]) (rest := []) (g := F0 m 5 ls [.int y]) C.fix (c_reqDay l D k g y htr) (va_cwS 1 hts (lw_S q1177 q1178 q68 q1179) rfl rfl rfl (by decide +kernel) ⟨Nat.le_of_ble_eq_true rfl, Nat.le_of_ble_eq_true rfl⟩) (preS mv2_hKX hK (fun U hU hW => (hKX_at hX hS hAN trivial hU hW))) rfl rfl hl.1 rfl (lv_room (Nat.le_of_ble_eq_true rfl)) dX1_businessDays_5 ⟨(by first | exact Nat.le_of_ble_eq_true rfl | omega | (dsimp only [Rm]; omega)), (by first | exact Nat.le_of_ble_eq_true rfl | omega | (dsimp only [Rm]; omega))⟩) hS (fun E ce q9 H hth hS hk hce hcv hcl => o_out hnt hlk (⟨fun h => hth.1 h.2, hth.2⟩) hS hce hcv hcl (by first | exact Nat.le_of_ble_eq_true rfl | omega | (dsimp only [Rm]; omega)) (by first | exact Nat.le_of_ble_eq_true rfl | omega | (dsimp only [Rm]; omega))) (fun H hp5 hS hsz hk => ?_)
  have hP : va_P D clA [] H := hP.kept (fun i q hi => hk q.1 ((hP i q hi).lt))
  have hD : va_D (fun q => s.heap.size ≤ q) [] := hD
  obtain ⟨hcx, ecx⟩ := day_ci hp1
  obtain ⟨hcy, ecy⟩ := day_ci hp5
  refine lv_iconst (v := 0) hx hb dX1_businessDays_8 rfl ?_
  refine lv_istore_n (lv' := [(3, .int 0), (0, .ref o), (1, .int x), (2, .int y)]) hx hb dX1_businessDays_9 rfl hl (by decide) rfl (fun ls hl => ?_)
  refine lv_iload_n hx hb dX1_businessDays_10 rfl (lv_at hl 2 rfl) ?_
  refine w_topi (y := nI (ci x)) ecx ?_
  refine lv_istore (lv' := [(4, .int (nI (ci x))), (3, .int 0), (0, .ref o), (1, .int x), (2, .int y)]) hx hb dX1_businessDays_11 hl (by decide) rfl (fun ls hl => ?_)
  have loop_13 : ∀ (n : Nat) (j : Nat), (j ≤ ci y - ci x) → (ci y - ci x + 1 ≤ j + n) → ∀ (H : Heap) (locs : List Loc), va_P D clA [] H → va_D (fun q => s.heap.size ≤ q) [] → va_S (fun q => s.heap.size ≤ q) s.heap H locs → ∀ (ls : Array Slot), lv_has ls 5 [(0, .ref o), (1, .int x), (2, .int y), (3, .int (cntB d (ci x) j)), (4, .int (nI (ci x + j)))] → W p l e (Rm 8 140 2 12) s m ([.ref o, .int x, .int y] : List Value).toArray below meth c H locs 2 12 (vy_MQ below (oQ (inR x 0 9999 ∧ inR y 0 9999) (some (.int (cntB d (ci x) (ci y - ci x))))) (oX (fun E => ¬ (inR x 0 9999 ∧ inR y 0 9999) ∧ E = "java/lang/IllegalArgumentException")) ([.ref o, .int x, .int y] : List Value).toArray s 2 12 (fun _ => False)) (F0 m 13 ls []) := by
    intro n
    induction n with
    | zero =>
      intro j hj hn
      exact absurd hn (by omega)
    | succ n ih_13 =>
      intro j hj hn H locs hP hD hS ls hl
      refine lv_iload hx hb dX1_businessDays_13 (lv_at hl 4 rfl) ?_
      refine lv_iload_n hx hb dX1_businessDays_15 rfl (lv_at hl 2 rfl) ?_
      refine w_topi (y := nI (ci y)) ecy ?_
      refine lv_icmp_ge (tgt := 48) hx hb dX1_businessDays_16 (by decide) (fun c_16 => ?_) (fun c_16 => ?_)
      · have g_16 := nI_le' c_16 (by omega) (by omega)
        refine lv_iload_n hx hb dX1_businessDays_48 rfl (lv_at hl 3 rfl) ?_
        exact o_iret C ⟨hp1, hp5⟩ (by rw [show j = ci y - ci x by omega]) hS (by first | exact Nat.le_of_ble_eq_true rfl | omega | (dsimp only [Rm]; omega)) (by first | exact Nat.le_of_ble_eq_true rfl | omega | (dsimp only [Rm]; omega)) dX1_businessDays_49
      · have g_16 := nI_nle' c_16 (by omega) (by omega)
        refine lv_iload_n hx hb dX1_businessDays_19 rfl (lv_at hl 3 rfl) ?_
        refine lv_aload_n hx hb dX1_businessDays_20 rfl (lv_at hl 0 rfl) ?_
        refine va_get hx hb hts in_X1 hown hK (frzF hF hS) 0 rfl rfl 2 (by decide) (hts _ q221) (fun _ h => h) rfl dX1_businessDays_21 ?_
        refine va_getN hx hb hts in_X2 hown hK (frzF hF hS) 1 rfl rfl 0 (by decide) ((hN _ q197 rfl).use rfl) (fun _ h => h) rfl dX1_businessDays_24 ?_
        refine lv_iload hx hb dX1_businessDays_27 (lv_at hl 4 rfl) ?_
        refine r_after (va_runV (As := [.int (nI (ci x + j))]) (rest := [.int (cntB d (ci x) j)]) (g := F0 m 29 ls [.int (nI (ci x + j)), .ref (z 1), .int (cntB d (ci x) j)]) C.fix (c_isBusinessDay l D k (z 1) (z 2) hf d [] hh hd.1.2.2.1 (ci x + j) (by omega)) (cwV 1 hts (lw_V q1181 q1182 q1183 q72 q1184) rfl rfl rfl (by decide +kernel) ⟨Nat.le_of_ble_eq_true rfl, Nat.le_of_ble_eq_true rfl⟩) (preRV hK (va_recv hK (frzF hF hS) (ci := 3) (q0 := 2) rfl rfl) (va_cons ((frzF hF hS) 2 _ rfl) (va_cons ((frzF hF hS) 3 _ rfl) va_nil))) rfl rfl hl.1 rfl (lv_room (Nat.le_of_ble_eq_true rfl)) dX1_businessDays_29 ⟨(by first | exact Nat.le_of_ble_eq_true rfl | omega | (dsimp only [Rm]; omega)), (by first | exact Nat.le_of_ble_eq_true rfl | omega | (dsimp only [Rm]; omega))⟩) ?_
        have J_40 : ∀ (zz : Int32), (zz = bI (isBus d (ci x + j))) → ∀ (ls : Array Slot), lv_has ls 5 [(0, .ref o), (1, .int x), (2, .int y), (3, .int (cntB d (ci x) j)), (4, .int (nI (ci x + j)))] → W p l e (Rm 8 140 2 12) s m ([.ref o, .int x, .int y] : List Value).toArray below meth c H locs (2 + 0) (12 + 0) (vy_MQ below (oQ (inR x 0 9999 ∧ inR y 0 9999) (some (.int (cntB d (ci x) (ci y - ci x))))) (oX (fun E => ¬ (inR x 0 9999 ∧ inR y 0 9999) ∧ E = "java/lang/IllegalArgumentException")) ([.ref o, .int x, .int y] : List Value).toArray s 2 12 (fun _ => False)) (F0 m 40 ls [.int zz, .int (cntB d (ci x) j)]) := by
          intro zz h_zz ls hl
          refine lv_iadd hx hb dX1_businessDays_40 ?_
          refine w_topi (y := cntB d (ci x) (j + 1)) (by rw [h_zz]; rfl) ?_
          refine lv_istore_n (lv' := [(3, .int (cntB d (ci x) (j + 1))), (0, .ref o), (1, .int x), (2, .int y), (4, .int (nI (ci x + j)))]) hx hb dX1_businessDays_41 rfl hl (by decide) rfl (fun ls hl => ?_)
          refine lv_iinc (v := nI (ci x + (j + 1))) (lv' := [(4, .int (nI (ci x + (j + 1)))), (3, .int (cntB d (ci x) (j + 1))), (0, .ref o), (1, .int x), (2, .int y)]) hx hb dX1_businessDays_42 hl (k := 4) rfl (nI_1 (ci x + j)) (by decide) rfl (fun ls hl => ?_)
          refine lv_goto (tgt := 13) hx hb dX1_businessDays_45 (by decide) ?_
          exact W_more (by first | exact Nat.le_of_ble_eq_true rfl | omega | (dsimp only [Rm]; omega)) (by first | exact Nat.le_of_ble_eq_true rfl | omega | (dsimp only [Rm]; omega)) (ih_13 (j + 1) (by omega) (by omega) _ _ hP (va_D_of hD rfl) hS ls (lv_sub hl [2, 3, 4, 1, 0] rfl))
        refine lv_if_eq (tgt := 39) hx hb dX1_businessDays_32 (by decide) (fun c_32 => ?_) (fun c_32 => ?_)
        · have b_32 := bI_0.mp c_32
          refine lv_iconst (v := 0) hx hb dX1_businessDays_39 rfl ?_
          exact J_40 0 (by first | exact (bI_f b_32).symm | exact (bI_t b_32).symm | exact bI_f b_32 | exact bI_t b_32) ls hl
        · have b_32 := bI_nz c_32
          refine lv_iconst (v := 1) hx hb dX1_businessDays_35 rfl ?_
          refine lv_goto (tgt := 40) hx hb dX1_businessDays_36 (by decide) ?_
          exact J_40 1 (by first | exact (bI_f b_32).symm | exact (bI_t b_32).symm | exact bI_f b_32 | exact bI_t b_32) ls hl
  exact W_more (by first | exact Nat.le_of_ble_eq_true rfl | omega | (dsimp only [Rm]; omega)) (by first | exact Nat.le_of_ble_eq_true rfl | omega | (dsimp only [Rm]; omega)) (loop_13 (ci y - ci x + 1) 0 (Nat.zero_le _) (by omega) _ _ hP (va_D_of hD rfl) hS ls (lv_sub hl [2, 3, 4, 1, 0] rfl))
set_option maxHeartbeats 4000000 in
theorem c_Pbound (l : Launch) (D : va_G) (k : Nat → ClassId) (g : Nat → Nat) (o bb dq : Nat) (bl eo : Int32) (z : Nat → Nat) (hf d : Nat → Int32) (hz : dkN g z hf d) (x : Int32) (B : Prop) (htr : l.stackTraces = false) : oM l D k yX1_bound cX1_bound 3 (some .int) 9 163 1 6 [.ref o, .int x, .int (bI B)] (hKX (fun HH => va_P D clA [(o, .inr (1, [.ref bb, .ref dq, .ref (z 0), .int bl, .int eo]))] HH ∧ dk D k z hf d HH) g) (hasC d x) (some (.int (ifp B (most d (ci x)) (least d (ci x))))) (fun E => ¬ hasC d x ∧ E = "java/lang/IndexOutOfBoundsException") := by
  refine oM_of (by decide) (Nat.le_of_ble_eq_true rfl) ?_
  intro p e s m below meth c ls C hnt hK ⟨⟨hO, hdk⟩, hX⟩ hS hl
  have hP : va_P D clA [] s.heap := va_nil
  have hD : va_D (fun q => s.heap.size ≤ q) [] := va_D_nod.mpr ⟨List.nodup_nil, fun q h => by cases h⟩
  have hA : ∀ q, s.heap.size ≤ q → s.heap.size ≤ q := fun _ h => h
  have hAN : ∀ q, s.heap.size ≤ q → g 0 ≤ q := fun q h => Nat.le_trans hX.le h
  have hN : NW s := hX.nw
  obtain ⟨hx, hb, hr, hml, hown, hts, hlk⟩ := id C
  have hl : lv_has ls 3 [(0, .ref o), (1, .int x), (2, .int (bI B))] := hl
  have hF : va_P D clA [(o, .inr (1, [.ref bb, .ref dq, .ref (z 0), .int bl, .int eo])), (z 0, .inr (2, [.ref (z 1), .ref (z 3), .ref (z 6), .ref (z 9), .int (d 3)])), (z 1, .inr (3, [.ref (z 2), .int (d 2)])), (z 2, .inl (k 0, 16, .inl hf)), (z 3, .inr (4, [.ref (z 4), .int 12])), (z 4, .inr (12, [.int (nI (z 12)), .ref (z 5), .int (nI (dN d 0))])), (z 6, .inr (4, [.ref (z 7), .int 24])), (z 7, .inr (12, [.int (nI (z 13)), .ref (z 8), .int (nI (dN d 1))]))] s.heap := va_cons (hO 0 _ rfl) hdk.1
  have hd := hz.1
  have hh := hz.2.1
  have h10 := hz.2.2
  obtain ⟨h10, h10b, h11, h11b, -⟩ := h10
  have hd0 := hd.1.1.2
  have hd1 := hd.1.2.1.2
  refine lv_iload_n hx hb dX1_bound_0 rfl (lv_at hl 2 rfl) ?_
  refine lv_if_eq (tgt := 15) hx hb dX1_bound_1 (by decide) (fun c_1 => ?_) (fun c_1 => ?_)
  · have b_1 := bI_0.mp c_1
    refine lv_aload_n hx hb dX1_bound_15 rfl (lv_at hl 0 rfl) ?_
    refine lv_iload_n hx hb dX1_bound_16 rfl (lv_at hl 1 rfl) ?_
    refine o_after (vy_runV (As := [.int x]) (rest := []) (g := F0 m 17 ls [.int x, .ref o]) C.fix (c_creditAt l D k g o bb dq bl eo z hf d hz x htr) (cwV 1 hts (lw_V q1321 q1323 qs24 q68 q1324) rfl rfl rfl (by decide +kernel) ⟨Nat.le_of_ble_eq_true rfl, Nat.le_of_ble_eq_true rfl⟩) (preV mv2_hKX hK (va_recv hK (frzF hF hS) (ci := 1) (q0 := 0) rfl rfl) (fun U hU hW => (hKX_at hX hS hAN (⟨(frzF hO hS), (dk_frF hdk hS)⟩) hU hW))) rfl rfl hl.1 rfl (lv_room (Nat.le_of_ble_eq_true rfl)) dX1_bound_17 ⟨(by first | exact Nat.le_of_ble_eq_true rfl | omega | (dsimp only [Rm]; omega)), (by first | exact Nat.le_of_ble_eq_true rfl | omega | (dsimp only [Rm]; omega))⟩) hS (fun E ce q9 H hth hS hk hce hcv hcl => o_out hnt hlk (hth) hS hce hcv hcl (by first | exact Nat.le_of_ble_eq_true rfl | omega | (dsimp only [Rm]; omega)) (by first | exact Nat.le_of_ble_eq_true rfl | omega | (dsimp only [Rm]; omega))) (fun H hp17 hS hsz hk => ?_)
    have hP : va_P D clA [] H := hP.kept (fun i q hi => hk q.1 ((hP i q hi).lt))
    have hD : va_D (fun q => s.heap.size ≤ q) [] := hD
    obtain ⟨hcx, ecx⟩ := hasC_ci hd hp17
    refine r_after (va_runV (As := []) (rest := []) (g := F0 m 20 ls [.ref (z (16 + ci x))]) C.fix (c_min l D k (z (16 + ci x)) (cf d (ci x) 10) (cf d (ci x) 0) (cf d (ci x) 1) (cf d (ci x) 2) (cf d (ci x) 3) (cf d (ci x) 4) (cf d (ci x) 5) (cf d (ci x) 6) (cf d (ci x) 9) (cf d (ci x) 7) (cf d (ci x) 8) []) (cwV 0 hts (lw_V q1355 q1356 q1357 q97 q1358) rfl rfl rfl (by decide +kernel) ⟨Nat.le_of_ble_eq_true rfl, Nat.le_of_ble_eq_true rfl⟩) (preRV hK (va_recv hK (frzF (hdk.2.2.2.1 (ci x) (by omega)) hS) (ci := 8) (q0 := 0) rfl rfl) (va_cons ((frzF (hdk.2.2.2.1 (ci x) (by omega)) hS) 0 _ rfl) va_nil)) rfl rfl hl.1 rfl (lv_room (Nat.le_of_ble_eq_true rfl)) dX1_bound_20 ⟨(by first | exact Nat.le_of_ble_eq_true rfl | omega | (dsimp only [Rm]; omega)), (by first | exact Nat.le_of_ble_eq_true rfl | omega | (dsimp only [Rm]; omega))⟩) ?_
    exact o_iret C hp17 (ifp_f b_1).symm hS (by first | exact Nat.le_of_ble_eq_true rfl | omega | (dsimp only [Rm]; omega)) (by first | exact Nat.le_of_ble_eq_true rfl | omega | (dsimp only [Rm]; omega)) dX1_bound_23
  · have b_1 := bI_nz c_1
    refine lv_aload_n hx hb dX1_bound_4 rfl (lv_at hl 0 rfl) ?_
    refine lv_iload_n hx hb dX1_bound_5 rfl (lv_at hl 1 rfl) ?_
    refine o_after (vy_runV (As := [.int x]) (rest := []) (g := F0 m 6 ls [.int x, .ref o]) C.fix (c_creditAt l D k g o bb dq bl eo z hf d hz x htr) (cwV 1 hts (lw_V q1321 q1323 qs24 q68 q1324) rfl rfl rfl (by decide +kernel) ⟨Nat.le_of_ble_eq_true rfl, Nat.le_of_ble_eq_true rfl⟩) (preV mv2_hKX hK (va_recv hK (frzF hF hS) (ci := 1) (q0 := 0) rfl rfl) (fun U hU hW => (hKX_at hX hS hAN (⟨(frzF hO hS), (dk_frF hdk hS)⟩) hU hW))) rfl rfl hl.1 rfl (lv_room (Nat.le_of_ble_eq_true rfl)) dX1_bound_6 ⟨(by first | exact Nat.le_of_ble_eq_true rfl | omega | (dsimp only [Rm]; omega)), (by first | exact Nat.le_of_ble_eq_true rfl | omega | (dsimp only [Rm]; omega))⟩) hS (fun E ce q9 H hth hS hk hce hcv hcl => o_out hnt hlk (hth) hS hce hcv hcl (by first | exact Nat.le_of_ble_eq_true rfl | omega | (dsimp only [Rm]; omega)) (by first | exact Nat.le_of_ble_eq_true rfl | omega | (dsimp only [Rm]; omega))) (fun H hp6 hS hsz hk => ?_)
    have hP : va_P D clA [] H := hP.kept (fun i q hi => hk q.1 ((hP i q hi).lt))
    have hD : va_D (fun q => s.heap.size ≤ q) [] := hD
    obtain ⟨hcx, ecx⟩ := hasC_ci hd hp6
    refine r_after (va_runV (As := []) (rest := []) (g := F0 m 9 ls [.ref (z (16 + ci x))]) C.fix (c_max l D k (z (16 + ci x)) (cf d (ci x) 10) (cf d (ci x) 0) (cf d (ci x) 1) (cf d (ci x) 2) (cf d (ci x) 3) (cf d (ci x) 4) (cf d (ci x) 5) (cf d (ci x) 6) (cf d (ci x) 9) (cf d (ci x) 7) (cf d (ci x) 8) []) (cwV 0 hts (lw_V q1354 q363 q364 q97 q365) rfl rfl rfl (by decide +kernel) ⟨Nat.le_of_ble_eq_true rfl, Nat.le_of_ble_eq_true rfl⟩) (preRV hK (va_recv hK (frzF (hdk.2.2.2.1 (ci x) (by omega)) hS) (ci := 8) (q0 := 0) rfl rfl) (va_cons ((frzF (hdk.2.2.2.1 (ci x) (by omega)) hS) 0 _ rfl) va_nil)) rfl rfl hl.1 rfl (lv_room (Nat.le_of_ble_eq_true rfl)) dX1_bound_9 ⟨(by first | exact Nat.le_of_ble_eq_true rfl | omega | (dsimp only [Rm]; omega)), (by first | exact Nat.le_of_ble_eq_true rfl | omega | (dsimp only [Rm]; omega))⟩) ?_
    refine lv_goto (tgt := 23) hx hb dX1_bound_12 (by decide) ?_
    exact o_iret C hp6 (ifp_t b_1).symm hS (by first | exact Nat.le_of_ble_eq_true rfl | omega | (dsimp only [Rm]; omega)) (by first | exact Nat.le_of_ble_eq_true rfl | omega | (dsimp only [Rm]; omega)) dX1_bound_23
set_option maxHeartbeats 4000000 in
theorem c_PlastDay (l : Launch) (D : va_G) (k : Nat → ClassId) (g : Nat → Nat) (o bb dq : Nat) (bl eo : Int32) (z : Nat → Nat) (hf d : Nat → Int32) (hz : dkN g z hf d) (x y : Int32) (htr : l.stackTraces = false) : oM l D k yX1_lastDay cX1_lastDay 3 (some .int) 8 165 6 20 [.ref o, .int x, .int y] (hKX (fun HH => va_P D clA [(o, .inr (1, [.ref bb, .ref dq, .ref (z 0), .int bl, .int eo]))] HH ∧ dk D k z hf d HH) g) (hasC d x ∧ inR y 0 9999) (some (.int (lastD d (ci x) (ci y)))) (fun E => (¬ hasC d x ∧ E = "java/lang/IndexOutOfBoundsException") ∨ (hasC d x ∧ ¬ inR y 0 9999 ∧ E = "java/lang/IllegalArgumentException")) := by
  refine oM_of (by decide) (Nat.le_of_ble_eq_true rfl) ?_
  intro p e s m below meth c ls C hnt hK ⟨⟨hO, hdk⟩, hX⟩ hS hl
  have hP : va_P D clA [] s.heap := va_nil
  have hD : va_D (fun q => s.heap.size ≤ q) [] := va_D_nod.mpr ⟨List.nodup_nil, fun q h => by cases h⟩
  have hA : ∀ q, s.heap.size ≤ q → s.heap.size ≤ q := fun _ h => h
  have hAN : ∀ q, s.heap.size ≤ q → g 0 ≤ q := fun q h => Nat.le_trans hX.le h
  have hN : NW s := hX.nw
  obtain ⟨hx, hb, hr, hml, hown, hts, hlk⟩ := id C
  have hl : lv_has ls 3 [(0, .ref o), (1, .int x), (2, .int y)] := hl
  have hF : va_P D clA [(o, .inr (1, [.ref bb, .ref dq, .ref (z 0), .int bl, .int eo])), (z 0, .inr (2, [.ref (z 1), .ref (z 3), .ref (z 6), .ref (z 9), .int (d 3)])), (z 1, .inr (3, [.ref (z 2), .int (d 2)])), (z 2, .inl (k 0, 16, .inl hf)), (z 3, .inr (4, [.ref (z 4), .int 12])), (z 4, .inr (12, [.int (nI (z 12)), .ref (z 5), .int (nI (dN d 0))])), (z 6, .inr (4, [.ref (z 7), .int 24])), (z 7, .inr (12, [.int (nI (z 13)), .ref (z 8), .int (nI (dN d 1))]))] s.heap := va_cons (hO 0 _ rfl) hdk.1
  have hd := hz.1
  have hh := hz.2.1
  have h10 := hz.2.2
  obtain ⟨h10, h10b, h11, h11b, -⟩ := h10
  have hd0 := hd.1.1.2
  have hd1 := hd.1.2.1.2
  refine lv_aload_n hx hb dX1_lastDay_0 rfl (lv_at hl 0 rfl) ?_
  refine lv_iload_n hx hb dX1_lastDay_1 rfl (lv_at hl 1 rfl) ?_
  refine o_after (vy_runV (As := [.int x]) (rest := []) (g := F0 m 2 ls [.int x, .ref o]) C.fix (c_reqCredit l D k g o bb dq bl eo z hf d hz x htr) (cwV 1 hts (lw_V q1325 q1327 qs25 q68 q1328) rfl rfl rfl (by decide +kernel) ⟨Nat.le_of_ble_eq_true rfl, Nat.le_of_ble_eq_true rfl⟩) (preV mv2_hKX hK (va_recv hK (frzF hF hS) (ci := 1) (q0 := 0) rfl rfl) (fun U hU hW => (hKX_at hX hS hAN (⟨(frzF hO hS), (dk_frF hdk hS)⟩) hU hW))) rfl rfl hl.1 rfl (lv_room (Nat.le_of_ble_eq_true rfl)) dX1_lastDay_2 ⟨(by first | exact Nat.le_of_ble_eq_true rfl | omega | (dsimp only [Rm]; omega)), (by first | exact Nat.le_of_ble_eq_true rfl | omega | (dsimp only [Rm]; omega))⟩) hS (fun E ce q9 H hth hS hk hce hcv hcl => o_out hnt hlk (Or.inl hth) hS hce hcv hcl (by first | exact Nat.le_of_ble_eq_true rfl | omega | (dsimp only [Rm]; omega)) (by first | exact Nat.le_of_ble_eq_true rfl | omega | (dsimp only [Rm]; omega))) (fun H hp2 hS hsz hk => ?_)
  have hP : va_P D clA [] H := hP.kept (fun i q hi => hk q.1 ((hP i q hi).lt))
  have hD : va_D (fun q => s.heap.size ≤ q) [] := hD
  refine lv_iload_n hx hb dX1_lastDay_5 rfl (lv_at hl 2 rfl) ?_
  refine o_after (vy_runS (As := [.int y]) (rest := []) (g := F0 m 6 ls [.int y]) C.fix (c_reqDay l D k g y htr) (va_cwS 1 hts (lw_S q1177 q1178 q68 q1179) rfl rfl rfl (by decide +kernel) ⟨Nat.le_of_ble_eq_true rfl, Nat.le_of_ble_eq_true rfl⟩) (preS mv2_hKX hK (fun U hU hW => (hKX_at hX hS hAN trivial hU hW))) rfl rfl hl.1 rfl (lv_room (Nat.le_of_ble_eq_true rfl)) dX1_lastDay_6 ⟨(by first | exact Nat.le_of_ble_eq_true rfl | omega | (dsimp only [Rm]; omega)), (by first | exact Nat.le_of_ble_eq_true rfl | omega | (dsimp only [Rm]; omega))⟩) hS (fun E ce q9 H hth hS hk hce hcv hcl => o_out hnt hlk (Or.inr ⟨hp2, hth⟩) hS hce hcv hcl (by first | exact Nat.le_of_ble_eq_true rfl | omega | (dsimp only [Rm]; omega)) (by first | exact Nat.le_of_ble_eq_true rfl | omega | (dsimp only [Rm]; omega))) (fun H hp6 hS hsz hk => ?_)
  have hP : va_P D clA [] H := hP.kept (fun i q hi => hk q.1 ((hP i q hi).lt))
  have hD : va_D (fun q => s.heap.size ≤ q) [] := hD
  refine lv_aload_n hx hb dX1_lastDay_9 rfl (lv_at hl 0 rfl) ?_
  refine va_get hx hb hts in_X1 hown hK (frzF hF hS) 0 rfl rfl 2 (by decide) (hts _ q221) (fun _ h => h) rfl dX1_lastDay_10 ?_
  refine lv_iload_n hx hb dX1_lastDay_13 rfl (lv_at hl 1 rfl) ?_
  refine lv_iload_n hx hb dX1_lastDay_14 rfl (lv_at hl 2 rfl) ?_
  obtain ⟨hcx, ecx⟩ := hasC_ci hd hp2
  obtain ⟨hcy, ecy⟩ := day_ci hp6
  refine w_topi (y := nI (ci y)) ecy ?_
  refine w_sec (y := nI (ci x)) ecx ?_
  refine g_after (va_runV (As := [.int (nI (ci x)), .int (nI (ci y))]) (rest := []) (g := F0 m 15 ls [.int (nI (ci y)), .int (nI (ci x)), .ref (z 0)]) C.fix (c_lastDay l D k g z hf d hz (ci x) (ci y) (by omega) (by omega)) (cwV 2 hts (lw_V q1493 q1475 q1476 q71 q1477) rfl rfl rfl (by decide +kernel) ⟨Nat.le_of_ble_eq_true rfl, Nat.le_of_ble_eq_true rfl⟩) (preV mv2_hKX hK (va_recv hK (frzF hF hS) (ci := 2) (q0 := 1) rfl rfl) (fun U hU hW => (hKX_at hX hS hAN (dk_frF hdk hS) hU hW))) rfl rfl hl.1 rfl (lv_room (Nat.le_of_ble_eq_true rfl)) dX1_lastDay_15 ⟨(by first | exact Nat.le_of_ble_eq_true rfl | omega | (dsimp only [Rm]; omega)), (by first | exact Nat.le_of_ble_eq_true rfl | omega | (dsimp only [Rm]; omega))⟩) hS (fun H hS hsz hk => ?_)
  have hP : va_P D clA [] H := hP.kept (fun i q hi => hk q.1 ((hP i q hi).lt))
  have hD : va_D (fun q => s.heap.size ≤ q) [] := hD
  exact o_iret C ⟨hp2, hp6⟩ rfl hS (by first | exact Nat.le_of_ble_eq_true rfl | omega | (dsimp only [Rm]; omega)) (by first | exact Nat.le_of_ble_eq_true rfl | omega | (dsimp only [Rm]; omega)) dX1_lastDay_18
set_option maxHeartbeats 4000000 in
theorem c_reqDrawing (l : Launch) (D : va_G) (k : Nat → ClassId) (g : Nat → Nat) (o bb dq : Nat) (bl eo : Int32) (z : Nat → Nat) (hf d : Nat → Int32) (hz : dkN g z hf d) (x y am dc ins : Int32) (htr : l.stackTraces = false) : oM l D k yX1_requireDrawing cX1_requireDrawing 6 none 8 142 2 12 [.ref o, .int x, .int y, .int am, .int dc, .int ins] (hKX (fun HH => va_P D clA [(o, .inr (1, [.ref bb, .ref dq, .ref (z 0), .int bl, .int eo]))] HH ∧ dk D k z hf d HH) g) (hasC d x ∧ ¬ wrong y am dc ins) (none) (fun E => (¬ hasC d x ∧ E = "java/lang/IndexOutOfBoundsException") ∨ (hasC d x ∧ wrong y am dc ins ∧ E = "java/lang/IllegalArgumentException")) := by
  refine oM_of (by decide) (Nat.le_of_ble_eq_true rfl) ?_
  intro p e s m below meth c ls C hnt hK ⟨⟨hO, hdk⟩, hX⟩ hS hl
  have hP : va_P D clA [] s.heap := va_nil
  have hD : va_D (fun q => s.heap.size ≤ q) [] := va_D_nod.mpr ⟨List.nodup_nil, fun q h => by cases h⟩
  have hA : ∀ q, s.heap.size ≤ q → s.heap.size ≤ q := fun _ h => h
  have hAN : ∀ q, s.heap.size ≤ q → g 0 ≤ q := fun q h => Nat.le_trans hX.le h
  have hN : NW s := hX.nw
  obtain ⟨hx, hb, hr, hml, hown, hts, hlk⟩ := id C
  have hl : lv_has ls 6 [(0, .ref o), (1, .int x), (2, .int y), (3, .int am), (4, .int dc), (5, .int ins)] := hl
  have hF : va_P D clA [(o, .inr (1, [.ref bb, .ref dq, .ref (z 0), .int bl, .int eo])), (z 0, .inr (2, [.ref (z 1), .ref (z 3), .ref (z 6), .ref (z 9), .int (d 3)])), (z 1, .inr (3, [.ref (z 2), .int (d 2)])), (z 2, .inl (k 0, 16, .inl hf)), (z 3, .inr (4, [.ref (z 4), .int 12])), (z 4, .inr (12, [.int (nI (z 12)), .ref (z 5), .int (nI (dN d 0))])), (z 6, .inr (4, [.ref (z 7), .int 24])), (z 7, .inr (12, [.int (nI (z 13)), .ref (z 8), .int (nI (dN d 1))]))] s.heap := va_cons (hO 0 _ rfl) hdk.1
  have hd := hz.1
  have hh := hz.2.1
  have h10 := hz.2.2
  obtain ⟨h10, h10b, h11, h11b, -⟩ := h10
  have hd0 := hd.1.1.2
  have hd1 := hd.1.2.1.2
  refine lv_aload_n hx hb dX1_requireDrawing_0 rfl (lv_at hl 0 rfl) ?_
  refine lv_iload_n hx hb dX1_requireDrawing_1 rfl (lv_at hl 1 rfl) ?_
  refine o_after (vy_runV (As := [.int x]) (rest := []) (g := F0 m 2 ls [.int x, .ref o]) C.fix (c_reqCredit l D k g o bb dq bl eo z hf d hz x htr) (cwV 1 hts (lw_V q1325 q1327 qs25 q68 q1328) rfl rfl rfl (by decide +kernel) ⟨Nat.le_of_ble_eq_true rfl, Nat.le_of_ble_eq_true rfl⟩) (preV mv2_hKX hK (va_recv hK (frzF hF hS) (ci := 1) (q0 := 0) rfl rfl) (fun U hU hW => (hKX_at hX hS hAN (⟨(frzF hO hS), (dk_frF hdk hS)⟩) hU hW))) rfl rfl hl.1 rfl (lv_room (Nat.le_of_ble_eq_true rfl)) dX1_requireDrawing_2 ⟨(by first | exact Nat.le_of_ble_eq_true rfl | omega | (dsimp only [Rm]; omega)), (by first | exact Nat.le_of_ble_eq_true rfl | omega | (dsimp only [Rm]; omega))⟩) hS (fun E ce q9 H hth hS hk hce hcv hcl => o_out hnt hlk (Or.inl hth) hS hce hcv hcl (by first | exact Nat.le_of_ble_eq_true rfl | omega | (dsimp only [Rm]; omega)) (by first | exact Nat.le_of_ble_eq_true rfl | omega | (dsimp only [Rm]; omega))) (fun H hp2 hS hsz hk => ?_)
  have hP : va_P D clA [] H := hP.kept (fun i q hi => hk q.1 ((hP i q hi).lt))
  have hD : va_D (fun q => s.heap.size ≤ q) [] := hD
  refine lv_iload_n hx hb dX1_requireDrawing_5 rfl (lv_at hl 2 rfl) ?_
  refine lv_i2l (v := y.toInt64) hx hb dX1_requireDrawing_6 rfl ?_
  refine lv_lconst (v := 0) hx hb dX1_requireDrawing_7 rfl ?_
  refine lv_ldc2 (v := 9999) hx hb hown (hts _ q1180) dX1_requireDrawing_8 ?_
  refine r_after (va_runS (As := [.long y.toInt64, .long 0, .long 9999]) (rest := []) (g := F0 m 11 ls [.long 9999, .long 0, .long y.toInt64]) C.fix (c_isBetween l D k y.toInt64 0 9999) (va_cwS 3 hts (lw_S q301 q302 q68 q303) rfl rfl rfl (by decide +kernel) ⟨Nat.le_of_ble_eq_true rfl, Nat.le_of_ble_eq_true rfl⟩) (preR hK trivial) rfl rfl hl.1 rfl (lv_room (Nat.le_of_ble_eq_true rfl)) dX1_requireDrawing_11 ⟨(by first | exact Nat.le_of_ble_eq_true rfl | omega | (dsimp only [Rm]; omega)), (by first | exact Nat.le_of_ble_eq_true rfl | omega | (dsimp only [Rm]; omega))⟩) ?_
  refine w_topi (y := bI (inR y 0 9999)) (congrArg bI (bet y 0 9999 (by decide) (by decide))) ?_
  have J_52 : ∀ (zz : Int32), (zz = bI (¬ wrong y am dc ins)) → ∀ (ls : Array Slot), lv_has ls 6 [(0, .ref o), (1, .int x), (2, .int y), (3, .int am), (4, .int dc), (5, .int ins)] → W p l e (Rm 8 142 2 12) s m ([.ref o, .int x, .int y, .int am, .int dc, .int ins] : List Value).toArray below meth c H [] (0 + 1 + 0) (0 + 6 + 0) (vy_MQ below (oQ (hasC d x ∧ ¬ wrong y am dc ins) (none)) (oX (fun E => (¬ hasC d x ∧ E = "java/lang/IndexOutOfBoundsException") ∨ (hasC d x ∧ wrong y am dc ins ∧ E = "java/lang/IllegalArgumentException"))) ([.ref o, .int x, .int y, .int am, .int dc, .int ins] : List Value).toArray s 2 12 (fun _ => False)) (F0 m 52 ls [.int zz]) := by
    intro zz h_zz ls hl
    refine w_topi (y := bI (¬ wrong y am dc ins)) h_zz ?_
    refine o_after (vy_runS (As := [.int (bI (¬ wrong y am dc ins))]) (rest := []) (g := F0 m 52 ls [.int (bI (¬ wrong y am dc ins))]) C.fix (c_reqArg l D k g (¬ wrong y am dc ins) htr) (va_cwS 1 hts (lw_S q381 q382 q68 q383) rfl rfl rfl (by decide +kernel) ⟨Nat.le_of_ble_eq_true rfl, Nat.le_of_ble_eq_true rfl⟩) (preS mv2_hKX hK (fun U hU hW => (hKX_at hX hS hAN trivial hU hW))) rfl rfl hl.1 rfl (lv_room (Nat.le_of_ble_eq_true rfl)) dX1_requireDrawing_52 ⟨(by first | exact Nat.le_of_ble_eq_true rfl | omega | (dsimp only [Rm]; omega)), (by first | exact Nat.le_of_ble_eq_true rfl | omega | (dsimp only [Rm]; omega))⟩) hS (fun E ce q9 H hth hS hk hce hcv hcl => o_out hnt hlk (Or.inr ⟨hp2, Classical.not_not.mp hth.1, hth.2⟩) hS hce hcv hcl (by first | exact Nat.le_of_ble_eq_true rfl | omega | (dsimp only [Rm]; omega)) (by first | exact Nat.le_of_ble_eq_true rfl | omega | (dsimp only [Rm]; omega))) (fun H hp52 hS hsz hk => ?_)
    have hP : va_P D clA [] H := hP.kept (fun i q hi => hk q.1 ((hP i q hi).lt))
    have hD : va_D (fun q => s.heap.size ≤ q) [] := hD
    exact o_vret C ⟨hp2, hp52⟩ hS (by first | exact Nat.le_of_ble_eq_true rfl | omega | (dsimp only [Rm]; omega)) (by first | exact Nat.le_of_ble_eq_true rfl | omega | (dsimp only [Rm]; omega)) dX1_requireDrawing_55
  refine lv_if_eq (tgt := 51) hx hb dX1_requireDrawing_14 (by decide) (fun c_14 => ?_) (fun c_14 => ?_)
  · have b_14 := bI_0.mp c_14
    refine lv_iconst (v := 0) hx hb dX1_requireDrawing_51 rfl ?_
    exact J_52 0 (by first | exact bI_f (fun h => h (Or.inl b_14)) | exact bI_f (fun h => h (Or.inr (Or.inl b_26))) | exact bI_f (fun h => h (Or.inr (Or.inr (Or.inl b_39)))) | exact bI_f (fun h => h (Or.inr (Or.inr (Or.inr c_44)))) | exact bI_t (fun h => by rcases h with h | h | h | h; exact h b_14; exact h b_26; exact h b_39; exact c_44 h)) ls hl
  · have b_14 := bI_nz c_14
    refine lv_iload_n hx hb dX1_requireDrawing_17 rfl (lv_at hl 3 rfl) ?_
    refine lv_i2l (v := am.toInt64) hx hb dX1_requireDrawing_18 rfl ?_
    refine lv_lconst (v := 1) hx hb dX1_requireDrawing_19 rfl ?_
    refine lv_ldc2 (v := 1999999) hx hb hown (hts _ q1465) dX1_requireDrawing_20 ?_
    refine r_after (va_runS (As := [.long am.toInt64, .long 1, .long 1999999]) (rest := []) (g := F0 m 23 ls [.long 1999999, .long 1, .long am.toInt64]) C.fix (c_isBetween l D k am.toInt64 1 1999999) (va_cwS 3 hts (lw_S q301 q302 q68 q303) rfl rfl rfl (by decide +kernel) ⟨Nat.le_of_ble_eq_true rfl, Nat.le_of_ble_eq_true rfl⟩) (preR hK trivial) rfl rfl hl.1 rfl (lv_room (Nat.le_of_ble_eq_true rfl)) dX1_requireDrawing_23 ⟨(by first | exact Nat.le_of_ble_eq_true rfl | omega | (dsimp only [Rm]; omega)), (by first | exact Nat.le_of_ble_eq_true rfl | omega | (dsimp only [Rm]; omega))⟩) ?_
    refine w_topi (y := bI (inR am 1 1999999)) (congrArg bI (bet am 1 1999999 (by decide) (by decide))) ?_
    refine lv_if_eq (tgt := 51) hx hb dX1_requireDrawing_26 (by decide) (fun c_26 => ?_) (fun c_26 => ?_)
    · have b_26 := bI_0.mp c_26
      refine lv_iconst (v := 0) hx hb dX1_requireDrawing_51 rfl ?_
      exact J_52 0 (by first | exact bI_f (fun h => h (Or.inl b_14)) | exact bI_f (fun h => h (Or.inr (Or.inl b_26))) | exact bI_f (fun h => h (Or.inr (Or.inr (Or.inl b_39)))) | exact bI_f (fun h => h (Or.inr (Or.inr (Or.inr c_44)))) | exact bI_t (fun h => by rcases h with h | h | h | h; exact h b_14; exact h b_26; exact h b_39; exact c_44 h)) ls hl
    · have b_26 := bI_nz c_26
      refine lv_iload hx hb dX1_requireDrawing_29 (lv_at hl 4 rfl) ?_
      refine lv_i2l (v := dc.toInt64) hx hb dX1_requireDrawing_31 rfl ?_
      refine lv_lconst (v := 0) hx hb dX1_requireDrawing_32 rfl ?_
      refine lv_ldc2 (v := 255) hx hb hown (hts _ q1466) dX1_requireDrawing_33 ?_
      refine r_after (va_runS (As := [.long dc.toInt64, .long 0, .long 255]) (rest := []) (g := F0 m 36 ls [.long 255, .long 0, .long dc.toInt64]) C.fix (c_isBetween l D k dc.toInt64 0 255) (va_cwS 3 hts (lw_S q301 q302 q68 q303) rfl rfl rfl (by decide +kernel) ⟨Nat.le_of_ble_eq_true rfl, Nat.le_of_ble_eq_true rfl⟩) (preR hK trivial) rfl rfl hl.1 rfl (lv_room (Nat.le_of_ble_eq_true rfl)) dX1_requireDrawing_36 ⟨(by first | exact Nat.le_of_ble_eq_true rfl | omega | (dsimp only [Rm]; omega)), (by first | exact Nat.le_of_ble_eq_true rfl | omega | (dsimp only [Rm]; omega))⟩) ?_
      refine w_topi (y := bI (inR dc 0 255)) (congrArg bI (bet dc 0 255 (by decide) (by decide))) ?_
      refine lv_if_eq (tgt := 51) hx hb dX1_requireDrawing_39 (by decide) (fun c_39 => ?_) (fun c_39 => ?_)
      · have b_39 := bI_0.mp c_39
        refine lv_iconst (v := 0) hx hb dX1_requireDrawing_51 rfl ?_
        exact J_52 0 (by first | exact bI_f (fun h => h (Or.inl b_14)) | exact bI_f (fun h => h (Or.inr (Or.inl b_26))) | exact bI_f (fun h => h (Or.inr (Or.inr (Or.inl b_39)))) | exact bI_f (fun h => h (Or.inr (Or.inr (Or.inr c_44)))) | exact bI_t (fun h => by rcases h with h | h | h | h; exact h b_14; exact h b_26; exact h b_39; exact c_44 h)) ls hl
      · have b_39 := bI_nz c_39
        refine lv_iload hx hb dX1_requireDrawing_42 (lv_at hl 5 rfl) ?_
        refine lv_if_lt (tgt := 51) hx hb dX1_requireDrawing_44 (by decide) (fun c_44 => ?_) (fun c_44 => ?_)
        · refine lv_iconst (v := 0) hx hb dX1_requireDrawing_51 rfl ?_
          exact J_52 0 (by first | exact bI_f (fun h => h (Or.inl b_14)) | exact bI_f (fun h => h (Or.inr (Or.inl b_26))) | exact bI_f (fun h => h (Or.inr (Or.inr (Or.inl b_39)))) | exact bI_f (fun h => h (Or.inr (Or.inr (Or.inr c_44)))) | exact bI_t (fun h => by rcases h with h | h | h | h; exact h b_14; exact h b_26; exact h b_39; exact c_44 h)) ls hl
        · refine lv_iconst (v := 1) hx hb dX1_requireDrawing_47 rfl ?_
          refine lv_goto (tgt := 52) hx hb dX1_requireDrawing_48 (by decide) ?_
          exact J_52 1 (by first | exact bI_f (fun h => h (Or.inl b_14)) | exact bI_f (fun h => h (Or.inr (Or.inl b_26))) | exact bI_f (fun h => h (Or.inr (Or.inr (Or.inl b_39)))) | exact bI_f (fun h => h (Or.inr (Or.inr (Or.inr c_44)))) | exact bI_t (fun h => by rcases h with h | h | h | h; exact h b_14; exact h b_26; exact h b_39; exact c_44 h)) ls hl
section SEC2
variable {p : Program} {l : Launch} {e : Env} {R : Room} {s : State} {m : MethodId} {args : Array Value} {below : List Frame} {meth : Method} {c : Code} {H : Heap} {locs : List Loc} {cells slots : Nat} {Q : State → Prop} {pc : Nat} {ls : Array Slot} {rest : List Value}
theorem w_four {v1 v2 v3 : Value} {x y x' y' : Int32} (h : x = x') (h2 : y = y') (kk : W p l e R s m args below meth c H locs cells slots Q (F0 m pc ls (v1 :: v2 :: v3 :: .int y' :: .int x' :: rest))) : W p l e R s m args below meth c H locs cells slots Q (F0 m pc ls (v1 :: v2 :: v3 :: .int y :: .int x :: rest)) := h ▸ h2 ▸ kk
end SEC2
set_option maxHeartbeats 4000000 in
theorem c_Pcheck (l : Launch) (D : va_G) (k : Nat → ClassId) (g : Nat → Nat) (o bb dq : Nat) (bl eo : Int32) (z : Nat → Nat) (hf d : Nat → Int32) (hz : dkN g z hf d) (x y am dc ins : Int32) (htr : l.stackTraces = false) : oM l D k yX1_check cX1_check 6 (some .int) 9 192 6 20 [.ref o, .int x, .int y, .int am, .int dc, .int ins] (hKX (fun HH => va_P D clA [(o, .inr (1, [.ref bb, .ref dq, .ref (z 0), .int bl, .int eo]))] HH ∧ dk D k z hf d HH) g) (hasC d x ∧ ¬ wrong y am dc ins) (some (.int (faults d (ci x) (ci y) am dc ins))) (fun E => (¬ hasC d x ∧ E = "java/lang/IndexOutOfBoundsException") ∨ (hasC d x ∧ wrong y am dc ins ∧ E = "java/lang/IllegalArgumentException")) := by
  refine oM_of (by decide) (Nat.le_of_ble_eq_true rfl) ?_
  intro p e s m below meth c ls C hnt hK ⟨⟨hO, hdk⟩, hX⟩ hS hl
  have hP : va_P D clA [] s.heap := va_nil
  have hD : va_D (fun q => s.heap.size ≤ q) [] := va_D_nod.mpr ⟨List.nodup_nil, fun q h => by cases h⟩
  have hA : ∀ q, s.heap.size ≤ q → s.heap.size ≤ q := fun _ h => h
  have hAN : ∀ q, s.heap.size ≤ q → g 0 ≤ q := fun q h => Nat.le_trans hX.le h
  have hN : NW s := hX.nw
  obtain ⟨hx, hb, hr, hml, hown, hts, hlk⟩ := id C
  have hl : lv_has ls 6 [(0, .ref o), (1, .int x), (2, .int y), (3, .int am), (4, .int dc), (5, .int ins)] := hl
  have hF : va_P D clA [(o, .inr (1, [.ref bb, .ref dq, .ref (z 0), .int bl, .int eo])), (z 0, .inr (2, [.ref (z 1), .ref (z 3), .ref (z 6), .ref (z 9), .int (d 3)])), (z 1, .inr (3, [.ref (z 2), .int (d 2)])), (z 2, .inl (k 0, 16, .inl hf)), (z 3, .inr (4, [.ref (z 4), .int 12])), (z 4, .inr (12, [.int (nI (z 12)), .ref (z 5), .int (nI (dN d 0))])), (z 6, .inr (4, [.ref (z 7), .int 24])), (z 7, .inr (12, [.int (nI (z 13)), .ref (z 8), .int (nI (dN d 1))]))] s.heap := va_cons (hO 0 _ rfl) hdk.1
  have hd := hz.1
  have hh := hz.2.1
  have h10 := hz.2.2
  obtain ⟨h10, h10b, h11, h11b, -⟩ := h10
  have hd0 := hd.1.1.2
  have hd1 := hd.1.2.1.2
  refine lv_aload_n hx hb dX1_check_0 rfl (lv_at hl 0 rfl) ?_
  refine lv_iload_n hx hb dX1_check_1 rfl (lv_at hl 1 rfl) ?_
  refine lv_iload_n hx hb dX1_check_2 rfl (lv_at hl 2 rfl) ?_
  refine lv_iload_n hx hb dX1_check_3 rfl (lv_at hl 3 rfl) ?_
  refine lv_iload hx hb dX1_check_4 (lv_at hl 4 rfl) ?_
  refine lv_iload hx hb dX1_check_6 (lv_at hl 5 rfl) ?_
  refine o_after (vy_runV (As := [.int x, .int y, .int am, .int dc, .int ins]) (rest := []) (g := F0 m 8 ls [.int ins, .int dc, .int am, .int y, .int x, .ref o]) C.fix (c_reqDrawing l D k g o bb dq bl eo z hf d hz x y am dc ins htr) (cwV 5 hts (lw_V q1461 q1463 qs27 q68 q1464) rfl rfl rfl (by decide +kernel) ⟨Nat.le_of_ble_eq_true rfl, Nat.le_of_ble_eq_true rfl⟩) (preV mv2_hKX hK (va_recv hK (frzF hF hS) (ci := 1) (q0 := 0) rfl rfl) (fun U hU hW => (hKX_at hX hS hAN (⟨(frzF hO hS), (dk_frF hdk hS)⟩) hU hW))) rfl rfl hl.1 rfl (lv_room (Nat.le_of_ble_eq_true rfl)) dX1_check_8 ⟨(by first | exact Nat.le_of_ble_eq_true rfl | omega | (dsimp only [Rm]; omega)), (by first | exact Nat.le_of_ble_eq_true rfl | omega | (dsimp only [Rm]; omega))⟩) hS (fun E ce q9 H hth hS hk hce hcv hcl => o_out hnt hlk (hth) hS hce hcv hcl (by first | exact Nat.le_of_ble_eq_true rfl | omega | (dsimp only [Rm]; omega)) (by first | exact Nat.le_of_ble_eq_true rfl | omega | (dsimp only [Rm]; omega))) (fun H hp8 hS hsz hk => ?_)
  have hP : va_P D clA [] H := hP.kept (fun i q hi => hk q.1 ((hP i q hi).lt))
  have hD : va_D (fun q => s.heap.size ≤ q) [] := hD
  refine lv_aload_n hx hb dX1_check_11 rfl (lv_at hl 0 rfl) ?_
  refine va_get hx hb hts in_X1 hown hK (frzF hF hS) 0 rfl rfl 2 (by decide) (hts _ q221) (fun _ h => h) rfl dX1_check_12 ?_
  refine lv_iload_n hx hb dX1_check_15 rfl (lv_at hl 1 rfl) ?_
  refine lv_iload_n hx hb dX1_check_16 rfl (lv_at hl 2 rfl) ?_
  refine lv_iload_n hx hb dX1_check_17 rfl (lv_at hl 3 rfl) ?_
  refine lv_iload hx hb dX1_check_18 (lv_at hl 4 rfl) ?_
  refine lv_iload hx hb dX1_check_20 (lv_at hl 5 rfl) ?_
  obtain ⟨hcx, ecx⟩ := hasC_ci hd hp8.1
  obtain ⟨hcy, ecy⟩ := day_ci (Classical.not_not.mp (fun h => hp8.2 (Or.inl h)))
  refine w_four (x' := nI (ci x)) (y' := nI (ci y)) ecx ecy ?_
  refine g_after (va_runV (As := [.int (nI (ci x)), .int (nI (ci y)), .int am, .int dc, .int ins]) (rest := []) (g := F0 m 22 ls [.int ins, .int dc, .int am, .int (nI (ci y)), .int (nI (ci x)), .ref (z 0)]) C.fix (c_check l D k g z hf d hz (ci x) (ci y) am dc ins (by omega) (by omega)) (cwV 5 hts (lw_V q1467 q1468 q1469 q71 q1470) rfl rfl rfl (by decide +kernel) ⟨Nat.le_of_ble_eq_true rfl, Nat.le_of_ble_eq_true rfl⟩) (preV mv2_hKX hK (va_recv hK (frzF hF hS) (ci := 2) (q0 := 1) rfl rfl) (fun U hU hW => (hKX_at hX hS hAN (dk_frF hdk hS) hU hW))) rfl rfl hl.1 rfl (lv_room (Nat.le_of_ble_eq_true rfl)) dX1_check_22 ⟨(by first | exact Nat.le_of_ble_eq_true rfl | omega | (dsimp only [Rm]; omega)), (by first | exact Nat.le_of_ble_eq_true rfl | omega | (dsimp only [Rm]; omega))⟩) hS (fun H hS hsz hk => ?_)
  have hP : va_P D clA [] H := hP.kept (fun i q hi => hk q.1 ((hP i q hi).lt))
  have hD : va_D (fun q => s.heap.size ≤ q) [] := hD
  exact o_iret C hp8 rfl hS (by first | exact Nat.le_of_ble_eq_true rfl | omega | (dsimp only [Rm]; omega)) (by first | exact Nat.le_of_ble_eq_true rfl | omega | (dsimp only [Rm]; omega)) dX1_check_25
set_option maxHeartbeats 4000000 in
theorem c_hash (l : Launch) (D : va_G) (k : Nat → ClassId) (a b : Int64) : rM l D k yX1_hash cX1_hash 4 (some .long) 0 0 [.long a, .long b] (fun _ => True) (some (.long (31 * a + b))) := by
  refine rM_of (by decide) (Nat.le_of_ble_eq_true rfl) ?_
  intro p e s m below meth c ls C hK _ hl
  obtain ⟨hx, hb, hr, hml, hown, hts, hlk⟩ := id C
  have hl : lv_has ls 4 [(0, .long a), (2, .long b)] := hl
  refine lv_ldc2 (v := 31) hx hb hown (hts _ q341) dX1_hash_0 ?_
  refine lv_lload_n hx hb dX1_hash_3 rfl (lv_at hl 0 rfl) ?_
  refine lv_lmul hx hb dX1_hash_4 ?_
  refine lv_lload_n hx hb dX1_hash_5 rfl (lv_at hl 1 rfl) ?_
  refine lv_ladd hx hb dX1_hash_6 ?_
  exact r_lret C rfl dX1_hash_7
theorem due_ne {d : Nat → Int32} (hd : okD d) {q : Nat} (hq : q < dN d 1) : pf d q 4 = 2 ↔ ¬ due d q = -1 := by
  unfold due
  constructor
  · intro h
    rw [if_pos h]
    intro e
    obtain ⟨h0, h0b, h1, h3, h5⟩ := hd.2.2.2 q hq
    have h6 := (hd.2.2.1 _ h0b).2.2
    have h7 := (ext_spec hd (n := dN d (154 + 6 * q + 5) + dN d (22 + 11 * dN d (154 + 6 * q) + 6)) (by have := h5.2; have := h6.2; omega)).2.2.2
    have e2 := congrArg Int32.toInt e
    rw [nI_toInt (by have := h5.2; have := h6.2; omega), show (-1 : Int32).toInt = -1 by decide] at e2
    omega
  · intro h
    by_cases h2 : pf d q 4 = 2
    · exact h2
    · rw [if_neg h2] at h
      exact absurd rfl h
set_option maxHeartbeats 4000000 in
theorem c_PdueBetween (l : Launch) (D : va_G) (k : Nat → ClassId) (g : Nat → Nat) (o bb dq : Nat) (bl eo : Int32) (z : Nat → Nat) (hf d : Nat → Int32) (hz : dkN g z hf d) (x y : Int32) : sM l D k yX1_dueBetween cX1_dueBetween 7 (some .long) 4 85 [.ref o, .int x, .int y] (hKX (fun HH => va_P D clA [(o, .inr (1, [.ref bb, .ref dq, .ref (z 0), .int bl, .int eo]))] HH ∧ dk D k z hf d HH) g) (some (.long (dueB d x y))) := by
  refine sM_of (by decide) (Nat.le_of_ble_eq_true rfl) ?_
  intro p e s m below meth c ls C hK ⟨⟨hO, hdk⟩, hX⟩ hl
  have hS : va_S (G0 g) s.heap s.heap [] := va_S.rf
  have hAN : ∀ q, G0 g q → g 0 ≤ q := fun _ h => h
  have hN : NW s := hX.nw
  obtain ⟨hx, hb, hr, hml, hown, hts, hlk⟩ := id C
  have hl : lv_has ls 7 [(0, .ref o), (1, .int x), (2, .int y)] := hl
  have hF : va_P D clA [(o, .inr (1, [.ref bb, .ref dq, .ref (z 0), .int bl, .int eo])), (z 0, .inr (2, [.ref (z 1), .ref (z 3), .ref (z 6), .ref (z 9), .int (d 3)])), (z 1, .inr (3, [.ref (z 2), .int (d 2)])), (z 2, .inl (k 0, 16, .inl hf)), (z 3, .inr (4, [.ref (z 4), .int 12])), (z 4, .inr (12, [.int (nI (z 12)), .ref (z 5), .int (nI (dN d 0))])), (z 6, .inr (4, [.ref (z 7), .int 24])), (z 7, .inr (12, [.int (nI (z 13)), .ref (z 8), .int (nI (dN d 1))]))] s.heap := va_cons (hO 0 _ rfl) hdk.1
  have hd := hz.1
  have hh := hz.2.1
  have h10 := hz.2.2
  obtain ⟨h10, h10b, h11, h11b, -⟩ := h10
  have hd0 := hd.1.1.2
  have hd1 := hd.1.2.1.2
  refine lv_lconst (v := 0) hx hb dX1_dueBetween_0 rfl ?_
  refine lv_lstore_n (lv' := [(3, .long 0), (0, .ref o), (1, .int x), (2, .int y)]) hx hb dX1_dueBetween_1 rfl hl (by decide) rfl (fun ls hl => ?_)
  refine lv_iconst (v := 0) hx hb dX1_dueBetween_2 rfl ?_
  refine lv_istore (lv' := [(5, .int 0), (3, .long 0), (0, .ref o), (1, .int x), (2, .int y)]) hx hb dX1_dueBetween_3 hl (by decide) rfl (fun ls hl => ?_)
  have loop_5 : ∀ (n : Nat) (j : Nat), (j ≤ dN d 1) → (dN d 1 + 1 ≤ j + n) → ∀ (ls : Array Slot), lv_has ls 7 [(0, .ref o), (1, .int x), (2, .int y), (3, .long (sumL (fun q => pickL (¬ due d q = -1 ∧ x ≤ due d q ∧ due d q ≤ y) (pf d q 2).toInt64) j)), (5, .int (nI j))] → W p l e (Rm 4 85 0 0) s m ([.ref o, .int x, .int y] : List Value).toArray below meth c s.heap [] 0 0 (MQ below (rQ (some (.long (dueB d x y)))) ([.ref o, .int x, .int y] : List Value).toArray s 0 0 (fun _ => False)) (F0 m 5 ls []) := by
    intro n
    induction n with
    | zero =>
      intro j hj hn
      exact absurd hn (by omega)
    | succ n ih_5 =>
      intro j hj hn ls hl
      refine lv_iload hx hb dX1_dueBetween_5 (lv_at hl 4 rfl) ?_
      refine lv_aload_n hx hb dX1_dueBetween_7 rfl (lv_at hl 0 rfl) ?_
      refine va_get hx hb hts in_X1 hown hK hF 0 rfl rfl 2 (by decide) (hts _ q221) (fun _ h => h) rfl dX1_dueBetween_8 ?_
      refine va_getN hx hb hts in_X2 hown hK hF 1 rfl rfl 2 (by decide) ((hN _ q202 rfl).use rfl) (fun _ h => h) rfl dX1_dueBetween_11 ?_
      refine r_after (va_runV (As := []) (rest := [.int (nI j)]) (g := F0 m 14 ls [.ref (z 6), .int (nI j)]) C.fix (c_bookSize l D k g (z 6) (z 7) (z 8) (nI (z 13)) 24 (nI (dN d 1))) (cwV 0 hts (lw_V q251 q252 q253 q73 q254) rfl rfl rfl (by decide +kernel) ⟨Nat.le_of_ble_eq_true rfl, Nat.le_of_ble_eq_true rfl⟩) (preV mv2_hKX hK (va_recv hK hF (ci := 4) (q0 := 6) rfl rfl) (fun U hU hW => (hKX_at hX hS hAN (va_cons (hF 6 _ rfl) (va_cons (hF 7 _ rfl) va_nil)) hU hW))) rfl rfl hl.1 rfl (lv_room (Nat.le_of_ble_eq_true rfl)) dX1_dueBetween_14 ⟨(by first | exact Nat.le_of_ble_eq_true rfl | omega | (dsimp only [Rm]; omega)), (by first | exact Nat.le_of_ble_eq_true rfl | omega | (dsimp only [Rm]; omega))⟩) ?_
      refine lv_icmp_ge (tgt := 81) hx hb dX1_dueBetween_17 (by decide) (fun c_17 => ?_) (fun c_17 => ?_)
      · have g_17 := nI_le' c_17 (by omega) (by omega)
        refine lv_lload_n hx hb dX1_dueBetween_81 rfl (lv_at hl 3 rfl) ?_
        exact r_lret C (by rw [show j = dN d 1 by omega]; rfl) dX1_dueBetween_82
      · have g_17 := nI_nle' c_17 (by omega) (by omega)
        refine lv_aload_n hx hb dX1_dueBetween_20 rfl (lv_at hl 0 rfl) ?_
        refine va_get hx hb hts in_X1 hown hK hF 0 rfl rfl 2 (by decide) (hts _ q221) (fun _ h => h) rfl dX1_dueBetween_21 ?_
        refine va_getN hx hb hts in_X2 hown hK hF 1 rfl rfl 2 (by decide) ((hN _ q202 rfl).use rfl) (fun _ h => h) rfl dX1_dueBetween_24 ?_
        refine lv_iload hx hb dX1_dueBetween_27 (lv_at hl 4 rfl) ?_
        refine r_after (va_runV (As := [.int (nI j)]) (rest := []) (g := F0 m 29 ls [.int (nI j), .ref (z 6)]) C.fix (c_bookGet l D k g (z 6) 24 (z 7) (z 8) (nI (z 13)) (dN d 1) (z 11) j (z (32 + j)) _ (by omega) (by omega) (by omega) (rfs_at (by omega))) (cwV 1 hts (lw_V q277 q278 q279 q73 q280) rfl rfl rfl (by decide +kernel) ⟨Nat.le_of_ble_eq_true rfl, Nat.le_of_ble_eq_true rfl⟩) (preV mv2_hKX hK (va_recv hK hF (ci := 4) (q0 := 6) rfl rfl) (fun U hU hW => (hKX_at hX hS hAN (va_cons (hF 6 _ rfl) (va_cons (hF 7 _ rfl) (va_cons ((hdk.2.2.1 (by omega)) 0 _ rfl) va_nil))) hU hW))) rfl rfl hl.1 rfl (lv_room (Nat.le_of_ble_eq_true rfl)) dX1_dueBetween_29 ⟨(by first | exact Nat.le_of_ble_eq_true rfl | omega | (dsimp only [Rm]; omega)), (by first | exact Nat.le_of_ble_eq_true rfl | omega | (dsimp only [Rm]; omega))⟩) ?_
        refine va_castY hx hb hown (hts _ q300) (cast_self (hK.1 10 _ rfl)) (va_recv hK (hdk.2.2.2.2 j (by omega)) (ci := 10) (q0 := 0) rfl rfl) dX1_dueBetween_32 ?_
        refine lv_astore (lv' := [(6, .ref (z (32 + j))), (0, .ref o), (1, .int x), (2, .int y), (3, .long (sumL (fun q => pickL (¬ due d q = -1 ∧ x ≤ due d q ∧ due d q ≤ y) (pf d q 2).toInt64) j)), (5, .int (nI j))]) hx hb dX1_dueBetween_35 hl (by decide) rfl (fun ls hl => ?_)
        refine lv_lload_n hx hb dX1_dueBetween_37 rfl (lv_at hl 4 rfl) ?_
        refine lv_aload hx hb dX1_dueBetween_38 (lv_at hl 0 rfl) ?_
        refine va_getN hx hb hts in_X12 hown hK (hdk.2.2.2.2 j (by omega)) 0 rfl rfl 4 (by decide) ((hN _ q1556 rfl).use rfl) (fun _ h => h) rfl dX1_dueBetween_40 ?_
        refine lv_iconst (v := 2) hx hb dX1_dueBetween_43 rfl ?_
        have J_73 : ∀ (zz : Int64), (zz = pickL (¬ due d j = -1 ∧ x ≤ due d j ∧ due d j ≤ y) (pf d j 2).toInt64) → ∀ (ls : Array Slot), lv_has ls 7 [(0, .ref o), (1, .int x), (2, .int y), (3, .long (sumL (fun q => pickL (¬ due d q = -1 ∧ x ≤ due d q ∧ due d q ≤ y) (pf d q 2).toInt64) j)), (5, .int (nI j))] → W p l e (Rm 4 85 0 0) s m ([.ref o, .int x, .int y] : List Value).toArray below meth c s.heap [] 0 0 (MQ below (rQ (some (.long (dueB d x y)))) ([.ref o, .int x, .int y] : List Value).toArray s 0 0 (fun _ => False)) (F0 m 73 ls [.long zz, .long (sumL (fun q => pickL (¬ due d q = -1 ∧ x ≤ due d q ∧ due d q ≤ y) (pf d q 2).toInt64) j)]) := by
          intro zz h_zz ls hl
          refine lv_ladd hx hb dX1_dueBetween_73 ?_
          refine w_topl (y := sumL (fun q => pickL (¬ due d q = -1 ∧ x ≤ due d q ∧ due d q ≤ y) (pf d q 2).toInt64) (j + 1)) (by rw [h_zz]; rfl) ?_
          refine lv_lstore_n (lv' := [(3, .long (sumL (fun q => pickL (¬ due d q = -1 ∧ x ≤ due d q ∧ due d q ≤ y) (pf d q 2).toInt64) (j + 1))), (0, .ref o), (1, .int x), (2, .int y), (5, .int (nI j))]) hx hb dX1_dueBetween_74 rfl hl (by decide) rfl (fun ls hl => ?_)
          refine lv_iinc (v := nI (j + 1)) (lv' := [(5, .int (nI (j + 1))), (3, .long (sumL (fun q => pickL (¬ due d q = -1 ∧ x ≤ due d q ∧ due d q ≤ y) (pf d q 2).toInt64) (j + 1))), (0, .ref o), (1, .int x), (2, .int y)]) hx hb dX1_dueBetween_75 hl (k := 4) rfl (nI_1 j) (by decide) rfl (fun ls hl => ?_)
          refine lv_goto (tgt := 5) hx hb dX1_dueBetween_78 (by decide) ?_
          exact ih_5 (j + 1) (by omega) (by omega) ls (lv_sub hl [2, 3, 4, 1, 0] rfl)
        refine lv_icmp_ne (tgt := 72) hx hb dX1_dueBetween_44 (by decide) (fun c_44 => ?_) (fun c_44 => ?_)
        · refine lv_lconst (v := 0) hx hb dX1_dueBetween_72 rfl ?_
          have hl : lv_has ls 7 [(0, .ref o), (1, .int x), (2, .int y), (3, .long (sumL (fun q => pickL (¬ due d q = -1 ∧ x ≤ due d q ∧ due d q ≤ y) (pf d q 2).toInt64) j)), (5, .int (nI j))] := lv_sub hl [1, 2, 3, 4, 5] rfl
          exact J_73 0 (by first | exact (pickL_f (fun h => c_44 ((due_ne hd (by omega)).mpr h.1))).symm | exact (pickL_f (fun h => b_60 h.2)).symm | exact (pickL_t ⟨(due_ne hd (by omega)).mp c_44, b_60⟩).symm) ls hl
        · refine lv_aload hx hb dX1_dueBetween_47 (lv_at hl 0 rfl) ?_
          refine va_getN hx hb hts in_X12 hown hK (hdk.2.2.2.2 j (by omega)) 0 rfl rfl 5 (by decide) ((hN _ q1558 rfl).use rfl) (fun _ h => h) rfl dX1_dueBetween_49 ?_
          refine lv_i2l (v := (due d j).toInt64) hx hb dX1_dueBetween_52 rfl ?_
          refine lv_iload_n hx hb dX1_dueBetween_53 rfl (lv_at hl 2 rfl) ?_
          refine lv_i2l (v := x.toInt64) hx hb dX1_dueBetween_54 rfl ?_
          refine lv_iload_n hx hb dX1_dueBetween_55 rfl (lv_at hl 3 rfl) ?_
          refine lv_i2l (v := y.toInt64) hx hb dX1_dueBetween_56 rfl ?_
          refine r_after (va_runS (As := [.long ((due d j).toInt64), .long x.toInt64, .long y.toInt64]) (rest := [.long (sumL (fun q => pickL (¬ due d q = -1 ∧ x ≤ due d q ∧ due d q ≤ y) (pf d q 2).toInt64) j)]) (g := F0 m 57 ls [.long y.toInt64, .long x.toInt64, .long ((due d j).toInt64), .long (sumL (fun q => pickL (¬ due d q = -1 ∧ x ≤ due d q ∧ due d q ≤ y) (pf d q 2).toInt64) j)]) C.fix (c_isBetween l D k ((due d j).toInt64) x.toInt64 y.toInt64) (va_cwS 3 hts (lw_S q301 q302 q68 q303) rfl rfl rfl (by decide +kernel) ⟨Nat.le_of_ble_eq_true rfl, Nat.le_of_ble_eq_true rfl⟩) (preR hK trivial) rfl rfl hl.1 rfl (lv_room (Nat.le_of_ble_eq_true rfl)) dX1_dueBetween_57 ⟨(by first | exact Nat.le_of_ble_eq_true rfl | omega | (dsimp only [Rm]; omega)), (by first | exact Nat.le_of_ble_eq_true rfl | omega | (dsimp only [Rm]; omega))⟩) ?_
          refine w_topi (y := bI (inR (due d j) x y)) (congrArg bI (bet (due d j) x y rfl rfl)) ?_
          refine lv_if_eq (tgt := 72) hx hb dX1_dueBetween_60 (by decide) (fun c_60 => ?_) (fun c_60 => ?_)
          · have b_60 := bI_0.mp c_60
            refine lv_lconst (v := 0) hx hb dX1_dueBetween_72 rfl ?_
            have hl : lv_has ls 7 [(0, .ref o), (1, .int x), (2, .int y), (3, .long (sumL (fun q => pickL (¬ due d q = -1 ∧ x ≤ due d q ∧ due d q ≤ y) (pf d q 2).toInt64) j)), (5, .int (nI j))] := lv_sub hl [1, 2, 3, 4, 5] rfl
            exact J_73 0 (by first | exact (pickL_f (fun h => c_44 ((due_ne hd (by omega)).mpr h.1))).symm | exact (pickL_f (fun h => b_60 h.2)).symm | exact (pickL_t ⟨(due_ne hd (by omega)).mp c_44, b_60⟩).symm) ls hl
          · have b_60 := bI_nz c_60
            refine lv_aload hx hb dX1_dueBetween_63 (lv_at hl 0 rfl) ?_
            refine va_getN hx hb hts in_X12 hown hK (hdk.2.2.2.2 j (by omega)) 0 rfl rfl 2 (by decide) ((hN _ q1550 rfl).use rfl) (fun _ h => h) rfl dX1_dueBetween_65 ?_
            refine lv_i2l (v := (pf d j 2).toInt64) hx hb dX1_dueBetween_68 rfl ?_
            refine lv_goto (tgt := 73) hx hb dX1_dueBetween_69 (by decide) ?_
            have hl : lv_has ls 7 [(0, .ref o), (1, .int x), (2, .int y), (3, .long (sumL (fun q => pickL (¬ due d q = -1 ∧ x ≤ due d q ∧ due d q ≤ y) (pf d q 2).toInt64) j)), (5, .int (nI j))] := lv_sub hl [1, 2, 3, 4, 5] rfl
            exact J_73 ((pf d j 2).toInt64) (by first | exact (pickL_f (fun h => c_44 ((due_ne hd (by omega)).mpr h.1))).symm | exact (pickL_f (fun h => b_60 h.2)).symm | exact (pickL_t ⟨(due_ne hd (by omega)).mp c_44, b_60⟩).symm) ls hl
  exact loop_5 (dN d 1 + 1) 0 (Nat.zero_le _) (by omega) ls (lv_sub hl [2, 3, 4, 1, 0] rfl)
set_option maxHeartbeats 4000000 in
theorem c_Pchecksum (l : Launch) (D : va_G) (k : Nat → ClassId) (g : Nat → Nat) (o bb dq : Nat) (bl eo : Int32) (z : Nat → Nat) (hf d : Nat → Int32) (hz : dkN g z hf d)  : sM l D k yX1_checksum cX1_checksum 5 (some .long) 6 130 [.ref o] (hKX (fun HH => va_P D clA [(o, .inr (1, [.ref bb, .ref dq, .ref (z 0), .int bl, .int eo]))] HH ∧ dk D k z hf d HH) g) (some (.long (ck2 d (dN d 1)))) := by
  refine sM_of (by decide) (Nat.le_of_ble_eq_true rfl) ?_
  intro p e s m below meth c ls C hK ⟨⟨hO, hdk⟩, hX⟩ hl
  have hS : va_S (G0 g) s.heap s.heap [] := va_S.rf
  have hAN : ∀ q, G0 g q → g 0 ≤ q := fun _ h => h
  have hN : NW s := hX.nw
  obtain ⟨hx, hb, hr, hml, hown, hts, hlk⟩ := id C
  have hl : lv_has ls 5 [(0, .ref o)] := hl
  have hF : va_P D clA [(o, .inr (1, [.ref bb, .ref dq, .ref (z 0), .int bl, .int eo])), (z 0, .inr (2, [.ref (z 1), .ref (z 3), .ref (z 6), .ref (z 9), .int (d 3)])), (z 1, .inr (3, [.ref (z 2), .int (d 2)])), (z 2, .inl (k 0, 16, .inl hf)), (z 3, .inr (4, [.ref (z 4), .int 12])), (z 4, .inr (12, [.int (nI (z 12)), .ref (z 5), .int (nI (dN d 0))])), (z 6, .inr (4, [.ref (z 7), .int 24])), (z 7, .inr (12, [.int (nI (z 13)), .ref (z 8), .int (nI (dN d 1))]))] s.heap := va_cons (hO 0 _ rfl) hdk.1
  have hd := hz.1
  have hh := hz.2.1
  have h10 := hz.2.2
  obtain ⟨h10, h10b, h11, h11b, -⟩ := h10
  have hd0 := hd.1.1.2
  have hd1 := hd.1.2.1.2
  refine lv_aload_n hx hb dX1_checksum_0 rfl (lv_at hl 0 rfl) ?_
  refine va_get hx hb hts in_X1 hown hK hF 0 rfl rfl 2 (by decide) (hts _ q221) (fun _ h => h) rfl dX1_checksum_1 ?_
  refine va_getN hx hb hts in_X2 hown hK hF 1 rfl rfl 4 (by decide) ((hN _ q206 rfl).use rfl) (fun _ h => h) rfl dX1_checksum_4 ?_
  refine lv_i2l (v := (d 3).toInt64) hx hb dX1_checksum_7 rfl ?_
  refine lv_lstore_n (lv' := [(1, .long ((d 3).toInt64)), (0, .ref o)]) hx hb dX1_checksum_8 rfl hl (by decide) rfl (fun ls hl => ?_)
  refine lv_iconst (v := 0) hx hb dX1_checksum_9 rfl ?_
  refine lv_istore_n (lv' := [(3, .int 0), (1, .long ((d 3).toInt64)), (0, .ref o)]) hx hb dX1_checksum_10 rfl hl (by decide) rfl (fun ls hl => ?_)
  have loop_11 : ∀ (n : Nat) (j : Nat), (j ≤ dN d 0) → (dN d 0 + 1 ≤ j + n) → ∀ (ls : Array Slot), lv_has ls 5 [(0, .ref o), (1, .long (ck1 d j)), (3, .int (nI j))] → W p l e (Rm 6 130 0 0) s m ([.ref o] : List Value).toArray below meth c s.heap [] 0 0 (MQ below (rQ (some (.long (ck2 d (dN d 1))))) ([.ref o] : List Value).toArray s 0 0 (fun _ => False)) (F0 m 11 ls []) := by
    intro n
    induction n with
    | zero =>
      intro j hj hn
      exact absurd hn (by omega)
    | succ n ih_11 =>
      intro j hj hn ls hl
      refine lv_iload_n hx hb dX1_checksum_11 rfl (lv_at hl 2 rfl) ?_
      refine lv_aload_n hx hb dX1_checksum_12 rfl (lv_at hl 0 rfl) ?_
      refine va_get hx hb hts in_X1 hown hK hF 0 rfl rfl 2 (by decide) (hts _ q221) (fun _ h => h) rfl dX1_checksum_13 ?_
      refine va_getN hx hb hts in_X2 hown hK hF 1 rfl rfl 1 (by decide) ((hN _ q199 rfl).use rfl) (fun _ h => h) rfl dX1_checksum_16 ?_
      refine r_after (va_runV (As := []) (rest := [.int (nI j)]) (g := F0 m 19 ls [.ref (z 3), .int (nI j)]) C.fix (c_bookSize l D k g (z 3) (z 4) (z 5) (nI (z 12)) 12 (nI (dN d 0))) (cwV 0 hts (lw_V q251 q252 q253 q73 q254) rfl rfl rfl (by decide +kernel) ⟨Nat.le_of_ble_eq_true rfl, Nat.le_of_ble_eq_true rfl⟩) (preV mv2_hKX hK (va_recv hK hF (ci := 4) (q0 := 4) rfl rfl) (fun U hU hW => (hKX_at hX hS hAN (va_cons (hF 4 _ rfl) (va_cons (hF 5 _ rfl) va_nil)) hU hW))) rfl rfl hl.1 rfl (lv_room (Nat.le_of_ble_eq_true rfl)) dX1_checksum_19 ⟨(by first | exact Nat.le_of_ble_eq_true rfl | omega | (dsimp only [Rm]; omega)), (by first | exact Nat.le_of_ble_eq_true rfl | omega | (dsimp only [Rm]; omega))⟩) ?_
      refine lv_icmp_ge (tgt := 78) hx hb dX1_checksum_22 (by decide) (fun c_22 => ?_) (fun c_22 => ?_)
      · have g_22 := nI_le' c_22 (by omega) (by omega)
        obtain rfl : j = dN d 0 := by omega
        have hl : lv_has ls 5 [(0, .ref o), (1, .long (ck2 d 0))] := lv_sub hl [0, 1] rfl
        refine lv_iconst (v := 0) hx hb dX1_checksum_78 rfl ?_
        refine lv_istore_n (lv' := [(3, .int 0), (0, .ref o), (1, .long (ck2 d 0))]) hx hb dX1_checksum_79 rfl hl (by decide) rfl (fun ls hl => ?_)
        have loop_80 : ∀ (n : Nat) (j : Nat), (j ≤ dN d 1) → (dN d 1 + 1 ≤ j + n) → ∀ (ls : Array Slot), lv_has ls 5 [(0, .ref o), (1, .long (ck2 d j)), (3, .int (nI j))] → W p l e (Rm 6 130 0 0) s m ([.ref o] : List Value).toArray below meth c s.heap [] 0 0 (MQ below (rQ (some (.long (ck2 d (dN d 1))))) ([.ref o] : List Value).toArray s 0 0 (fun _ => False)) (F0 m 80 ls []) := by
          intro n
          induction n with
          | zero =>
            intro j hj hn
            exact absurd hn (by omega)
          | succ n ih_80 =>
            intro j hj hn ls hl
            refine lv_iload_n hx hb dX1_checksum_80 rfl (lv_at hl 2 rfl) ?_
            refine lv_aload_n hx hb dX1_checksum_81 rfl (lv_at hl 0 rfl) ?_
            refine va_get hx hb hts in_X1 hown hK hF 0 rfl rfl 2 (by decide) (hts _ q221) (fun _ h => h) rfl dX1_checksum_82 ?_
            refine va_getN hx hb hts in_X2 hown hK hF 1 rfl rfl 2 (by decide) ((hN _ q202 rfl).use rfl) (fun _ h => h) rfl dX1_checksum_85 ?_
            refine r_after (va_runV (As := []) (rest := [.int (nI j)]) (g := F0 m 88 ls [.ref (z 6), .int (nI j)]) C.fix (c_bookSize l D k g (z 6) (z 7) (z 8) (nI (z 13)) 24 (nI (dN d 1))) (cwV 0 hts (lw_V q251 q252 q253 q73 q254) rfl rfl rfl (by decide +kernel) ⟨Nat.le_of_ble_eq_true rfl, Nat.le_of_ble_eq_true rfl⟩) (preV mv2_hKX hK (va_recv hK hF (ci := 4) (q0 := 6) rfl rfl) (fun U hU hW => (hKX_at hX hS hAN (va_cons (hF 6 _ rfl) (va_cons (hF 7 _ rfl) va_nil)) hU hW))) rfl rfl hl.1 rfl (lv_room (Nat.le_of_ble_eq_true rfl)) dX1_checksum_88 ⟨(by first | exact Nat.le_of_ble_eq_true rfl | omega | (dsimp only [Rm]; omega)), (by first | exact Nat.le_of_ble_eq_true rfl | omega | (dsimp only [Rm]; omega))⟩) ?_
            refine lv_icmp_ge (tgt := 154) hx hb dX1_checksum_91 (by decide) (fun c_91 => ?_) (fun c_91 => ?_)
            · have g_91 := nI_le' c_91 (by omega) (by omega)
              refine lv_lload_n hx hb dX1_checksum_154 rfl (lv_at hl 1 rfl) ?_
              exact r_lret C (by rw [show j = dN d 1 by omega]) dX1_checksum_155
            · have g_91 := nI_nle' c_91 (by omega) (by omega)
              refine lv_aload_n hx hb dX1_checksum_94 rfl (lv_at hl 0 rfl) ?_
              refine va_get hx hb hts in_X1 hown hK hF 0 rfl rfl 2 (by decide) (hts _ q221) (fun _ h => h) rfl dX1_checksum_95 ?_
              refine va_getN hx hb hts in_X2 hown hK hF 1 rfl rfl 2 (by decide) ((hN _ q202 rfl).use rfl) (fun _ h => h) rfl dX1_checksum_98 ?_
              refine lv_iload_n hx hb dX1_checksum_101 rfl (lv_at hl 2 rfl) ?_
              refine r_after (va_runV (As := [.int (nI j)]) (rest := []) (g := F0 m 102 ls [.int (nI j), .ref (z 6)]) C.fix (c_bookGet l D k g (z 6) 24 (z 7) (z 8) (nI (z 13)) (dN d 1) (z 11) j (z (32 + j)) _ (by omega) (by omega) (by omega) (rfs_at (by omega))) (cwV 1 hts (lw_V q277 q278 q279 q73 q280) rfl rfl rfl (by decide +kernel) ⟨Nat.le_of_ble_eq_true rfl, Nat.le_of_ble_eq_true rfl⟩) (preV mv2_hKX hK (va_recv hK hF (ci := 4) (q0 := 6) rfl rfl) (fun U hU hW => (hKX_at hX hS hAN (va_cons (hF 6 _ rfl) (va_cons (hF 7 _ rfl) (va_cons ((hdk.2.2.1 (by omega)) 0 _ rfl) va_nil))) hU hW))) rfl rfl hl.1 rfl (lv_room (Nat.le_of_ble_eq_true rfl)) dX1_checksum_102 ⟨(by first | exact Nat.le_of_ble_eq_true rfl | omega | (dsimp only [Rm]; omega)), (by first | exact Nat.le_of_ble_eq_true rfl | omega | (dsimp only [Rm]; omega))⟩) ?_
              refine va_castY hx hb hown (hts _ q300) (cast_self (hK.1 10 _ rfl)) (va_recv hK (hdk.2.2.2.2 j (by omega)) (ci := 10) (q0 := 0) rfl rfl) dX1_checksum_105 ?_
              refine lv_astore (lv' := [(4, .ref (z (32 + j))), (0, .ref o), (1, .long (ck2 d j)), (3, .int (nI j))]) hx hb dX1_checksum_108 hl (by decide) rfl (fun ls hl => ?_)
              refine lv_lload_n hx hb dX1_checksum_110 rfl (lv_at hl 2 rfl) ?_
              refine lv_aload hx hb dX1_checksum_111 (lv_at hl 0 rfl) ?_
              refine va_getN hx hb hts in_X12 hown hK (hdk.2.2.2.2 j (by omega)) 0 rfl rfl 0 (by decide) ((hN _ q1545 rfl).use rfl) (fun _ h => h) rfl dX1_checksum_113 ?_
              refine lv_i2l (v := (pf d j 0).toInt64) hx hb dX1_checksum_116 rfl ?_
              refine r_after (va_runS (As := [.long (ck2 d j), .long ((pf d j 0).toInt64)]) (rest := []) (g := F0 m 117 ls [.long ((pf d j 0).toInt64), .long (ck2 d j)]) C.fix (c_hash l D k (ck2 d j) ((pf d j 0).toInt64)) (va_cwS 2 hts (lw_S q338 q339 q68 q340) rfl rfl rfl (by decide +kernel) ⟨Nat.le_of_ble_eq_true rfl, Nat.le_of_ble_eq_true rfl⟩) (preR hK trivial) rfl rfl hl.1 rfl (lv_room (Nat.le_of_ble_eq_true rfl)) dX1_checksum_117 ⟨(by first | exact Nat.le_of_ble_eq_true rfl | omega | (dsimp only [Rm]; omega)), (by first | exact Nat.le_of_ble_eq_true rfl | omega | (dsimp only [Rm]; omega))⟩) ?_
              refine lv_aload hx hb dX1_checksum_120 (lv_at hl 0 rfl) ?_
              refine va_getN hx hb hts in_X12 hown hK (hdk.2.2.2.2 j (by omega)) 0 rfl rfl 4 (by decide) ((hN _ q1556 rfl).use rfl) (fun _ h => h) rfl dX1_checksum_122 ?_
              refine lv_i2l (v := (pf d j 4).toInt64) hx hb dX1_checksum_125 rfl ?_
              refine r_after (va_runS (As := [.long (31 * (ck2 d j) + ((pf d j 0).toInt64)), .long ((pf d j 4).toInt64)]) (rest := []) (g := F0 m 126 ls [.long ((pf d j 4).toInt64), .long (31 * (ck2 d j) + ((pf d j 0).toInt64))]) C.fix (c_hash l D k (31 * (ck2 d j) + ((pf d j 0).toInt64)) ((pf d j 4).toInt64)) (va_cwS 2 hts (lw_S q338 q339 q68 q340) rfl rfl rfl (by decide +kernel) ⟨Nat.le_of_ble_eq_true rfl, Nat.le_of_ble_eq_true rfl⟩) (preR hK trivial) rfl rfl hl.1 rfl (lv_room (Nat.le_of_ble_eq_true rfl)) dX1_checksum_126 ⟨(by first | exact Nat.le_of_ble_eq_true rfl | omega | (dsimp only [Rm]; omega)), (by first | exact Nat.le_of_ble_eq_true rfl | omega | (dsimp only [Rm]; omega))⟩) ?_
              refine lv_aload hx hb dX1_checksum_129 (lv_at hl 0 rfl) ?_
              refine va_getN hx hb hts in_X12 hown hK (hdk.2.2.2.2 j (by omega)) 0 rfl rfl 3 (by decide) ((hN _ q1553 rfl).use rfl) (fun _ h => h) rfl dX1_checksum_131 ?_
              refine lv_i2l (v := (pf d j 3).toInt64) hx hb dX1_checksum_134 rfl ?_
              refine r_after (va_runS (As := [.long (31 * (31 * (ck2 d j) + ((pf d j 0).toInt64)) + ((pf d j 4).toInt64)), .long ((pf d j 3).toInt64)]) (rest := []) (g := F0 m 135 ls [.long ((pf d j 3).toInt64), .long (31 * (31 * (ck2 d j) + ((pf d j 0).toInt64)) + ((pf d j 4).toInt64))]) C.fix (c_hash l D k (31 * (31 * (ck2 d j) + ((pf d j 0).toInt64)) + ((pf d j 4).toInt64)) ((pf d j 3).toInt64)) (va_cwS 2 hts (lw_S q338 q339 q68 q340) rfl rfl rfl (by decide +kernel) ⟨Nat.le_of_ble_eq_true rfl, Nat.le_of_ble_eq_true rfl⟩) (preR hK trivial) rfl rfl hl.1 rfl (lv_room (Nat.le_of_ble_eq_true rfl)) dX1_checksum_135 ⟨(by first | exact Nat.le_of_ble_eq_true rfl | omega | (dsimp only [Rm]; omega)), (by first | exact Nat.le_of_ble_eq_true rfl | omega | (dsimp only [Rm]; omega))⟩) ?_
              refine lv_aload hx hb dX1_checksum_138 (lv_at hl 0 rfl) ?_
              refine va_getN hx hb hts in_X12 hown hK (hdk.2.2.2.2 j (by omega)) 0 rfl rfl 5 (by decide) ((hN _ q1558 rfl).use rfl) (fun _ h => h) rfl dX1_checksum_140 ?_
              refine lv_i2l (v := (due d j).toInt64) hx hb dX1_checksum_143 rfl ?_
              refine r_after (va_runS (As := [.long (31 * (31 * (31 * (ck2 d j) + ((pf d j 0).toInt64)) + ((pf d j 4).toInt64)) + ((pf d j 3).toInt64)), .long ((due d j).toInt64)]) (rest := []) (g := F0 m 144 ls [.long ((due d j).toInt64), .long (31 * (31 * (31 * (ck2 d j) + ((pf d j 0).toInt64)) + ((pf d j 4).toInt64)) + ((pf d j 3).toInt64))]) C.fix (c_hash l D k (31 * (31 * (31 * (ck2 d j) + ((pf d j 0).toInt64)) + ((pf d j 4).toInt64)) + ((pf d j 3).toInt64)) ((due d j).toInt64)) (va_cwS 2 hts (lw_S q338 q339 q68 q340) rfl rfl rfl (by decide +kernel) ⟨Nat.le_of_ble_eq_true rfl, Nat.le_of_ble_eq_true rfl⟩) (preR hK trivial) rfl rfl hl.1 rfl (lv_room (Nat.le_of_ble_eq_true rfl)) dX1_checksum_144 ⟨(by first | exact Nat.le_of_ble_eq_true rfl | omega | (dsimp only [Rm]; omega)), (by first | exact Nat.le_of_ble_eq_true rfl | omega | (dsimp only [Rm]; omega))⟩) ?_
              refine w_topl (y := ck2 d (j + 1)) rfl ?_
              refine lv_lstore_n (lv' := [(1, .long (ck2 d (j + 1))), (4, .ref (z (32 + j))), (0, .ref o), (3, .int (nI j))]) hx hb dX1_checksum_147 rfl hl (by decide) rfl (fun ls hl => ?_)
              refine lv_iinc (v := nI (j + 1)) (lv' := [(3, .int (nI (j + 1))), (1, .long (ck2 d (j + 1))), (4, .ref (z (32 + j))), (0, .ref o)]) hx hb dX1_checksum_148 hl (k := 3) rfl (nI_1 j) (by decide) rfl (fun ls hl => ?_)
              refine lv_goto (tgt := 80) hx hb dX1_checksum_151 (by decide) ?_
              exact ih_80 (j + 1) (by omega) (by omega) ls (lv_sub hl [3, 1, 0] rfl)
        exact loop_80 (dN d 1 + 1) 0 (Nat.zero_le _) (by omega) ls (lv_sub hl [1, 2, 0] rfl)
      · have g_22 := nI_nle' c_22 (by omega) (by omega)
        refine lv_lload_n hx hb dX1_checksum_25 rfl (lv_at hl 1 rfl) ?_
        refine lv_aload_n hx hb dX1_checksum_26 rfl (lv_at hl 0 rfl) ?_
        refine va_get hx hb hts in_X1 hown hK hF 0 rfl rfl 2 (by decide) (hts _ q221) (fun _ h => h) rfl dX1_checksum_27 ?_
        refine va_getN hx hb hts in_X2 hown hK hF 1 rfl rfl 1 (by decide) ((hN _ q199 rfl).use rfl) (fun _ h => h) rfl dX1_checksum_30 ?_
        refine lv_iload_n hx hb dX1_checksum_33 rfl (lv_at hl 2 rfl) ?_
        refine r_after (va_runV (As := [.int (nI j)]) (rest := [.long (ck1 d j)]) (g := F0 m 34 ls [.int (nI j), .ref (z 3), .long (ck1 d j)]) C.fix (c_bookGet l D k g (z 3) 12 (z 4) (z 5) (nI (z 12)) (dN d 0) (z 10) j (z (16 + j)) _ (by omega) (by omega) (by omega) (rfs_at (by omega))) (cwV 1 hts (lw_V q277 q278 q279 q73 q280) rfl rfl rfl (by decide +kernel) ⟨Nat.le_of_ble_eq_true rfl, Nat.le_of_ble_eq_true rfl⟩) (preV mv2_hKX hK (va_recv hK hF (ci := 4) (q0 := 4) rfl rfl) (fun U hU hW => (hKX_at hX hS hAN (va_cons (hF 4 _ rfl) (va_cons (hF 5 _ rfl) (va_cons ((hdk.2.1 (by omega)) 0 _ rfl) va_nil))) hU hW))) rfl rfl hl.1 rfl (lv_room (Nat.le_of_ble_eq_true rfl)) dX1_checksum_34 ⟨(by first | exact Nat.le_of_ble_eq_true rfl | omega | (dsimp only [Rm]; omega)), (by first | exact Nat.le_of_ble_eq_true rfl | omega | (dsimp only [Rm]; omega))⟩) ?_
        refine va_castY hx hb hown (hts _ q337) (cast_self (hK.1 8 _ rfl)) (va_recv hK (hdk.2.2.2.1 j (by omega)) (ci := 8) (q0 := 0) rfl rfl) dX1_checksum_37 ?_
        refine va_getN hx hb hts in_X10 hown hK (hdk.2.2.2.1 j (by omega)) 0 rfl rfl 0 (by decide) ((hN _ q964 rfl).use rfl) (fun _ h => h) rfl dX1_checksum_40 ?_
        refine lv_i2l (v := (cf d j 10).toInt64) hx hb dX1_checksum_43 rfl ?_
        refine r_after (va_runS (As := [.long (ck1 d j), .long ((cf d j 10).toInt64)]) (rest := []) (g := F0 m 44 ls [.long ((cf d j 10).toInt64), .long (ck1 d j)]) C.fix (c_hash l D k (ck1 d j) ((cf d j 10).toInt64)) (va_cwS 2 hts (lw_S q338 q339 q68 q340) rfl rfl rfl (by decide +kernel) ⟨Nat.le_of_ble_eq_true rfl, Nat.le_of_ble_eq_true rfl⟩) (preR hK trivial) rfl rfl hl.1 rfl (lv_room (Nat.le_of_ble_eq_true rfl)) dX1_checksum_44 ⟨(by first | exact Nat.le_of_ble_eq_true rfl | omega | (dsimp only [Rm]; omega)), (by first | exact Nat.le_of_ble_eq_true rfl | omega | (dsimp only [Rm]; omega))⟩) ?_
        refine lv_aload_n hx hb dX1_checksum_47 rfl (lv_at hl 0 rfl) ?_
        refine va_get hx hb hts in_X1 hown hK hF 0 rfl rfl 2 (by decide) (hts _ q221) (fun _ h => h) rfl dX1_checksum_48 ?_
        refine lv_iload_n hx hb dX1_checksum_51 rfl (lv_at hl 2 rfl) ?_
        refine r_after (va_runV (As := [.int (nI j)]) (rest := [.long (31 * (ck1 d j) + ((cf d j 10).toInt64))]) (g := F0 m 52 ls [.int (nI j), .ref (z 0), .long (31 * (ck1 d j) + ((cf d j 10).toInt64))]) C.fix (c_drawn l D k g z hf d hz (nI j)) (cwV 1 hts (lw_V q342 q343 q344 q71 q345) rfl rfl rfl (by decide +kernel) ⟨Nat.le_of_ble_eq_true rfl, Nat.le_of_ble_eq_true rfl⟩) (preV mv2_hKX hK (va_recv hK hF (ci := 2) (q0 := 1) rfl rfl) (fun U hU hW => (hKX_at hX hS hAN hdk hU hW))) rfl rfl hl.1 rfl (lv_room (Nat.le_of_ble_eq_true rfl)) dX1_checksum_52 ⟨(by first | exact Nat.le_of_ble_eq_true rfl | omega | (dsimp only [Rm]; omega)), (by first | exact Nat.le_of_ble_eq_true rfl | omega | (dsimp only [Rm]; omega))⟩) ?_
        refine lv_i2l (v := (drawn d (nI j)).toInt64) hx hb dX1_checksum_55 rfl ?_
        refine r_after (va_runS (As := [.long (31 * (ck1 d j) + ((cf d j 10).toInt64)), .long ((drawn d (nI j)).toInt64)]) (rest := []) (g := F0 m 56 ls [.long ((drawn d (nI j)).toInt64), .long (31 * (ck1 d j) + ((cf d j 10).toInt64))]) C.fix (c_hash l D k (31 * (ck1 d j) + ((cf d j 10).toInt64)) ((drawn d (nI j)).toInt64)) (va_cwS 2 hts (lw_S q338 q339 q68 q340) rfl rfl rfl (by decide +kernel) ⟨Nat.le_of_ble_eq_true rfl, Nat.le_of_ble_eq_true rfl⟩) (preR hK trivial) rfl rfl hl.1 rfl (lv_room (Nat.le_of_ble_eq_true rfl)) dX1_checksum_56 ⟨(by first | exact Nat.le_of_ble_eq_true rfl | omega | (dsimp only [Rm]; omega)), (by first | exact Nat.le_of_ble_eq_true rfl | omega | (dsimp only [Rm]; omega))⟩) ?_
        refine lv_aload_n hx hb dX1_checksum_59 rfl (lv_at hl 0 rfl) ?_
        refine va_get hx hb hts in_X1 hown hK hF 0 rfl rfl 2 (by decide) (hts _ q221) (fun _ h => h) rfl dX1_checksum_60 ?_
        refine lv_iload_n hx hb dX1_checksum_63 rfl (lv_at hl 2 rfl) ?_
        refine r_after (va_runV (As := [.int (nI j)]) (rest := [.long (31 * (31 * (ck1 d j) + ((cf d j 10).toInt64)) + ((drawn d (nI j)).toInt64))]) (g := F0 m 64 ls [.int (nI j), .ref (z 0), .long (31 * (31 * (ck1 d j) + ((cf d j 10).toInt64)) + ((drawn d (nI j)).toInt64))]) C.fix (c_available l D k g z hf d hz j (by omega)) (cwV 1 hts (lw_V q357 q358 q359 q71 q360) rfl rfl rfl (by decide +kernel) ⟨Nat.le_of_ble_eq_true rfl, Nat.le_of_ble_eq_true rfl⟩) (preV mv2_hKX hK (va_recv hK hF (ci := 2) (q0 := 1) rfl rfl) (fun U hU hW => (hKX_at hX hS hAN hdk hU hW))) rfl rfl hl.1 rfl (lv_room (Nat.le_of_ble_eq_true rfl)) dX1_checksum_64 ⟨(by first | exact Nat.le_of_ble_eq_true rfl | omega | (dsimp only [Rm]; omega)), (by first | exact Nat.le_of_ble_eq_true rfl | omega | (dsimp only [Rm]; omega))⟩) ?_
        refine lv_i2l (v := (avail d j).toInt64) hx hb dX1_checksum_67 rfl ?_
        refine r_after (va_runS (As := [.long (31 * (31 * (ck1 d j) + ((cf d j 10).toInt64)) + ((drawn d (nI j)).toInt64)), .long ((avail d j).toInt64)]) (rest := []) (g := F0 m 68 ls [.long ((avail d j).toInt64), .long (31 * (31 * (ck1 d j) + ((cf d j 10).toInt64)) + ((drawn d (nI j)).toInt64))]) C.fix (c_hash l D k (31 * (31 * (ck1 d j) + ((cf d j 10).toInt64)) + ((drawn d (nI j)).toInt64)) ((avail d j).toInt64)) (va_cwS 2 hts (lw_S q338 q339 q68 q340) rfl rfl rfl (by decide +kernel) ⟨Nat.le_of_ble_eq_true rfl, Nat.le_of_ble_eq_true rfl⟩) (preR hK trivial) rfl rfl hl.1 rfl (lv_room (Nat.le_of_ble_eq_true rfl)) dX1_checksum_68 ⟨(by first | exact Nat.le_of_ble_eq_true rfl | omega | (dsimp only [Rm]; omega)), (by first | exact Nat.le_of_ble_eq_true rfl | omega | (dsimp only [Rm]; omega))⟩) ?_
        refine w_topl (y := ck1 d (j + 1)) rfl ?_
        refine lv_lstore_n (lv' := [(1, .long (ck1 d (j + 1))), (0, .ref o), (3, .int (nI j))]) hx hb dX1_checksum_71 rfl hl (by decide) rfl (fun ls hl => ?_)
        refine lv_iinc (v := nI (j + 1)) (lv' := [(3, .int (nI (j + 1))), (1, .long (ck1 d (j + 1))), (0, .ref o)]) hx hb dX1_checksum_72 hl (k := 2) rfl (nI_1 j) (by decide) rfl (fun ls hl => ?_)
        refine lv_goto (tgt := 11) hx hb dX1_checksum_75 (by decide) ?_
        exact ih_11 (j + 1) (by omega) (by omega) ls (lv_sub hl [2, 1, 0] rfl)
  exact loop_11 (dN d 0 + 1) 0 (Nat.zero_le _) (by omega) ls (lv_sub hl [2, 1, 0] rfl)
