/-! the component: changes that are refused (printed by gen/m56.py) -/
set_option maxRecDepth 100000
set_option maxHeartbeats 4000000 in
theorem c_passX (l : Launch) (D : va_G) (k : Nat → ClassId) (g : Nat → Nat) (o bb dq : Nat) (bl eo : Int32) (z : Nat → Nat) (hf d : Nat → Int32) (hz : dkN g z hf d) (x : Int32) (hno : ¬ (inR x 1 365 ∧ ¬ 9000 < d 3 + x)) (htr : l.stackTraces = false) : oM l D k yX1_pass cX1_pass 2 (some .int) 7 120 4 24 [.ref o, .int x] (hKX (fun HH => va_P D clA [(o, .inr (1, [.ref bb, .ref dq, .ref (z 0), .int bl, .int eo]))] HH ∧ dk D k z hf d HH) g) False (some (.int 0)) (fun E => (¬ inR x 1 365 ∧ E = "java/lang/IllegalArgumentException") ∨ (inR x 1 365 ∧ 9000 < d 3 + x ∧ E = "java/lang/IllegalStateException")) := by
  refine oM_of (by decide) (Nat.le_of_ble_eq_true rfl) ?_
  intro p e s m below meth c ls C hnt hK ⟨⟨hO, hdk⟩, hX⟩ hS hl
  have hP : va_P D clA [] s.heap := va_nil
  have hD : va_D (fun q => s.heap.size ≤ q) [] := va_D_nod.mpr ⟨List.nodup_nil, fun q h => by cases h⟩
  have hA : ∀ q, s.heap.size ≤ q → s.heap.size ≤ q := fun _ h => h
  have hAN : ∀ q, s.heap.size ≤ q → g 0 ≤ q := fun q h => Nat.le_trans hX.le h
  have hN : NW s := hX.nw
  obtain ⟨hx, hb, hr, hml, hown, hts, hlk⟩ := id C
  have hl : lv_has ls 2 [(0, .ref o), (1, .int x)] := hl
  have hF : va_P D clA [(o, .inr (1, [.ref bb, .ref dq, .ref (z 0), .int bl, .int eo])), (z 0, .inr (2, [.ref (z 1), .ref (z 3), .ref (z 6), .ref (z 9), .int (d 3)])), (z 1, .inr (3, [.ref (z 2), .int (d 2)])), (z 2, .inl (k 0, 16, .inl hf)), (z 3, .inr (4, [.ref (z 4), .int 12])), (z 4, .inr (12, [.int (nI (z 12)), .ref (z 5), .int (nI (dN d 0))])), (z 6, .inr (4, [.ref (z 7), .int 24])), (z 7, .inr (12, [.int (nI (z 13)), .ref (z 8), .int (nI (dN d 1))]))] s.heap := va_cons (hO 0 _ rfl) hdk.1
  have hd := hz.1
  have hh := hz.2.1
  have h10 := hz.2.2
  obtain ⟨h10, h10b, h11, h11b, -⟩ := h10
  have hd0 := hd.1.1.2
  have hd1 := hd.1.2.1.2
  refine lv_iload_n hx hb dX1_pass_0 rfl (lv_at hl 1 rfl) ?_
  refine lv_i2l (v := x.toInt64) hx hb dX1_pass_1 rfl ?_
  refine lv_lconst (v := 1) hx hb dX1_pass_2 rfl ?_
  refine lv_ldc2 (v := 365) hx hb hown (hts _ q1653) dX1_pass_3 ?_
  refine r_after (va_runS (As := [.long x.toInt64, .long 1, .long 365]) (rest := []) (g := F0 m 6 ls [.long 365, .long 1, .long x.toInt64]) C.fix (c_isBetween l D k x.toInt64 1 365) (va_cwS 3 hts (lw_S q301 q302 q68 q303) rfl rfl rfl (by decide +kernel) ⟨Nat.le_of_ble_eq_true rfl, Nat.le_of_ble_eq_true rfl⟩) (preR hK trivial) rfl rfl hl.1 rfl (lv_room (Nat.le_of_ble_eq_true rfl)) dX1_pass_6 ⟨(by first | exact Nat.le_of_ble_eq_true rfl | omega | (dsimp only [Rm]; omega)), (by first | exact Nat.le_of_ble_eq_true rfl | omega | (dsimp only [Rm]; omega))⟩) ?_
  refine w_topi (y := bI (inR x 1 365)) (congrArg bI (bet x 1 365 (by decide) (by decide))) ?_
  refine o_after (vy_runS (As := [.int (bI (inR x 1 365))]) (rest := []) (g := F0 m 9 ls [.int (bI (inR x 1 365))]) C.fix (c_reqArg l D k g (inR x 1 365) htr) (va_cwS 1 hts (lw_S q381 q382 q68 q383) rfl rfl rfl (by decide +kernel) ⟨Nat.le_of_ble_eq_true rfl, Nat.le_of_ble_eq_true rfl⟩) (preS mv2_hKX hK (fun U hU hW => (hKX_at hX hS hAN trivial hU hW))) rfl rfl hl.1 rfl (lv_room (Nat.le_of_ble_eq_true rfl)) dX1_pass_9 ⟨(by first | exact Nat.le_of_ble_eq_true rfl | omega | (dsimp only [Rm]; omega)), (by first | exact Nat.le_of_ble_eq_true rfl | omega | (dsimp only [Rm]; omega))⟩) hS (fun E ce q9 H hth hS hk hce hcv hcl => o_out hnt hlk (Or.inl hth) hS hce hcv hcl (by first | exact Nat.le_of_ble_eq_true rfl | omega | (dsimp only [Rm]; omega)) (by first | exact Nat.le_of_ble_eq_true rfl | omega | (dsimp only [Rm]; omega))) (fun H hp9 hS hsz hk => ?_)
  have hP : va_P D clA [] H := hP.kept (fun i q hi => hk q.1 ((hP i q hi).lt))
  have hD : va_D (fun q => s.heap.size ≤ q) [] := hD
  refine lv_aload_n hx hb dX1_pass_12 rfl (lv_at hl 0 rfl) ?_
  refine va_get hx hb hts in_X1 hown hK (frzF hF hS) 0 rfl rfl 2 (by decide) (hts _ q221) (fun _ h => h) rfl dX1_pass_13 ?_
  refine va_getN hx hb hts in_X2 hown hK (frzF hF hS) 1 rfl rfl 4 (by decide) ((hN _ q206 rfl).use rfl) (fun _ h => h) rfl dX1_pass_16 ?_
  refine lv_iload_n hx hb dX1_pass_19 rfl (lv_at hl 1 rfl) ?_
  refine lv_iadd hx hb dX1_pass_20 ?_
  refine lv_sipush (v := 9000) hx hb dX1_pass_21 rfl ?_
  have J_32 : ∀ (zz : Int32), (zz = bI (¬ 9000 < d 3 + x)) → ∀ (ls : Array Slot), lv_has ls 2 [(0, .ref o), (1, .int x)] → W p l e (Rm 7 120 4 24) s m ([.ref o, .int x] : List Value).toArray below meth c H [] (0 + 0 + 1) (0 + 0 + 6) (vy_MQ below (oQ False (some (.int 0))) (oX (fun E => (¬ inR x 1 365 ∧ E = "java/lang/IllegalArgumentException") ∨ (inR x 1 365 ∧ 9000 < d 3 + x ∧ E = "java/lang/IllegalStateException"))) ([.ref o, .int x] : List Value).toArray s 4 24 (fun _ => False)) (F0 m 32 ls [.int zz]) := by
    intro zz h_zz ls hl
    refine w_topi (y := bI (¬ 9000 < d 3 + x)) h_zz ?_
    refine o_after (vy_runS (As := [.int (bI (¬ 9000 < d 3 + x))]) (rest := []) (g := F0 m 32 ls [.int (bI (¬ 9000 < d 3 + x))]) C.fix (c_reqState l D k g (¬ 9000 < d 3 + x) htr) (va_cwS 1 hts (lw_S q1514 q1515 q68 q1516) rfl rfl rfl (by decide +kernel) ⟨Nat.le_of_ble_eq_true rfl, Nat.le_of_ble_eq_true rfl⟩) (preS mv2_hKX hK (fun U hU hW => (hKX_at hX hS hAN trivial hU hW))) rfl rfl hl.1 rfl (lv_room (Nat.le_of_ble_eq_true rfl)) dX1_pass_32 ⟨(by first | exact Nat.le_of_ble_eq_true rfl | omega | (dsimp only [Rm]; omega)), (by first | exact Nat.le_of_ble_eq_true rfl | omega | (dsimp only [Rm]; omega))⟩) hS (fun E ce q9 H hth hS hk hce hcv hcl => o_out hnt hlk (Or.inr ⟨hp9, Classical.not_not.mp hth.1, hth.2⟩) hS hce hcv hcl (by first | exact Nat.le_of_ble_eq_true rfl | omega | (dsimp only [Rm]; omega)) (by first | exact Nat.le_of_ble_eq_true rfl | omega | (dsimp only [Rm]; omega))) (fun H hp32 hS hsz hk => ?_)
    have hP : va_P D clA [] H := hP.kept (fun i q hi => hk q.1 ((hP i q hi).lt))
    have hD : va_D (fun q => s.heap.size ≤ q) [] := hD
    exact absurd ⟨hp9, hp32⟩ hno
  refine lv_icmp_gt (tgt := 31) hx hb dX1_pass_24 (by decide) (fun c_24 => ?_) (fun c_24 => ?_)
  · refine lv_iconst (v := 0) hx hb dX1_pass_31 rfl ?_
    exact J_32 0 (by first | exact bI_f (fun h => h c_24) | exact bI_t c_24) ls hl
  · refine lv_iconst (v := 1) hx hb dX1_pass_27 rfl ?_
    refine lv_goto (tgt := 32) hx hb dX1_pass_28 (by decide) ?_
    exact J_32 1 (by first | exact bI_f (fun h => h c_24) | exact bI_t c_24) ls hl
set_option maxHeartbeats 4000000 in
theorem c_refuseX (l : Launch) (D : va_G) (k : Nat → ClassId) (g : Nat → Nat) (o bb dq : Nat) (bl eo : Int32) (z : Nat → Nat) (hf d : Nat → Int32) (hz : dkN g z hf d) (x : Int32) (hno : ¬ (hasP d x ∧ pf d (ci x) 4 = 1)) (htr : l.stackTraces = false) : oM l D k yX1_refuse cX1_refuse 4 (some .int) 8 142 4 24 [.ref o, .int x] (hKX (fun HH => va_P D clA [(o, .inr (1, [.ref bb, .ref dq, .ref (z 0), .int bl, .int eo]))] HH ∧ dk D k z hf d HH) g) False (some (.int 0)) (fun E => (¬ hasP d x ∧ E = "java/lang/IndexOutOfBoundsException") ∨ (hasP d x ∧ ¬ pf d (ci x) 4 = 1 ∧ E = "java/lang/IllegalStateException")) := by
  refine oM_of (by decide) (Nat.le_of_ble_eq_true rfl) ?_
  intro p e s m below meth c ls C hnt hK ⟨⟨hO, hdk⟩, hX⟩ hS hl
  have hP : va_P D clA [] s.heap := va_nil
  have hD : va_D (fun q => s.heap.size ≤ q) [] := va_D_nod.mpr ⟨List.nodup_nil, fun q h => by cases h⟩
  have hA : ∀ q, s.heap.size ≤ q → s.heap.size ≤ q := fun _ h => h
  have hAN : ∀ q, s.heap.size ≤ q → g 0 ≤ q := fun q h => Nat.le_trans hX.le h
  have hN : NW s := hX.nw
  obtain ⟨hx, hb, hr, hml, hown, hts, hlk⟩ := id C
  have hl : lv_has ls 4 [(0, .ref o), (1, .int x)] := hl
  have hF : va_P D clA [(o, .inr (1, [.ref bb, .ref dq, .ref (z 0), .int bl, .int eo])), (z 0, .inr (2, [.ref (z 1), .ref (z 3), .ref (z 6), .ref (z 9), .int (d 3)])), (z 1, .inr (3, [.ref (z 2), .int (d 2)])), (z 2, .inl (k 0, 16, .inl hf)), (z 3, .inr (4, [.ref (z 4), .int 12])), (z 4, .inr (12, [.int (nI (z 12)), .ref (z 5), .int (nI (dN d 0))])), (z 6, .inr (4, [.ref (z 7), .int 24])), (z 7, .inr (12, [.int (nI (z 13)), .ref (z 8), .int (nI (dN d 1))]))] s.heap := va_cons (hO 0 _ rfl) hdk.1
  have hd := hz.1
  have hh := hz.2.1
  have h10 := hz.2.2
  obtain ⟨h10, h10b, h11, h11b, -⟩ := h10
  have hd0 := hd.1.1.2
  have hd1 := hd.1.2.1.2
  refine lv_aload_n hx hb dX1_refuse_0 rfl (lv_at hl 0 rfl) ?_
  refine lv_iload_n hx hb dX1_refuse_1 rfl (lv_at hl 1 rfl) ?_
  refine o_after (vy_runV (As := [.int x]) (rest := []) (g := F0 m 2 ls [.int x, .ref o]) C.fix (c_presAt l D k g o bb dq bl eo z hf d hz x htr) (cwV 1 hts (lw_V q1395 q1397 qs26 q68 q1398) rfl rfl rfl (by decide +kernel) ⟨Nat.le_of_ble_eq_true rfl, Nat.le_of_ble_eq_true rfl⟩) (preV mv2_hKX hK (va_recv hK (frzF hF hS) (ci := 1) (q0 := 0) rfl rfl) (fun U hU hW => (hKX_at hX hS hAN (⟨(frzF hO hS), (dk_frF hdk hS)⟩) hU hW))) rfl rfl hl.1 rfl (lv_room (Nat.le_of_ble_eq_true rfl)) dX1_refuse_2 ⟨(by first | exact Nat.le_of_ble_eq_true rfl | omega | (dsimp only [Rm]; omega)), (by first | exact Nat.le_of_ble_eq_true rfl | omega | (dsimp only [Rm]; omega))⟩) hS (fun E ce q9 H hth hS hk hce hcv hcl => o_out hnt hlk (Or.inl hth) hS hce hcv hcl (by first | exact Nat.le_of_ble_eq_true rfl | omega | (dsimp only [Rm]; omega)) (by first | exact Nat.le_of_ble_eq_true rfl | omega | (dsimp only [Rm]; omega))) (fun H hp2 hS hsz hk => ?_)
  have hP : va_P D clA [] H := hP.kept (fun i q hi => hk q.1 ((hP i q hi).lt))
  have hD : va_D (fun q => s.heap.size ≤ q) [] := hD
  obtain ⟨hcx, ecx⟩ := hasP_ci hd hp2
  refine lv_astore_n (lv' := [(2, .ref (z (32 + ci x))), (0, .ref o), (1, .int x)]) hx hb dX1_refuse_5 rfl hl (by decide) rfl (fun ls hl => ?_)
  refine lv_aload_n hx hb dX1_refuse_6 rfl (lv_at hl 0 rfl) ?_
  refine va_getN hx hb hts in_X12 hown hK (frzF (hdk.2.2.2.2 (ci x) (by omega)) hS) 0 rfl rfl 4 (by decide) ((hN _ q1556 rfl).use rfl) (fun _ h => h) rfl dX1_refuse_7 ?_
  refine lv_iconst (v := 1) hx hb dX1_refuse_10 rfl ?_
  have J_19 : ∀ (zz : Int32), (zz = bI (pf d (ci x) 4 = 1)) → ∀ (ls : Array Slot), lv_has ls 4 [(2, .ref (z (32 + ci x))), (0, .ref o), (1, .int x)] → W p l e (Rm 8 142 4 24) s m ([.ref o, .int x] : List Value).toArray below meth c H [] (0 + 1) (0 + 6) (vy_MQ below (oQ False (some (.int 0))) (oX (fun E => (¬ hasP d x ∧ E = "java/lang/IndexOutOfBoundsException") ∨ (hasP d x ∧ ¬ pf d (ci x) 4 = 1 ∧ E = "java/lang/IllegalStateException"))) ([.ref o, .int x] : List Value).toArray s 4 24 (fun _ => False)) (F0 m 19 ls [.int zz]) := by
    intro zz h_zz ls hl
    refine w_topi (y := bI (pf d (ci x) 4 = 1)) h_zz ?_
    refine o_after (vy_runS (As := [.int (bI (pf d (ci x) 4 = 1))]) (rest := []) (g := F0 m 19 ls [.int (bI (pf d (ci x) 4 = 1))]) C.fix (c_reqState l D k g (pf d (ci x) 4 = 1) htr) (va_cwS 1 hts (lw_S q1514 q1515 q68 q1516) rfl rfl rfl (by decide +kernel) ⟨Nat.le_of_ble_eq_true rfl, Nat.le_of_ble_eq_true rfl⟩) (preS mv2_hKX hK (fun U hU hW => (hKX_at hX hS hAN trivial hU hW))) rfl rfl hl.1 rfl (lv_room (Nat.le_of_ble_eq_true rfl)) dX1_refuse_19 ⟨(by first | exact Nat.le_of_ble_eq_true rfl | omega | (dsimp only [Rm]; omega)), (by first | exact Nat.le_of_ble_eq_true rfl | omega | (dsimp only [Rm]; omega))⟩) hS (fun E ce q9 H hth hS hk hce hcv hcl => o_out hnt hlk (Or.inr ⟨hp2, hth⟩) hS hce hcv hcl (by first | exact Nat.le_of_ble_eq_true rfl | omega | (dsimp only [Rm]; omega)) (by first | exact Nat.le_of_ble_eq_true rfl | omega | (dsimp only [Rm]; omega))) (fun H hp19 hS hsz hk => ?_)
    have hP : va_P D clA [] H := hP.kept (fun i q hi => hk q.1 ((hP i q hi).lt))
    have hD : va_D (fun q => s.heap.size ≤ q) [] := hD
    exact absurd ⟨hp2, hp19⟩ hno
  refine lv_icmp_ne (tgt := 18) hx hb dX1_refuse_11 (by decide) (fun c_11 => ?_) (fun c_11 => ?_)
  · refine lv_iconst (v := 0) hx hb dX1_refuse_18 rfl ?_
    exact J_19 0 (by first | exact bI_f c_11 | exact bI_t c_11) ls hl
  · refine lv_iconst (v := 1) hx hb dX1_refuse_14 rfl ?_
    refine lv_goto (tgt := 19) hx hb dX1_refuse_15 (by decide) ?_
    exact J_19 1 (by first | exact bI_f c_11 | exact bI_t c_11) ls hl
set_option maxHeartbeats 4000000 in
theorem c_waiveX (l : Launch) (D : va_G) (k : Nat → ClassId) (g : Nat → Nat) (o bb dq : Nat) (bl eo : Int32) (z : Nat → Nat) (hf d : Nat → Int32) (hz : dkN g z hf d) (x : Int32) (hno : ¬ (hasP d x ∧ pf d (ci x) 4 = 1 ∧ pf d (ci x) 3 &&& 4 = 0)) (htr : l.stackTraces = false) : oM l D k yX1_waive cX1_waive 3 (some .int) 8 142 4 24 [.ref o, .int x] (hKX (fun HH => va_P D clA [(o, .inr (1, [.ref bb, .ref dq, .ref (z 0), .int bl, .int eo]))] HH ∧ dk D k z hf d HH) g) False (some (.int 0)) (fun E => (¬ hasP d x ∧ E = "java/lang/IndexOutOfBoundsException") ∨ (hasP d x ∧ ¬ (pf d (ci x) 4 = 1 ∧ pf d (ci x) 3 &&& 4 = 0) ∧ E = "java/lang/IllegalStateException")) := by
  refine oM_of (by decide) (Nat.le_of_ble_eq_true rfl) ?_
  intro p e s m below meth c ls C hnt hK ⟨⟨hO, hdk⟩, hX⟩ hS hl
  have hP : va_P D clA [] s.heap := va_nil
  have hD : va_D (fun q => s.heap.size ≤ q) [] := va_D_nod.mpr ⟨List.nodup_nil, fun q h => by cases h⟩
  have hA : ∀ q, s.heap.size ≤ q → s.heap.size ≤ q := fun _ h => h
  have hAN : ∀ q, s.heap.size ≤ q → g 0 ≤ q := fun q h => Nat.le_trans hX.le h
  have hN : NW s := hX.nw
  obtain ⟨hx, hb, hr, hml, hown, hts, hlk⟩ := id C
  have hl : lv_has ls 3 [(0, .ref o), (1, .int x)] := hl
  have hF : va_P D clA [(o, .inr (1, [.ref bb, .ref dq, .ref (z 0), .int bl, .int eo])), (z 0, .inr (2, [.ref (z 1), .ref (z 3), .ref (z 6), .ref (z 9), .int (d 3)])), (z 1, .inr (3, [.ref (z 2), .int (d 2)])), (z 2, .inl (k 0, 16, .inl hf)), (z 3, .inr (4, [.ref (z 4), .int 12])), (z 4, .inr (12, [.int (nI (z 12)), .ref (z 5), .int (nI (dN d 0))])), (z 6, .inr (4, [.ref (z 7), .int 24])), (z 7, .inr (12, [.int (nI (z 13)), .ref (z 8), .int (nI (dN d 1))]))] s.heap := va_cons (hO 0 _ rfl) hdk.1
  have hd := hz.1
  have hh := hz.2.1
  have h10 := hz.2.2
  obtain ⟨h10, h10b, h11, h11b, -⟩ := h10
  have hd0 := hd.1.1.2
  have hd1 := hd.1.2.1.2
  refine lv_aload_n hx hb dX1_waive_0 rfl (lv_at hl 0 rfl) ?_
  refine lv_iload_n hx hb dX1_waive_1 rfl (lv_at hl 1 rfl) ?_
  refine o_after (vy_runV (As := [.int x]) (rest := []) (g := F0 m 2 ls [.int x, .ref o]) C.fix (c_presAt l D k g o bb dq bl eo z hf d hz x htr) (cwV 1 hts (lw_V q1395 q1397 qs26 q68 q1398) rfl rfl rfl (by decide +kernel) ⟨Nat.le_of_ble_eq_true rfl, Nat.le_of_ble_eq_true rfl⟩) (preV mv2_hKX hK (va_recv hK (frzF hF hS) (ci := 1) (q0 := 0) rfl rfl) (fun U hU hW => (hKX_at hX hS hAN (⟨(frzF hO hS), (dk_frF hdk hS)⟩) hU hW))) rfl rfl hl.1 rfl (lv_room (Nat.le_of_ble_eq_true rfl)) dX1_waive_2 ⟨(by first | exact Nat.le_of_ble_eq_true rfl | omega | (dsimp only [Rm]; omega)), (by first | exact Nat.le_of_ble_eq_true rfl | omega | (dsimp only [Rm]; omega))⟩) hS (fun E ce q9 H hth hS hk hce hcv hcl => o_out hnt hlk (Or.inl hth) hS hce hcv hcl (by first | exact Nat.le_of_ble_eq_true rfl | omega | (dsimp only [Rm]; omega)) (by first | exact Nat.le_of_ble_eq_true rfl | omega | (dsimp only [Rm]; omega))) (fun H hp2 hS hsz hk => ?_)
  have hP : va_P D clA [] H := hP.kept (fun i q hi => hk q.1 ((hP i q hi).lt))
  have hD : va_D (fun q => s.heap.size ≤ q) [] := hD
  obtain ⟨hcx, ecx⟩ := hasP_ci hd hp2
  have hq3 := (hd.2.2.2 (ci x) hcx).2.2.2.1
  have hq2 := has2 (dN d (154 + 6 * ci x + 3)) (by have := hq3.2; omega)
  rw [← hq3.1] at hq2
  refine lv_astore_n (lv' := [(2, .ref (z (32 + ci x))), (0, .ref o), (1, .int x)]) hx hb dX1_waive_5 rfl hl (by decide) rfl (fun ls hl => ?_)
  refine lv_aload_n hx hb dX1_waive_6 rfl (lv_at hl 0 rfl) ?_
  refine va_getN hx hb hts in_X12 hown hK (frzF (hdk.2.2.2.2 (ci x) (by omega)) hS) 0 rfl rfl 4 (by decide) ((hN _ q1556 rfl).use rfl) (fun _ h => h) rfl dX1_waive_7 ?_
  refine lv_iconst (v := 1) hx hb dX1_waive_10 rfl ?_
  have J_27 : ∀ (zz : Int32), (zz = bI (pf d (ci x) 4 = 1 ∧ pf d (ci x) 3 &&& 4 = 0)) → ∀ (ls : Array Slot), lv_has ls 3 [(2, .ref (z (32 + ci x))), (0, .ref o), (1, .int x)] → W p l e (Rm 8 142 4 24) s m ([.ref o, .int x] : List Value).toArray below meth c H [] (0 + 1) (0 + 6) (vy_MQ below (oQ False (some (.int 0))) (oX (fun E => (¬ hasP d x ∧ E = "java/lang/IndexOutOfBoundsException") ∨ (hasP d x ∧ ¬ (pf d (ci x) 4 = 1 ∧ pf d (ci x) 3 &&& 4 = 0) ∧ E = "java/lang/IllegalStateException"))) ([.ref o, .int x] : List Value).toArray s 4 24 (fun _ => False)) (F0 m 27 ls [.int zz]) := by
    intro zz h_zz ls hl
    refine w_topi (y := bI (pf d (ci x) 4 = 1 ∧ pf d (ci x) 3 &&& 4 = 0)) h_zz ?_
    refine o_after (vy_runS (As := [.int (bI (pf d (ci x) 4 = 1 ∧ pf d (ci x) 3 &&& 4 = 0))]) (rest := []) (g := F0 m 27 ls [.int (bI (pf d (ci x) 4 = 1 ∧ pf d (ci x) 3 &&& 4 = 0))]) C.fix (c_reqState l D k g (pf d (ci x) 4 = 1 ∧ pf d (ci x) 3 &&& 4 = 0) htr) (va_cwS 1 hts (lw_S q1514 q1515 q68 q1516) rfl rfl rfl (by decide +kernel) ⟨Nat.le_of_ble_eq_true rfl, Nat.le_of_ble_eq_true rfl⟩) (preS mv2_hKX hK (fun U hU hW => (hKX_at hX hS hAN trivial hU hW))) rfl rfl hl.1 rfl (lv_room (Nat.le_of_ble_eq_true rfl)) dX1_waive_27 ⟨(by first | exact Nat.le_of_ble_eq_true rfl | omega | (dsimp only [Rm]; omega)), (by first | exact Nat.le_of_ble_eq_true rfl | omega | (dsimp only [Rm]; omega))⟩) hS (fun E ce q9 H hth hS hk hce hcv hcl => o_out hnt hlk (Or.inr ⟨hp2, hth⟩) hS hce hcv hcl (by first | exact Nat.le_of_ble_eq_true rfl | omega | (dsimp only [Rm]; omega)) (by first | exact Nat.le_of_ble_eq_true rfl | omega | (dsimp only [Rm]; omega))) (fun H hp27 hS hsz hk => ?_)
    have hP : va_P D clA [] H := hP.kept (fun i q hi => hk q.1 ((hP i q hi).lt))
    have hD : va_D (fun q => s.heap.size ≤ q) [] := hD
    exact absurd ⟨hp2, hp27⟩ hno
  refine lv_icmp_ne (tgt := 26) hx hb dX1_waive_11 (by decide) (fun c_11 => ?_) (fun c_11 => ?_)
  · refine lv_iconst (v := 0) hx hb dX1_waive_26 rfl ?_
    exact J_27 0 (by first | exact bI_f (fun h => c_11 h.1) | exact bI_f (fun h => (hq2.mpr h.2) b_19) | exact bI_t ⟨c_11, hq2.mp b_19⟩) ls hl
  · refine lv_aload_n hx hb dX1_waive_14 rfl (lv_at hl 0 rfl) ?_
    refine lv_iconst (v := 2) hx hb dX1_waive_15 rfl ?_
    refine r_after (va_runV (As := [.int 2]) (rest := []) (g := F0 m 16 ls [.int 2, .ref (z (32 + ci x))]) C.fix (c_has l D k (z (32 + ci x)) (pf d (ci x) 0) (pf d (ci x) 1) (pf d (ci x) 2) (pf d (ci x) 3) (pf d (ci x) 4) (due d (ci x)) 2 []) (cwV 1 hts (lw_V q1620 q354 q355 q105 q356) rfl rfl rfl (by decide +kernel) ⟨Nat.le_of_ble_eq_true rfl, Nat.le_of_ble_eq_true rfl⟩) (preRV hK (va_recv hK (frzF (hdk.2.2.2.2 (ci x) (by omega)) hS) (ci := 10) (q0 := 0) rfl rfl) (va_cons ((frzF (hdk.2.2.2.2 (ci x) (by omega)) hS) 0 _ rfl) va_nil)) rfl rfl hl.1 rfl (lv_room (Nat.le_of_ble_eq_true rfl)) dX1_waive_16 ⟨(by first | exact Nat.le_of_ble_eq_true rfl | omega | (dsimp only [Rm]; omega)), (by first | exact Nat.le_of_ble_eq_true rfl | omega | (dsimp only [Rm]; omega))⟩) ?_
    refine lv_if_ne (tgt := 26) hx hb dX1_waive_19 (by decide) (fun c_19 => ?_) (fun c_19 => ?_)
    · have b_19 := bI_nz c_19
      refine lv_iconst (v := 0) hx hb dX1_waive_26 rfl ?_
      exact J_27 0 (by first | exact bI_f (fun h => c_11 h.1) | exact bI_f (fun h => (hq2.mpr h.2) b_19) | exact bI_t ⟨c_11, hq2.mp b_19⟩) ls hl
    · have b_19 := bI_0.mp c_19
      refine lv_iconst (v := 1) hx hb dX1_waive_22 rfl ?_
      refine lv_goto (tgt := 27) hx hb dX1_waive_23 (by decide) ?_
      exact J_27 1 (by first | exact bI_f (fun h => c_11 h.1) | exact bI_f (fun h => (hq2.mpr h.2) b_19) | exact bI_t ⟨c_11, hq2.mp b_19⟩) ls hl
set_option maxHeartbeats 4000000 in
theorem c_examineX (l : Launch) (D : va_G) (k : Nat → ClassId) (g : Nat → Nat) (o bb dq : Nat) (bl eo : Int32) (z : Nat → Nat) (hf d : Nat → Int32) (hz : dkN g z hf d) (x : Int32) (hno : ¬ (hasP d x ∧ pf d (ci x) 4 = 0)) (htr : l.stackTraces = false) : oM l D k yX1_examine cX1_examine 2 (some .int) 8 142 4 24 [.ref o, .int x] (hKX (fun HH => va_P D clA [(o, .inr (1, [.ref bb, .ref dq, .ref (z 0), .int bl, .int eo]))] HH ∧ dk D k z hf d HH) g) False (some (.int 0)) (fun E => (¬ hasP d x ∧ E = "java/lang/IndexOutOfBoundsException") ∨ (hasP d x ∧ ¬ pf d (ci x) 4 = 0 ∧ E = "java/lang/IllegalStateException")) := by
  refine oM_of (by decide) (Nat.le_of_ble_eq_true rfl) ?_
  intro p e s m below meth c ls C hnt hK ⟨⟨hO, hdk⟩, hX⟩ hS hl
  have hP : va_P D clA [] s.heap := va_nil
  have hD : va_D (fun q => s.heap.size ≤ q) [] := va_D_nod.mpr ⟨List.nodup_nil, fun q h => by cases h⟩
  have hA : ∀ q, s.heap.size ≤ q → s.heap.size ≤ q := fun _ h => h
  have hAN : ∀ q, s.heap.size ≤ q → g 0 ≤ q := fun q h => Nat.le_trans hX.le h
  have hN : NW s := hX.nw
  obtain ⟨hx, hb, hr, hml, hown, hts, hlk⟩ := id C
  have hl : lv_has ls 2 [(0, .ref o), (1, .int x)] := hl
  have hF : va_P D clA [(o, .inr (1, [.ref bb, .ref dq, .ref (z 0), .int bl, .int eo])), (z 0, .inr (2, [.ref (z 1), .ref (z 3), .ref (z 6), .ref (z 9), .int (d 3)])), (z 1, .inr (3, [.ref (z 2), .int (d 2)])), (z 2, .inl (k 0, 16, .inl hf)), (z 3, .inr (4, [.ref (z 4), .int 12])), (z 4, .inr (12, [.int (nI (z 12)), .ref (z 5), .int (nI (dN d 0))])), (z 6, .inr (4, [.ref (z 7), .int 24])), (z 7, .inr (12, [.int (nI (z 13)), .ref (z 8), .int (nI (dN d 1))]))] s.heap := va_cons (hO 0 _ rfl) hdk.1
  have hd := hz.1
  have hh := hz.2.1
  have h10 := hz.2.2
  obtain ⟨h10, h10b, h11, h11b, -⟩ := h10
  have hd0 := hd.1.1.2
  have hd1 := hd.1.2.1.2
  refine lv_aload_n hx hb dX1_examine_0 rfl (lv_at hl 0 rfl) ?_
  refine lv_iload_n hx hb dX1_examine_1 rfl (lv_at hl 1 rfl) ?_
  refine o_after (vy_runV (As := [.int x]) (rest := []) (g := F0 m 2 ls [.int x, .ref o]) C.fix (c_presAt l D k g o bb dq bl eo z hf d hz x htr) (cwV 1 hts (lw_V q1395 q1397 qs26 q68 q1398) rfl rfl rfl (by decide +kernel) ⟨Nat.le_of_ble_eq_true rfl, Nat.le_of_ble_eq_true rfl⟩) (preV mv2_hKX hK (va_recv hK (frzF hF hS) (ci := 1) (q0 := 0) rfl rfl) (fun U hU hW => (hKX_at hX hS hAN (⟨(frzF hO hS), (dk_frF hdk hS)⟩) hU hW))) rfl rfl hl.1 rfl (lv_room (Nat.le_of_ble_eq_true rfl)) dX1_examine_2 ⟨(by first | exact Nat.le_of_ble_eq_true rfl | omega | (dsimp only [Rm]; omega)), (by first | exact Nat.le_of_ble_eq_true rfl | omega | (dsimp only [Rm]; omega))⟩) hS (fun E ce q9 H hth hS hk hce hcv hcl => o_out hnt hlk (Or.inl hth) hS hce hcv hcl (by first | exact Nat.le_of_ble_eq_true rfl | omega | (dsimp only [Rm]; omega)) (by first | exact Nat.le_of_ble_eq_true rfl | omega | (dsimp only [Rm]; omega))) (fun H hp2 hS hsz hk => ?_)
  have hP : va_P D clA [] H := hP.kept (fun i q hi => hk q.1 ((hP i q hi).lt))
  have hD : va_D (fun q => s.heap.size ≤ q) [] := hD
  obtain ⟨hcx, ecx⟩ := hasP_ci hd hp2
  refine va_getN hx hb hts in_X12 hown hK (frzF (hdk.2.2.2.2 (ci x) (by omega)) hS) 0 rfl rfl 4 (by decide) ((hN _ q1556 rfl).use rfl) (fun _ h => h) rfl dX1_examine_5 ?_
  have J_16 : ∀ (zz : Int32), (zz = bI (pf d (ci x) 4 = 0)) → ∀ (ls : Array Slot), lv_has ls 2 [(0, .ref o), (1, .int x)] → W p l e (Rm 8 142 4 24) s m ([.ref o, .int x] : List Value).toArray below meth c H [] (0 + 1) (0 + 6) (vy_MQ below (oQ False (some (.int 0))) (oX (fun E => (¬ hasP d x ∧ E = "java/lang/IndexOutOfBoundsException") ∨ (hasP d x ∧ ¬ pf d (ci x) 4 = 0 ∧ E = "java/lang/IllegalStateException"))) ([.ref o, .int x] : List Value).toArray s 4 24 (fun _ => False)) (F0 m 16 ls [.int zz]) := by
    intro zz h_zz ls hl
    refine w_topi (y := bI (pf d (ci x) 4 = 0)) h_zz ?_
    refine o_after (vy_runS (As := [.int (bI (pf d (ci x) 4 = 0))]) (rest := []) (g := F0 m 16 ls [.int (bI (pf d (ci x) 4 = 0))]) C.fix (c_reqState l D k g (pf d (ci x) 4 = 0) htr) (va_cwS 1 hts (lw_S q1514 q1515 q68 q1516) rfl rfl rfl (by decide +kernel) ⟨Nat.le_of_ble_eq_true rfl, Nat.le_of_ble_eq_true rfl⟩) (preS mv2_hKX hK (fun U hU hW => (hKX_at hX hS hAN trivial hU hW))) rfl rfl hl.1 rfl (lv_room (Nat.le_of_ble_eq_true rfl)) dX1_examine_16 ⟨(by first | exact Nat.le_of_ble_eq_true rfl | omega | (dsimp only [Rm]; omega)), (by first | exact Nat.le_of_ble_eq_true rfl | omega | (dsimp only [Rm]; omega))⟩) hS (fun E ce q9 H hth hS hk hce hcv hcl => o_out hnt hlk (Or.inr ⟨hp2, hth⟩) hS hce hcv hcl (by first | exact Nat.le_of_ble_eq_true rfl | omega | (dsimp only [Rm]; omega)) (by first | exact Nat.le_of_ble_eq_true rfl | omega | (dsimp only [Rm]; omega))) (fun H hp16 hS hsz hk => ?_)
    have hP : va_P D clA [] H := hP.kept (fun i q hi => hk q.1 ((hP i q hi).lt))
    have hD : va_D (fun q => s.heap.size ≤ q) [] := hD
    exact absurd ⟨hp2, hp16⟩ hno
  refine lv_if_ne (tgt := 15) hx hb dX1_examine_8 (by decide) (fun c_8 => ?_) (fun c_8 => ?_)
  · refine lv_iconst (v := 0) hx hb dX1_examine_15 rfl ?_
    exact J_16 0 (by first | exact bI_f c_8 | exact bI_t c_8 | exact bI_t (Classical.not_not.mp c_8)) ls hl
  · refine lv_iconst (v := 1) hx hb dX1_examine_11 rfl ?_
    refine lv_goto (tgt := 16) hx hb dX1_examine_12 (by decide) ?_
    exact J_16 1 (by first | exact bI_f c_8 | exact bI_t c_8 | exact bI_t (Classical.not_not.mp c_8)) ls hl
set_option maxHeartbeats 4000000 in
theorem c_presentX (l : Launch) (D : va_G) (k : Nat → ClassId) (g : Nat → Nat) (o bb dq : Nat) (bl eo : Int32) (z : Nat → Nat) (hf d : Nat → Int32) (hz : dkN g z hf d) (x y am dc ins : Int32) (hno : ¬ (hasC d x ∧ ¬ wrong y am dc ins ∧ ¬ d 1 = 24)) (htr : l.stackTraces = false) : oM l D k yX1_present cX1_present 7 (some .int) 9 167 4 24 [.ref o, .int x, .int y, .int am, .int dc, .int ins] (hKX (fun HH => va_P D clA [(o, .inr (1, [.ref bb, .ref dq, .ref (z 0), .int bl, .int eo]))] HH ∧ dk D k z hf d HH) g) False (some (.int 0)) (fun E => (¬ hasC d x ∧ E = "java/lang/IndexOutOfBoundsException") ∨ (hasC d x ∧ wrong y am dc ins ∧ E = "java/lang/IllegalArgumentException") ∨ (hasC d x ∧ ¬ wrong y am dc ins ∧ d 1 = 24 ∧ E = "java/lang/IllegalStateException")) := by
  refine oM_of (by decide) (Nat.le_of_ble_eq_true rfl) ?_
  intro p e s m below meth c ls C hnt hK ⟨⟨hO, hdk⟩, hX⟩ hS hl
  have hP : va_P D clA [] s.heap := va_nil
  have hD : va_D (fun q => s.heap.size ≤ q) [] := va_D_nod.mpr ⟨List.nodup_nil, fun q h => by cases h⟩
  have hA : ∀ q, s.heap.size ≤ q → s.heap.size ≤ q := fun _ h => h
  have hAN : ∀ q, s.heap.size ≤ q → g 0 ≤ q := fun q h => Nat.le_trans hX.le h
  have hN : NW s := hX.nw
  obtain ⟨hx, hb, hr, hml, hown, hts, hlk⟩ := id C
  have hl : lv_has ls 7 [(0, .ref o), (1, .int x), (2, .int y), (3, .int am), (4, .int dc), (5, .int ins)] := hl
  have hF : va_P D clA [(o, .inr (1, [.ref bb, .ref dq, .ref (z 0), .int bl, .int eo])), (z 0, .inr (2, [.ref (z 1), .ref (z 3), .ref (z 6), .ref (z 9), .int (d 3)])), (z 1, .inr (3, [.ref (z 2), .int (d 2)])), (z 2, .inl (k 0, 16, .inl hf)), (z 3, .inr (4, [.ref (z 4), .int 12])), (z 4, .inr (12, [.int (nI (z 12)), .ref (z 5), .int (nI (dN d 0))])), (z 6, .inr (4, [.ref (z 7), .int 24])), (z 7, .inr (12, [.int (nI (z 13)), .ref (z 8), .int (nI (dN d 1))]))] s.heap := va_cons (hO 0 _ rfl) hdk.1
  have hd := hz.1
  have hh := hz.2.1
  have h10 := hz.2.2
  obtain ⟨h10, h10b, h11, h11b, -⟩ := h10
  have hd0 := hd.1.1.2
  have hd1 := hd.1.2.1.2
  refine lv_aload_n hx hb dX1_present_0 rfl (lv_at hl 0 rfl) ?_
  refine lv_iload_n hx hb dX1_present_1 rfl (lv_at hl 1 rfl) ?_
  refine lv_iload_n hx hb dX1_present_2 rfl (lv_at hl 2 rfl) ?_
  refine lv_iload_n hx hb dX1_present_3 rfl (lv_at hl 3 rfl) ?_
  refine lv_iload hx hb dX1_present_4 (lv_at hl 4 rfl) ?_
  refine lv_iload hx hb dX1_present_6 (lv_at hl 5 rfl) ?_
  refine o_after (vy_runV (As := [.int x, .int y, .int am, .int dc, .int ins]) (rest := []) (g := F0 m 8 ls [.int ins, .int dc, .int am, .int y, .int x, .ref o]) C.fix (c_reqDrawing l D k g o bb dq bl eo z hf d hz x y am dc ins htr) (cwV 5 hts (lw_V q1461 q1463 qs27 q68 q1464) rfl rfl rfl (by decide +kernel) ⟨Nat.le_of_ble_eq_true rfl, Nat.le_of_ble_eq_true rfl⟩) (preV mv2_hKX hK (va_recv hK (frzF hF hS) (ci := 1) (q0 := 0) rfl rfl) (fun U hU hW => (hKX_at hX hS hAN (⟨(frzF hO hS), (dk_frF hdk hS)⟩) hU hW))) rfl rfl hl.1 rfl (lv_room (Nat.le_of_ble_eq_true rfl)) dX1_present_8 ⟨(by first | exact Nat.le_of_ble_eq_true rfl | omega | (dsimp only [Rm]; omega)), (by first | exact Nat.le_of_ble_eq_true rfl | omega | (dsimp only [Rm]; omega))⟩) hS (fun E ce q9 H hth hS hk hce hcv hcl => o_out hnt hlk (hth.elim Or.inl (fun h => Or.inr (Or.inl h))) hS hce hcv hcl (by first | exact Nat.le_of_ble_eq_true rfl | omega | (dsimp only [Rm]; omega)) (by first | exact Nat.le_of_ble_eq_true rfl | omega | (dsimp only [Rm]; omega))) (fun H hp8 hS hsz hk => ?_)
  have hP : va_P D clA [] H := hP.kept (fun i q hi => hk q.1 ((hP i q hi).lt))
  have hD : va_D (fun q => s.heap.size ≤ q) [] := hD
  obtain ⟨hcx, ecx⟩ := hasC_ci hd hp8.1
  obtain ⟨hcy, ecy⟩ := day_ci (Classical.not_not.mp (fun h => hp8.2 (Or.inl h)))
  refine lv_aload_n hx hb dX1_present_11 rfl (lv_at hl 0 rfl) ?_
  refine va_get hx hb hts in_X1 hown hK (frzF hF hS) 0 rfl rfl 2 (by decide) (hts _ q221) (fun _ h => h) rfl dX1_present_12 ?_
  refine va_getN hx hb hts in_X2 hown hK (frzF hF hS) 1 rfl rfl 2 (by decide) ((hN _ q202 rfl).use rfl) (fun _ h => h) rfl dX1_present_15 ?_
  refine r_after (va_runV (As := []) (rest := []) (g := F0 m 18 ls [.ref (z 6)]) C.fix (c_bookFull l D k g (z 6) (z 7) (z 8) (nI (z 13)) 24 (nI (dN d 1))) (cwV 0 hts (lw_V q1513 q937 q938 q73 q939) rfl rfl rfl (by decide +kernel) ⟨Nat.le_of_ble_eq_true rfl, Nat.le_of_ble_eq_true rfl⟩) (preV mv2_hKX hK (va_recv hK (frzF hF hS) (ci := 4) (q0 := 6) rfl rfl) (fun U hU hW => (hKX_at hX hS hAN (va_cons ((frzF hF hS) 6 _ rfl) (va_cons ((frzF hF hS) 7 _ rfl) va_nil)) hU hW))) rfl rfl hl.1 rfl (lv_room (Nat.le_of_ble_eq_true rfl)) dX1_present_18 ⟨(by first | exact Nat.le_of_ble_eq_true rfl | omega | (dsimp only [Rm]; omega)), (by first | exact Nat.le_of_ble_eq_true rfl | omega | (dsimp only [Rm]; omega))⟩) ?_
  have J_29 : ∀ (zz : Int32), (zz = bI (¬ d 1 = 24)) → ∀ (ls : Array Slot), lv_has ls 7 [(0, .ref o), (1, .int x), (2, .int y), (3, .int am), (4, .int dc), (5, .int ins)] → W p l e (Rm 9 167 4 24) s m ([.ref o, .int x, .int y, .int am, .int dc, .int ins] : List Value).toArray below meth c H [] (0 + 2 + 0) (0 + 12 + 0) (vy_MQ below (oQ False (some (.int 0))) (oX (fun E => (¬ hasC d x ∧ E = "java/lang/IndexOutOfBoundsException") ∨ (hasC d x ∧ wrong y am dc ins ∧ E = "java/lang/IllegalArgumentException") ∨ (hasC d x ∧ ¬ wrong y am dc ins ∧ d 1 = 24 ∧ E = "java/lang/IllegalStateException"))) ([.ref o, .int x, .int y, .int am, .int dc, .int ins] : List Value).toArray s 4 24 (fun _ => False)) (F0 m 29 ls [.int zz]) := by
    intro zz h_zz ls hl
    refine w_topi (y := bI (¬ d 1 = 24)) h_zz ?_
    refine o_after (vy_runS (As := [.int (bI (¬ d 1 = 24))]) (rest := []) (g := F0 m 29 ls [.int (bI (¬ d 1 = 24))]) C.fix (c_reqState l D k g (¬ d 1 = 24) htr) (va_cwS 1 hts (lw_S q1514 q1515 q68 q1516) rfl rfl rfl (by decide +kernel) ⟨Nat.le_of_ble_eq_true rfl, Nat.le_of_ble_eq_true rfl⟩) (preS mv2_hKX hK (fun U hU hW => (hKX_at hX hS hAN trivial hU hW))) rfl rfl hl.1 rfl (lv_room (Nat.le_of_ble_eq_true rfl)) dX1_present_29 ⟨(by first | exact Nat.le_of_ble_eq_true rfl | omega | (dsimp only [Rm]; omega)), (by first | exact Nat.le_of_ble_eq_true rfl | omega | (dsimp only [Rm]; omega))⟩) hS (fun E ce q9 H hth hS hk hce hcv hcl => o_out hnt hlk (Or.inr (Or.inr ⟨hp8.1, hp8.2, Classical.not_not.mp hth.1, hth.2⟩)) hS hce hcv hcl (by first | exact Nat.le_of_ble_eq_true rfl | omega | (dsimp only [Rm]; omega)) (by first | exact Nat.le_of_ble_eq_true rfl | omega | (dsimp only [Rm]; omega))) (fun H hp29 hS hsz hk => ?_)
    have hP : va_P D clA [] H := hP.kept (fun i q hi => hk q.1 ((hP i q hi).lt))
    have hD : va_D (fun q => s.heap.size ≤ q) [] := hD
    exact absurd ⟨hp8.1, hp8.2, hp29⟩ hno
  refine lv_if_ne (tgt := 28) hx hb dX1_present_21 (by decide) (fun c_21 => ?_) (fun c_21 => ?_)
  · have b_21 := bI_nz c_21
    refine lv_iconst (v := 0) hx hb dX1_present_28 rfl ?_
    exact J_29 0 (by rw [hd.1.2.1.1]; first | exact bI_f (fun h => h b_21) | exact bI_t b_21) ls hl
  · have b_21 := bI_0.mp c_21
    refine lv_iconst (v := 1) hx hb dX1_present_24 rfl ?_
    refine lv_goto (tgt := 29) hx hb dX1_present_25 (by decide) ?_
    exact J_29 1 (by rw [hd.1.2.1.1]; first | exact bI_f (fun h => h b_21) | exact bI_t b_21) ls hl
set_option maxHeartbeats 4000000 in
theorem c_transferX (l : Launch) (D : va_G) (k : Nat → ClassId) (g : Nat → Nat) (o bb dq : Nat) (bl eo : Int32) (z : Nat → Nat) (hf d : Nat → Int32) (hz : dkN g z hf d) (x am ex : Int32) (hno : ¬ (hasC d x ∧ ¬ trA d x am ex ∧ ¬ trS d x am)) (htr : l.stackTraces = false) : oM l D k yX1_transfer cX1_transfer 5 (some .int) 9 163 4 24 [.ref o, .int x, .int am, .int ex] (hKX (fun HH => va_P D clA [(o, .inr (1, [.ref bb, .ref dq, .ref (z 0), .int bl, .int eo]))] HH ∧ dk D k z hf d HH) g) False (some (.int 0)) (fun E => (¬ hasC d x ∧ E = "java/lang/IndexOutOfBoundsException") ∨ (hasC d x ∧ trA d x am ex ∧ E = "java/lang/IllegalArgumentException") ∨ (hasC d x ∧ ¬ trA d x am ex ∧ trS d x am ∧ E = "java/lang/IllegalStateException")) := by
  refine oM_of (by decide) (Nat.le_of_ble_eq_true rfl) ?_
  intro p e s m below meth c ls C hnt hK ⟨⟨hO, hdk⟩, hX⟩ hS hl
  have hP : va_P D clA [] s.heap := va_nil
  have hD : va_D (fun q => s.heap.size ≤ q) [] := va_D_nod.mpr ⟨List.nodup_nil, fun q h => by cases h⟩
  have hA : ∀ q, s.heap.size ≤ q → s.heap.size ≤ q := fun _ h => h
  have hAN : ∀ q, s.heap.size ≤ q → g 0 ≤ q := fun q h => Nat.le_trans hX.le h
  have hN : NW s := hX.nw
  obtain ⟨hx, hb, hr, hml, hown, hts, hlk⟩ := id C
  have hl : lv_has ls 5 [(0, .ref o), (1, .int x), (2, .int am), (3, .int ex)] := hl
  have hF : va_P D clA [(o, .inr (1, [.ref bb, .ref dq, .ref (z 0), .int bl, .int eo])), (z 0, .inr (2, [.ref (z 1), .ref (z 3), .ref (z 6), .ref (z 9), .int (d 3)])), (z 1, .inr (3, [.ref (z 2), .int (d 2)])), (z 2, .inl (k 0, 16, .inl hf)), (z 3, .inr (4, [.ref (z 4), .int 12])), (z 4, .inr (12, [.int (nI (z 12)), .ref (z 5), .int (nI (dN d 0))])), (z 6, .inr (4, [.ref (z 7), .int 24])), (z 7, .inr (12, [.int (nI (z 13)), .ref (z 8), .int (nI (dN d 1))]))] s.heap := va_cons (hO 0 _ rfl) hdk.1
  have hd := hz.1
  have hh := hz.2.1
  have h10 := hz.2.2
  obtain ⟨h10, h10b, h11, h11b, -⟩ := h10
  have hd0 := hd.1.1.2
  have hd1 := hd.1.2.1.2
  refine lv_aload_n hx hb dX1_transfer_0 rfl (lv_at hl 0 rfl) ?_
  refine lv_iload_n hx hb dX1_transfer_1 rfl (lv_at hl 1 rfl) ?_
  refine o_after (vy_runV (As := [.int x]) (rest := []) (g := F0 m 2 ls [.int x, .ref o]) C.fix (c_creditAt l D k g o bb dq bl eo z hf d hz x htr) (cwV 1 hts (lw_V q1321 q1323 qs24 q68 q1324) rfl rfl rfl (by decide +kernel) ⟨Nat.le_of_ble_eq_true rfl, Nat.le_of_ble_eq_true rfl⟩) (preV mv2_hKX hK (va_recv hK (frzF hF hS) (ci := 1) (q0 := 0) rfl rfl) (fun U hU hW => (hKX_at hX hS hAN (⟨(frzF hO hS), (dk_frF hdk hS)⟩) hU hW))) rfl rfl hl.1 rfl (lv_room (Nat.le_of_ble_eq_true rfl)) dX1_transfer_2 ⟨(by first | exact Nat.le_of_ble_eq_true rfl | omega | (dsimp only [Rm]; omega)), (by first | exact Nat.le_of_ble_eq_true rfl | omega | (dsimp only [Rm]; omega))⟩) hS (fun E ce q9 H hth hS hk hce hcv hcl => o_out hnt hlk (Or.inl hth) hS hce hcv hcl (by first | exact Nat.le_of_ble_eq_true rfl | omega | (dsimp only [Rm]; omega)) (by first | exact Nat.le_of_ble_eq_true rfl | omega | (dsimp only [Rm]; omega))) (fun H hp2 hS hsz hk => ?_)
  have hP : va_P D clA [] H := hP.kept (fun i q hi => hk q.1 ((hP i q hi).lt))
  have hD : va_D (fun q => s.heap.size ≤ q) [] := hD
  obtain ⟨hcx, ecx⟩ := hasC_ci hd hp2
  refine lv_astore (lv' := [(4, .ref (z (16 + ci x))), (0, .ref o), (1, .int x), (2, .int am), (3, .int ex)]) hx hb dX1_transfer_5 hl (by decide) rfl (fun ls hl => ?_)
  refine lv_iload_n hx hb dX1_transfer_7 rfl (lv_at hl 3 rfl) ?_
  refine lv_i2l (v := am.toInt64) hx hb dX1_transfer_8 rfl ?_
  refine lv_lconst (v := 1) hx hb dX1_transfer_9 rfl ?_
  refine lv_ldc2 (v := 999999) hx hb hown (hts _ q1638) dX1_transfer_10 ?_
  refine r_after (va_runS (As := [.long am.toInt64, .long 1, .long 999999]) (rest := []) (g := F0 m 13 ls [.long 999999, .long 1, .long am.toInt64]) C.fix (c_isBetween l D k am.toInt64 1 999999) (va_cwS 3 hts (lw_S q301 q302 q68 q303) rfl rfl rfl (by decide +kernel) ⟨Nat.le_of_ble_eq_true rfl, Nat.le_of_ble_eq_true rfl⟩) (preR hK trivial) rfl rfl hl.1 rfl (lv_room (Nat.le_of_ble_eq_true rfl)) dX1_transfer_13 ⟨(by first | exact Nat.le_of_ble_eq_true rfl | omega | (dsimp only [Rm]; omega)), (by first | exact Nat.le_of_ble_eq_true rfl | omega | (dsimp only [Rm]; omega))⟩) ?_
  refine w_topi (y := bI (inR am 1 999999)) (congrArg bI (bet am 1 999999 (by decide) (by decide))) ?_
  have J_39 : ∀ (zz : Int32), (zz = bI (¬ trA d x am ex)) → ∀ (ls : Array Slot), lv_has ls 5 [(4, .ref (z (16 + ci x))), (0, .ref o), (1, .int x), (2, .int am), (3, .int ex)] → W p l e (Rm 9 163 4 24) s m ([.ref o, .int x, .int am, .int ex] : List Value).toArray below meth c H [] (0 + 1 + 0) (0 + 6 + 0) (vy_MQ below (oQ False (some (.int 0))) (oX (fun E => (¬ hasC d x ∧ E = "java/lang/IndexOutOfBoundsException") ∨ (hasC d x ∧ trA d x am ex ∧ E = "java/lang/IllegalArgumentException") ∨ (hasC d x ∧ ¬ trA d x am ex ∧ trS d x am ∧ E = "java/lang/IllegalStateException"))) ([.ref o, .int x, .int am, .int ex] : List Value).toArray s 4 24 (fun _ => False)) (F0 m 39 ls [.int zz]) := by
    intro zz h_zz ls hl
    refine w_topi (y := bI (¬ trA d x am ex)) h_zz ?_
    refine o_after (vy_runS (As := [.int (bI (¬ trA d x am ex))]) (rest := []) (g := F0 m 39 ls [.int (bI (¬ trA d x am ex))]) C.fix (c_reqArg l D k g (¬ trA d x am ex) htr) (va_cwS 1 hts (lw_S q381 q382 q68 q383) rfl rfl rfl (by decide +kernel) ⟨Nat.le_of_ble_eq_true rfl, Nat.le_of_ble_eq_true rfl⟩) (preS mv2_hKX hK (fun U hU hW => (hKX_at hX hS hAN trivial hU hW))) rfl rfl hl.1 rfl (lv_room (Nat.le_of_ble_eq_true rfl)) dX1_transfer_39 ⟨(by first | exact Nat.le_of_ble_eq_true rfl | omega | (dsimp only [Rm]; omega)), (by first | exact Nat.le_of_ble_eq_true rfl | omega | (dsimp only [Rm]; omega))⟩) hS (fun E ce q9 H hth hS hk hce hcv hcl => o_out hnt hlk (Or.inr (Or.inl ⟨hp2, Classical.not_not.mp hth.1, hth.2⟩)) hS hce hcv hcl (by first | exact Nat.le_of_ble_eq_true rfl | omega | (dsimp only [Rm]; omega)) (by first | exact Nat.le_of_ble_eq_true rfl | omega | (dsimp only [Rm]; omega))) (fun H hp39 hS hsz hk => ?_)
    have hP : va_P D clA [] H := hP.kept (fun i q hi => hk q.1 ((hP i q hi).lt))
    have hD : va_D (fun q => s.heap.size ≤ q) [] := hD
    refine lv_aload hx hb dX1_transfer_42 (lv_at hl 0 rfl) ?_
    refine va_getN hx hb hts in_X10 hown hK (frzF (hdk.2.2.2.1 (ci x) (by omega)) hS) 0 rfl rfl 10 (by decide) ((hN _ q984 rfl).use rfl) (fun _ h => h) rfl dX1_transfer_44 ?_
    have J_99 : ∀ (zy : Int32), (zy = bI (¬ trS d x am)) → ∀ (ls : Array Slot), lv_has ls 5 [(4, .ref (z (16 + ci x))), (0, .ref o), (1, .int x), (2, .int am), (3, .int ex)] → W p l e (Rm 9 163 4 24) s m ([.ref o, .int x, .int am, .int ex] : List Value).toArray below meth c H [] (0 + 1 + 0 + 1) (0 + 6 + 0 + 6) (vy_MQ below (oQ False (some (.int 0))) (oX (fun E => (¬ hasC d x ∧ E = "java/lang/IndexOutOfBoundsException") ∨ (hasC d x ∧ trA d x am ex ∧ E = "java/lang/IllegalArgumentException") ∨ (hasC d x ∧ ¬ trA d x am ex ∧ trS d x am ∧ E = "java/lang/IllegalStateException"))) ([.ref o, .int x, .int am, .int ex] : List Value).toArray s 4 24 (fun _ => False)) (F0 m 99 ls [.int zy]) := by
      intro zy h_zy ls hl
      refine w_topi (y := bI (¬ trS d x am)) h_zy ?_
      refine o_after (vy_runS (As := [.int (bI (¬ trS d x am))]) (rest := []) (g := F0 m 99 ls [.int (bI (¬ trS d x am))]) C.fix (c_reqState l D k g (¬ trS d x am) htr) (va_cwS 1 hts (lw_S q1514 q1515 q68 q1516) rfl rfl rfl (by decide +kernel) ⟨Nat.le_of_ble_eq_true rfl, Nat.le_of_ble_eq_true rfl⟩) (preS mv2_hKX hK (fun U hU hW => (hKX_at hX hS hAN trivial hU hW))) rfl rfl hl.1 rfl (lv_room (Nat.le_of_ble_eq_true rfl)) dX1_transfer_99 ⟨(by first | exact Nat.le_of_ble_eq_true rfl | omega | (dsimp only [Rm]; omega)), (by first | exact Nat.le_of_ble_eq_true rfl | omega | (dsimp only [Rm]; omega))⟩) hS (fun E ce q9 H hth hS hk hce hcv hcl => o_out hnt hlk (Or.inr (Or.inr ⟨hp2, hp39, Classical.not_not.mp hth.1, hth.2⟩)) hS hce hcv hcl (by first | exact Nat.le_of_ble_eq_true rfl | omega | (dsimp only [Rm]; omega)) (by first | exact Nat.le_of_ble_eq_true rfl | omega | (dsimp only [Rm]; omega))) (fun H hp99 hS hsz hk => ?_)
      have hP : va_P D clA [] H := hP.kept (fun i q hi => hk q.1 ((hP i q hi).lt))
      have hD : va_D (fun q => s.heap.size ≤ q) [] := hD
      exact absurd ⟨hp2, hp39, hp99⟩ hno
    refine lv_if_eq (tgt := 98) hx hb dX1_transfer_47 (by decide) (fun c_47 => ?_) (fun c_47 => ?_)
    · refine lv_iconst (v := 0) hx hb dX1_transfer_98 rfl ?_
      exact J_99 0 (by first | exact bI_f (fun h => h (Or.inl (Or.inl c_47))) | exact bI_f (fun h => h (Or.inl (Or.inr (Or.inl c_59)))) | exact bI_f (fun h => h (Or.inl (Or.inr (Or.inr ⟨c_67, c_78⟩)))) | exact bI_f (fun h => h (Or.inr (hd.1.1.1.trans b_91))) | exact bI_t (fun h => h.elim (fun h => h.elim c_47 (fun h => h.elim c_59 (fun h => c_67 h.1))) (fun h => b_91 (hd.1.1.1.symm.trans h))) | exact bI_t (fun h => h.elim (fun h => h.elim c_47 (fun h => h.elim c_59 (fun h => h.2 c_78))) (fun h => b_91 (hd.1.1.1.symm.trans h)))) ls hl
    · refine lv_iload_n hx hb dX1_transfer_50 rfl (lv_at hl 3 rfl) ?_
      refine lv_aload_n hx hb dX1_transfer_51 rfl (lv_at hl 1 rfl) ?_
      refine va_get hx hb hts in_X1 hown hK (frzF hF hS) 0 rfl rfl 2 (by decide) (hts _ q221) (fun _ h => h) rfl dX1_transfer_52 ?_
      refine lv_iload_n hx hb dX1_transfer_55 rfl (lv_at hl 2 rfl) ?_
      refine w_topi (y := nI (ci x)) ecx ?_
      refine r_after (va_runV (As := [.int (nI (ci x))]) (rest := [.int am]) (g := F0 m 56 ls [.int (nI (ci x)), .ref (z 0), .int am]) C.fix (c_available l D k g z hf d hz (ci x) (by omega)) (cwV 1 hts (lw_V q357 q358 q359 q71 q360) rfl rfl rfl (by decide +kernel) ⟨Nat.le_of_ble_eq_true rfl, Nat.le_of_ble_eq_true rfl⟩) (preV mv2_hKX hK (va_recv hK (frzF hF hS) (ci := 2) (q0 := 1) rfl rfl) (fun U hU hW => (hKX_at hX hS hAN (dk_frF hdk hS) hU hW))) rfl rfl hl.1 rfl (lv_room (Nat.le_of_ble_eq_true rfl)) dX1_transfer_56 ⟨(by first | exact Nat.le_of_ble_eq_true rfl | omega | (dsimp only [Rm]; omega)), (by first | exact Nat.le_of_ble_eq_true rfl | omega | (dsimp only [Rm]; omega))⟩) ?_
      refine lv_icmp_gt (tgt := 98) hx hb dX1_transfer_59 (by decide) (fun c_59 => ?_) (fun c_59 => ?_)
      · refine lv_iconst (v := 0) hx hb dX1_transfer_98 rfl ?_
        exact J_99 0 (by first | exact bI_f (fun h => h (Or.inl (Or.inl c_47))) | exact bI_f (fun h => h (Or.inl (Or.inr (Or.inl c_59)))) | exact bI_f (fun h => h (Or.inl (Or.inr (Or.inr ⟨c_67, c_78⟩)))) | exact bI_f (fun h => h (Or.inr (hd.1.1.1.trans b_91))) | exact bI_t (fun h => h.elim (fun h => h.elim c_47 (fun h => h.elim c_59 (fun h => c_67 h.1))) (fun h => b_91 (hd.1.1.1.symm.trans h))) | exact bI_t (fun h => h.elim (fun h => h.elim c_47 (fun h => h.elim c_59 (fun h => h.2 c_78))) (fun h => b_91 (hd.1.1.1.symm.trans h)))) ls hl
      · refine lv_aload hx hb dX1_transfer_62 (lv_at hl 0 rfl) ?_
        refine va_getN hx hb hts in_X10 hown hK (frzF (hdk.2.2.2.1 (ci x) (by omega)) hS) 0 rfl rfl 9 (by decide) ((hN _ q982 rfl).use rfl) (fun _ h => h) rfl dX1_transfer_64 ?_
        refine lv_if_ne (tgt := 81) hx hb dX1_transfer_67 (by decide) (fun c_67 => ?_) (fun c_67 => ?_)
        · refine lv_aload_n hx hb dX1_transfer_81 rfl (lv_at hl 1 rfl) ?_
          refine va_get hx hb hts in_X1 hown hK (frzF hF hS) 0 rfl rfl 2 (by decide) (hts _ q221) (fun _ h => h) rfl dX1_transfer_82 ?_
          refine va_getN hx hb hts in_X2 hown hK (frzF hF hS) 1 rfl rfl 1 (by decide) ((hN _ q199 rfl).use rfl) (fun _ h => h) rfl dX1_transfer_85 ?_
          refine r_after (va_runV (As := []) (rest := []) (g := F0 m 88 ls [.ref (z 3)]) C.fix (c_bookFull l D k g (z 3) (z 4) (z 5) (nI (z 12)) 12 (nI (dN d 0))) (cwV 0 hts (lw_V q1513 q937 q938 q73 q939) rfl rfl rfl (by decide +kernel) ⟨Nat.le_of_ble_eq_true rfl, Nat.le_of_ble_eq_true rfl⟩) (preV mv2_hKX hK (va_recv hK (frzF hF hS) (ci := 4) (q0 := 4) rfl rfl) (fun U hU hW => (hKX_at hX hS hAN (va_cons ((frzF hF hS) 4 _ rfl) (va_cons ((frzF hF hS) 5 _ rfl) va_nil)) hU hW))) rfl rfl hl.1 rfl (lv_room (Nat.le_of_ble_eq_true rfl)) dX1_transfer_88 ⟨(by first | exact Nat.le_of_ble_eq_true rfl | omega | (dsimp only [Rm]; omega)), (by first | exact Nat.le_of_ble_eq_true rfl | omega | (dsimp only [Rm]; omega))⟩) ?_
          refine lv_if_ne (tgt := 98) hx hb dX1_transfer_91 (by decide) (fun c_91 => ?_) (fun c_91 => ?_)
          · have b_91 := bI_nz c_91
            refine lv_iconst (v := 0) hx hb dX1_transfer_98 rfl ?_
            exact J_99 0 (by first | exact bI_f (fun h => h (Or.inl (Or.inl c_47))) | exact bI_f (fun h => h (Or.inl (Or.inr (Or.inl c_59)))) | exact bI_f (fun h => h (Or.inl (Or.inr (Or.inr ⟨c_67, c_78⟩)))) | exact bI_f (fun h => h (Or.inr (hd.1.1.1.trans b_91))) | exact bI_t (fun h => h.elim (fun h => h.elim c_47 (fun h => h.elim c_59 (fun h => c_67 h.1))) (fun h => b_91 (hd.1.1.1.symm.trans h))) | exact bI_t (fun h => h.elim (fun h => h.elim c_47 (fun h => h.elim c_59 (fun h => h.2 c_78))) (fun h => b_91 (hd.1.1.1.symm.trans h)))) ls hl
          · have b_91 := bI_0.mp c_91
            refine lv_iconst (v := 1) hx hb dX1_transfer_94 rfl ?_
            refine lv_goto (tgt := 99) hx hb dX1_transfer_95 (by decide) ?_
            exact J_99 1 (by first | exact bI_f (fun h => h (Or.inl (Or.inl c_47))) | exact bI_f (fun h => h (Or.inl (Or.inr (Or.inl c_59)))) | exact bI_f (fun h => h (Or.inl (Or.inr (Or.inr ⟨c_67, c_78⟩)))) | exact bI_f (fun h => h (Or.inr (hd.1.1.1.trans b_91))) | exact bI_t (fun h => h.elim (fun h => h.elim c_47 (fun h => h.elim c_59 (fun h => c_67 h.1))) (fun h => b_91 (hd.1.1.1.symm.trans h))) | exact bI_t (fun h => h.elim (fun h => h.elim c_47 (fun h => h.elim c_59 (fun h => h.2 c_78))) (fun h => b_91 (hd.1.1.1.symm.trans h)))) ls hl
        · refine lv_aload_n hx hb dX1_transfer_70 rfl (lv_at hl 1 rfl) ?_
          refine va_get hx hb hts in_X1 hown hK (frzF hF hS) 0 rfl rfl 2 (by decide) (hts _ q221) (fun _ h => h) rfl dX1_transfer_71 ?_
          refine lv_iload_n hx hb dX1_transfer_74 rfl (lv_at hl 2 rfl) ?_
          refine r_after (va_runV (As := [.int x]) (rest := []) (g := F0 m 75 ls [.int x, .ref (z 0)]) C.fix (c_transferred l D k g z hf d hz x) (cwV 1 hts (lw_V q1380 q368 q369 q71 q370) rfl rfl rfl (by decide +kernel) ⟨Nat.le_of_ble_eq_true rfl, Nat.le_of_ble_eq_true rfl⟩) (preV mv2_hKX hK (va_recv hK (frzF hF hS) (ci := 2) (q0 := 1) rfl rfl) (fun U hU hW => (hKX_at hX hS hAN (dk_frF hdk hS) hU hW))) rfl rfl hl.1 rfl (lv_room (Nat.le_of_ble_eq_true rfl)) dX1_transfer_75 ⟨(by first | exact Nat.le_of_ble_eq_true rfl | omega | (dsimp only [Rm]; omega)), (by first | exact Nat.le_of_ble_eq_true rfl | omega | (dsimp only [Rm]; omega))⟩) ?_
          refine lv_if_ne (tgt := 98) hx hb dX1_transfer_78 (by decide) (fun c_78 => ?_) (fun c_78 => ?_)
          · refine lv_iconst (v := 0) hx hb dX1_transfer_98 rfl ?_
            exact J_99 0 (by first | exact bI_f (fun h => h (Or.inl (Or.inl c_47))) | exact bI_f (fun h => h (Or.inl (Or.inr (Or.inl c_59)))) | exact bI_f (fun h => h (Or.inl (Or.inr (Or.inr ⟨c_67, c_78⟩)))) | exact bI_f (fun h => h (Or.inr (hd.1.1.1.trans b_91))) | exact bI_t (fun h => h.elim (fun h => h.elim c_47 (fun h => h.elim c_59 (fun h => c_67 h.1))) (fun h => b_91 (hd.1.1.1.symm.trans h))) | exact bI_t (fun h => h.elim (fun h => h.elim c_47 (fun h => h.elim c_59 (fun h => h.2 c_78))) (fun h => b_91 (hd.1.1.1.symm.trans h)))) ls hl
          · refine lv_aload_n hx hb dX1_transfer_81 rfl (lv_at hl 1 rfl) ?_
            refine va_get hx hb hts in_X1 hown hK (frzF hF hS) 0 rfl rfl 2 (by decide) (hts _ q221) (fun _ h => h) rfl dX1_transfer_82 ?_
            refine va_getN hx hb hts in_X2 hown hK (frzF hF hS) 1 rfl rfl 1 (by decide) ((hN _ q199 rfl).use rfl) (fun _ h => h) rfl dX1_transfer_85 ?_
            refine r_after (va_runV (As := []) (rest := []) (g := F0 m 88 ls [.ref (z 3)]) C.fix (c_bookFull l D k g (z 3) (z 4) (z 5) (nI (z 12)) 12 (nI (dN d 0))) (cwV 0 hts (lw_V q1513 q937 q938 q73 q939) rfl rfl rfl (by decide +kernel) ⟨Nat.le_of_ble_eq_true rfl, Nat.le_of_ble_eq_true rfl⟩) (preV mv2_hKX hK (va_recv hK (frzF hF hS) (ci := 4) (q0 := 4) rfl rfl) (fun U hU hW => (hKX_at hX hS hAN (va_cons ((frzF hF hS) 4 _ rfl) (va_cons ((frzF hF hS) 5 _ rfl) va_nil)) hU hW))) rfl rfl hl.1 rfl (lv_room (Nat.le_of_ble_eq_true rfl)) dX1_transfer_88 ⟨(by first | exact Nat.le_of_ble_eq_true rfl | omega | (dsimp only [Rm]; omega)), (by first | exact Nat.le_of_ble_eq_true rfl | omega | (dsimp only [Rm]; omega))⟩) ?_
            refine lv_if_ne (tgt := 98) hx hb dX1_transfer_91 (by decide) (fun c_91 => ?_) (fun c_91 => ?_)
            · have b_91 := bI_nz c_91
              refine lv_iconst (v := 0) hx hb dX1_transfer_98 rfl ?_
              exact J_99 0 (by first | exact bI_f (fun h => h (Or.inl (Or.inl c_47))) | exact bI_f (fun h => h (Or.inl (Or.inr (Or.inl c_59)))) | exact bI_f (fun h => h (Or.inl (Or.inr (Or.inr ⟨c_67, c_78⟩)))) | exact bI_f (fun h => h (Or.inr (hd.1.1.1.trans b_91))) | exact bI_t (fun h => h.elim (fun h => h.elim c_47 (fun h => h.elim c_59 (fun h => c_67 h.1))) (fun h => b_91 (hd.1.1.1.symm.trans h))) | exact bI_t (fun h => h.elim (fun h => h.elim c_47 (fun h => h.elim c_59 (fun h => h.2 c_78))) (fun h => b_91 (hd.1.1.1.symm.trans h)))) ls hl
            · have b_91 := bI_0.mp c_91
              refine lv_iconst (v := 1) hx hb dX1_transfer_94 rfl ?_
              refine lv_goto (tgt := 99) hx hb dX1_transfer_95 (by decide) ?_
              exact J_99 1 (by first | exact bI_f (fun h => h (Or.inl (Or.inl c_47))) | exact bI_f (fun h => h (Or.inl (Or.inr (Or.inl c_59)))) | exact bI_f (fun h => h (Or.inl (Or.inr (Or.inr ⟨c_67, c_78⟩)))) | exact bI_f (fun h => h (Or.inr (hd.1.1.1.trans b_91))) | exact bI_t (fun h => h.elim (fun h => h.elim c_47 (fun h => h.elim c_59 (fun h => c_67 h.1))) (fun h => b_91 (hd.1.1.1.symm.trans h))) | exact bI_t (fun h => h.elim (fun h => h.elim c_47 (fun h => h.elim c_59 (fun h => h.2 c_78))) (fun h => b_91 (hd.1.1.1.symm.trans h)))) ls hl
  refine lv_if_eq (tgt := 38) hx hb dX1_transfer_16 (by decide) (fun c_16 => ?_) (fun c_16 => ?_)
  · have b_16 := bI_0.mp c_16
    refine lv_iconst (v := 0) hx hb dX1_transfer_38 rfl ?_
    exact J_39 0 (by first | exact bI_f (fun h => b_16 ((trA_i hd hcx).mpr h).1) | exact bI_f (fun h => b_31 ((trA_i hd hcx).mpr h).2) | exact bI_t ((trA_i hd hcx).mp ⟨b_16, b_31⟩)) ls hl
  · have b_16 := bI_nz c_16
    refine lv_iload_n hx hb dX1_transfer_19 rfl (lv_at hl 4 rfl) ?_
    refine lv_i2l (v := ex.toInt64) hx hb dX1_transfer_20 rfl ?_
    refine lv_lconst (v := 0) hx hb dX1_transfer_21 rfl ?_
    refine lv_aload hx hb dX1_transfer_22 (lv_at hl 0 rfl) ?_
    refine va_getN hx hb hts in_X10 hown hK (frzF (hdk.2.2.2.1 (ci x) (by omega)) hS) 0 rfl rfl 4 (by decide) ((hN _ q971 rfl).use rfl) (fun _ h => h) rfl dX1_transfer_24 ?_
    refine lv_i2l (v := (cf d (ci x) 3).toInt64) hx hb dX1_transfer_27 rfl ?_
    refine r_after (va_runS (As := [.long ex.toInt64, .long 0, .long ((cf d (ci x) 3).toInt64)]) (rest := []) (g := F0 m 28 ls [.long ((cf d (ci x) 3).toInt64), .long 0, .long ex.toInt64]) C.fix (c_isBetween l D k ex.toInt64 0 ((cf d (ci x) 3).toInt64)) (va_cwS 3 hts (lw_S q301 q302 q68 q303) rfl rfl rfl (by decide +kernel) ⟨Nat.le_of_ble_eq_true rfl, Nat.le_of_ble_eq_true rfl⟩) (preR hK trivial) rfl rfl hl.1 rfl (lv_room (Nat.le_of_ble_eq_true rfl)) dX1_transfer_28 ⟨(by first | exact Nat.le_of_ble_eq_true rfl | omega | (dsimp only [Rm]; omega)), (by first | exact Nat.le_of_ble_eq_true rfl | omega | (dsimp only [Rm]; omega))⟩) ?_
    refine w_topi (y := bI (inR ex 0 (cf d (ci x) 3))) (congrArg bI (bet ex 0 (cf d (ci x) 3) (by decide) rfl)) ?_
    refine lv_if_eq (tgt := 38) hx hb dX1_transfer_31 (by decide) (fun c_31 => ?_) (fun c_31 => ?_)
    · have b_31 := bI_0.mp c_31
      refine lv_iconst (v := 0) hx hb dX1_transfer_38 rfl ?_
      exact J_39 0 (by first | exact bI_f (fun h => b_16 ((trA_i hd hcx).mpr h).1) | exact bI_f (fun h => b_31 ((trA_i hd hcx).mpr h).2) | exact bI_t ((trA_i hd hcx).mp ⟨b_16, b_31⟩)) ls hl
    · have b_31 := bI_nz c_31
      refine lv_iconst (v := 1) hx hb dX1_transfer_34 rfl ?_
      refine lv_goto (tgt := 39) hx hb dX1_transfer_35 (by decide) ?_
      exact J_39 1 (by first | exact bI_f (fun h => b_16 ((trA_i hd hcx).mpr h).1) | exact bI_f (fun h => b_31 ((trA_i hd hcx).mpr h).2) | exact bI_t ((trA_i hd hcx).mp ⟨b_16, b_31⟩)) ls hl
