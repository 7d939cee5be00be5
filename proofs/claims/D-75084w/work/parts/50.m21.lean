/-! the component: Integer, Calendar$1, Calendar (printed by gen/m21.py) -/
set_option maxRecDepth 100000
set_option maxHeartbeats 4000000 in
theorem j_intValue (l : Launch) (D : va_G) (k : Nat → ClassId) (g : Nat → Nat) (b : Nat) (v : Int32) : gM l D k yJ18_intValue cJ18_intValue 1 (some .int) 0 0 0 0 [.ref b] (hKX (bx D b v) g) (some (.int v)) := by
  refine gM_of (by decide) (Nat.le_of_ble_eq_true rfl) ?_
  intro p e s m below meth c ls C hK ⟨hF, hX⟩ hS hl
  obtain ⟨hx, hb, hr, hml, hown, hts, hlk⟩ := id C
  have hl : lv_has ls 1 [(0, .ref b)] := hl
  refine lv_aload_n hx hb dJ18_intValue_0 rfl (lv_at hl 0 rfl) ?_
  refine vk_getf hx hb (bx_OF hK hX.ki hF) va_S.rf hown (hts _ q1267) (fun _ h => h) dJ18_intValue_1 ?_
  exact g_iret C rfl hS (Nat.le_refl _) (Nat.le_refl _) dJ18_intValue_4
set_option maxHeartbeats 4000000 in
theorem j_NumberInit (l : Launch) (D : va_G) (k : Nat → ClassId) (g : Nat → Nat) (q : Nat) (wr : va_W) (A : Nat → Prop) (hD : va_D A wr) (hAN : ∀ q, A q → g 0 ≤ q) : kM l D k yJ17_init cJ17_init 1 none 1 20 0 0 [.ref q] (wr) (hKX (fun HH => True) g) (fun _ : Unit => none) (fun _ _ => True) (fun _ : Unit => (wr)) A := by
  refine kM_of (by decide) (Nat.le_of_ble_eq_true rfl) ?_
  intro p e s m below meth c ls C hnm hK hP hA ⟨_, hX⟩ hS hl
  have hN : NW s := hX.nw
  obtain ⟨hx, hb, hr, hml, hown, hts, hlk⟩ := id C
  have hl : lv_has ls 1 [(0, .ref q)] := hl
  refine lv_aload_n hx hb dJ17_init_0 rfl (lv_at hl 0 rfl) ?_
  refine W.objInit hx hb hown (hts _ q1266) (hts _ q112) (hts _ q113) rfl (by rw [hml]; exact hl.1) rfl dJ17_init_1 (Nat.le_of_ble_eq_true rfl) (Nat.le_of_ble_eq_true rfl) ?_
  exact k_vret C () rfl trivial hP (va_D_of hD rfl) hS (by first | exact Nat.le_of_ble_eq_true rfl | omega | (dsimp only [Rm]; omega)) (by first | exact Nat.le_of_ble_eq_true rfl | omega | (dsimp only [Rm]; omega)) dJ17_init_4
set_option maxHeartbeats 4000000 in
theorem j_IntegerInit (l : Launch) (D : va_G) (k : Nat → ClassId) (g : Nat → Nat) (q : Nat) (x : Int32) (wr : va_W) (A : Nat → Prop) (hD : va_D A ((q, .inr (15, [.int 0])) :: wr)) (hAN : ∀ q, A q → g 0 ≤ q) : kM l D k yJ18_init cJ18_init 2 none 2 40 0 0 [.ref q, .int x] ((q, .inr (15, [.int 0])) :: wr) (hKX (fun HH => True) g) (fun _ : Unit => none) (fun _ _ => True) (fun _ : Unit => ((q, .inr (15, [.int x])) :: wr)) A := by
  refine kM_of (by decide) (Nat.le_of_ble_eq_true rfl) ?_
  intro p e s m below meth c ls C hnm hK hP hA ⟨_, hX⟩ hS hl
  have hN : NW s := hX.nw
  obtain ⟨hx, hb, hr, hml, hown, hts, hlk⟩ := id C
  have hl : lv_has ls 2 [(0, .ref q), (1, .int x)] := hl
  refine lv_aload_n hx hb dJ18_init_0 rfl (lv_at hl 0 rfl) ?_
  refine k_after (va_runI (As := []) (rest := []) (g := F0 m 1 ls [.ref q]) C.fix (j_NumberInit l D k g q ((q, .inr (15, [.int 0])) :: wr) A (va_D_of hD rfl) hAN) (cwC 0 hts q1263 q1264 q92 q1265 rfl rfl rfl (by decide +kernel) ⟨Nat.le_of_ble_eq_true rfl, Nat.le_of_ble_eq_true rfl⟩) (preS (mv2_hPre mv2_hKX) hK (fun U hU hW => ⟨by rw [hU]; exact hP, by rw [hU]; exact fun q h => hA q (Nat.le_trans hS.1 h), (hKX_at hX hS hAN trivial hU hW)⟩)) rfl rfl hl.1 rfl (lv_room (Nat.le_of_ble_eq_true rfl)) dJ18_init_1 ⟨(by first | exact Nat.le_of_ble_eq_true rfl | omega | (dsimp only [Rm]; omega)), (by first | exact Nat.le_of_ble_eq_true rfl | omega | (dsimp only [Rm]; omega))⟩) hS (fun _ h => h) (fun xx H locs hB hP hD hS hsz hk => ?_)
  have hP : va_P D clA ((q, .inr (15, [.int 0])) :: wr) H := hP
  have hD : va_D A ((q, .inr (15, [.int 0])) :: wr) := hD
  refine lv_aload_n hx hb dJ18_init_4 rfl (lv_at hl 0 rfl) ?_
  refine lv_iload_n hx hb dJ18_init_5 rfl (lv_at hl 1 rfl) ?_
  refine va_putF hx hb hts in_J18 tyJ18 tyJ18_ok nmJ18 hown hK hP (va_D_of hD rfl) hS 0 rfl rfl 0 (by decide) (hts _ q1267) (fun _ h => h) rfl hnm rfl rfl rfl rfl (Nat.le_of_ble_eq_true rfl) dJ18_init_6 (fun H locs hP _ hS => ?_)
  have hP : va_P D clA ((q, .inr (15, [.int x])) :: wr) H := hP
  exact k_vret C () rfl trivial hP (va_D_of hD rfl) hS (by first | exact Nat.le_of_ble_eq_true rfl | omega | (dsimp only [Rm]; omega)) (by first | exact Nat.le_of_ble_eq_true rfl | omega | (dsimp only [Rm]; omega)) dJ18_init_9
set_option maxHeartbeats 4000000 in
theorem j_valueOf (l : Launch) (D : va_G) (k : Nat → ClassId) (g : Nat → Nat) (x : Int32) (wr : va_W) (A : Nat → Prop) (hD : va_D A wr) (hAN : ∀ q, A q → g 0 ≤ q) : kM l D k yJ18_valueOf cJ18_valueOf 1 (some (.object "java/lang/Integer")) 3 61 1 1 [.int x] (wr) (hKX (fun HH => True) g) (fun xx : Nat => some (.ref xx)) (fun (xx : Nat) HH => bx D xx x HH) (fun xx : Nat => (wr)) A := by
  refine kM_of (by decide) (Nat.le_of_ble_eq_true rfl) ?_
  intro p e s m below meth c ls C hnm hK hP hA ⟨_, hX⟩ hS hl
  have hN : NW s := hX.nw
  obtain ⟨hx, hb, hr, hml, hown, hts, hlk⟩ := id C
  have hl : lv_has ls 1 [(0, .int x)] := hl
  obtain ⟨cA, ad, k1, k2, k3, k4⟩ := hX.ki
  have hSg : va_S (G0 g) s.heap s.heap [] := S_wide hS hAN
  refine lv_iload_n hx hb dJ18_valueOf_0 rfl (lv_at hl 0 rfl) ?_
  refine lv_bipush (v := (-128)) hx hb dJ18_valueOf_1 rfl ?_
  refine lv_icmp_lt (tgt := 23) hx hb dJ18_valueOf_3 (by decide) (fun c_3 => ?_) (fun c_3 => ?_)
  · refine n_new (fs := [.int 0]) hx hb hts in_J18 tyJ18 tyJ18_ok hown (hts _ q1258) (hts _ q1259) (hts _ q93) hK hP (va_D_of hD rfl) hS hA (ci := 15) rfl (by decide +kernel) (by first | exact Nat.le_of_ble_eq_true rfl | omega | (dsimp only [Rm]; omega)) (by first | exact Nat.le_of_ble_eq_true rfl | omega | (dsimp only [Rm]; omega)) dJ18_valueOf_23 (fun b H _ hP hD hS => ?_)
    refine lv_dup hx hb dJ18_valueOf_26 rfl ?_
    refine lv_iload_n hx hb dJ18_valueOf_27 rfl (lv_at hl 0 rfl) ?_
    refine k_after (va_runI (As := [.int x]) (rest := [.ref b]) (g := F0 m 28 ls [.int x, .ref b, .ref b]) C.fix (j_IntegerInit l D k g b x wr A (va_D_of hD rfl) hAN) (cwC 1 hts q1260 q1261 q93 q1262 rfl rfl rfl (by decide +kernel) ⟨Nat.le_of_ble_eq_true rfl, Nat.le_of_ble_eq_true rfl⟩) (preS (mv2_hPre mv2_hKX) hK (fun U hU hW => ⟨by rw [hU]; exact hP, by rw [hU]; exact fun q h => hA q (Nat.le_trans hS.1 h), (hKX_at hX hS hAN trivial hU hW)⟩)) rfl rfl hl.1 rfl (lv_room (Nat.le_of_ble_eq_true rfl)) dJ18_valueOf_28 ⟨(by first | exact Nat.le_of_ble_eq_true rfl | omega | (dsimp only [Rm]; omega)), (by first | exact Nat.le_of_ble_eq_true rfl | omega | (dsimp only [Rm]; omega))⟩) hS (fun _ h => h) (fun xx H locs hB hP hD hS hsz hk => ?_)
    have hP : va_P D clA ((b, .inr (15, [.int x])) :: wr) H := hP
    have hD : va_D A ((b, .inr (15, [.int x])) :: wr) := hD
    exact k_aret C (Or.inl ⟨_, rfl⟩) b rfl (bx_made hP 0 rfl) (P_tl hP) (D_tl hD) hS (by first | exact Nat.le_of_ble_eq_true rfl | omega | (dsimp only [Rm]; omega)) (by first | exact Nat.le_of_ble_eq_true rfl | omega | (dsimp only [Rm]; omega)) dJ18_valueOf_31
  · refine lv_iload_n hx hb dJ18_valueOf_6 rfl (lv_at hl 0 rfl) ?_
    refine va_gets (v := .int 127) hx hb k1 hSg hown (hts _ q1254) (fun _ h => h) dJ18_valueOf_7 ?_
    refine lv_icmp_gt (tgt := 23) hx hb dJ18_valueOf_10 (by decide) (fun c_10 => ?_) (fun c_10 => ?_)
    · refine n_new (fs := [.int 0]) hx hb hts in_J18 tyJ18 tyJ18_ok hown (hts _ q1258) (hts _ q1259) (hts _ q93) hK hP (va_D_of hD rfl) hS hA (ci := 15) rfl (by decide +kernel) (by first | exact Nat.le_of_ble_eq_true rfl | omega | (dsimp only [Rm]; omega)) (by first | exact Nat.le_of_ble_eq_true rfl | omega | (dsimp only [Rm]; omega)) dJ18_valueOf_23 (fun b H _ hP hD hS => ?_)
      refine lv_dup hx hb dJ18_valueOf_26 rfl ?_
      refine lv_iload_n hx hb dJ18_valueOf_27 rfl (lv_at hl 0 rfl) ?_
      refine k_after (va_runI (As := [.int x]) (rest := [.ref b]) (g := F0 m 28 ls [.int x, .ref b, .ref b]) C.fix (j_IntegerInit l D k g b x wr A (va_D_of hD rfl) hAN) (cwC 1 hts q1260 q1261 q93 q1262 rfl rfl rfl (by decide +kernel) ⟨Nat.le_of_ble_eq_true rfl, Nat.le_of_ble_eq_true rfl⟩) (preS (mv2_hPre mv2_hKX) hK (fun U hU hW => ⟨by rw [hU]; exact hP, by rw [hU]; exact fun q h => hA q (Nat.le_trans hS.1 h), (hKX_at hX hS hAN trivial hU hW)⟩)) rfl rfl hl.1 rfl (lv_room (Nat.le_of_ble_eq_true rfl)) dJ18_valueOf_28 ⟨(by first | exact Nat.le_of_ble_eq_true rfl | omega | (dsimp only [Rm]; omega)), (by first | exact Nat.le_of_ble_eq_true rfl | omega | (dsimp only [Rm]; omega))⟩) hS (fun _ h => h) (fun xx H locs hB hP hD hS hsz hk => ?_)
      have hP : va_P D clA ((b, .inr (15, [.int x])) :: wr) H := hP
      have hD : va_D A ((b, .inr (15, [.int x])) :: wr) := hD
      exact k_aret C (Or.inl ⟨_, rfl⟩) b rfl (bx_made hP 0 rfl) (P_tl hP) (D_tl hD) hS (by first | exact Nat.le_of_ble_eq_true rfl | omega | (dsimp only [Rm]; omega)) (by first | exact Nat.le_of_ble_eq_true rfl | omega | (dsimp only [Rm]; omega)) dJ18_valueOf_31
    · refine va_gets (v := .ref cA) hx hb k2 hSg hown (hts _ q1256) (fun _ h => h) dJ18_valueOf_13 ?_
      refine lv_iload_n hx hb dJ18_valueOf_16 rfl (lv_at hl 0 rfl) ?_
      refine lv_sipush (v := 128) hx hb dJ18_valueOf_17 rfl ?_
      refine lv_iadd hx hb dJ18_valueOf_20 ?_
      obtain ⟨j, hj, rfl⟩ : ∃ j, j < 256 ∧ x = vb_c j := vb_in c_3 c_10
      refine w_topi (y := nI j) (vb_add j) ?_
      refine vb_tq (v := .ref (ad j)) hx hb k3 hSg (vp_in_nI hj (by decide)) (by rw [nI_clamp (by omega)]) dJ18_valueOf_21 ?_
      exact k_aret C (Or.inl ⟨_, rfl⟩) (ad j) rfl (bx_old hK (k4.1 j hj) (k4.2 j hj)) hP (va_D_of hD rfl) hS (by first | exact Nat.le_of_ble_eq_true rfl | omega | (dsimp only [Rm]; omega)) (by first | exact Nat.le_of_ble_eq_true rfl | omega | (dsimp only [Rm]; omega)) dJ18_valueOf_22
set_option maxHeartbeats 4000000 in
theorem c_X11_init (l : Launch) (D : va_G) (k : Nat → ClassId) (g : Nat → Nat) (q ca : Nat) (x : Int32) (wr : va_W) (A : Nat → Prop) (hD : va_D A ((q, .inr (9, [.int 0, .int 0, .null])) :: wr)) (hAN : ∀ q, A q → g 0 ≤ q) : kM l D k yX11_init cX11_init 3 none 1 20 0 0 [.ref q, .ref ca, .int x] ((q, .inr (9, [.int 0, .int 0, .null])) :: wr) (hKX (fun HH => True) g) (fun _ : Unit => none) (fun _ _ => True) (fun _ : Unit => ((q, .inr (9, [.int x, .int x, .ref ca])) :: wr)) A := by
  refine kM_of (by decide) (Nat.le_of_ble_eq_true rfl) ?_
  intro p e s m below meth c ls C hnm hK hP hA ⟨_, hX⟩ hS hl
  have hN : NW s := hX.nw
  obtain ⟨hx, hb, hr, hml, hown, hts, hlk⟩ := id C
  have hl : lv_has ls 3 [(0, .ref q), (1, .ref ca), (2, .int x)] := hl
  refine lv_aload_n hx hb dX11_init_0 rfl (lv_at hl 0 rfl) ?_
  refine lv_aload_n hx hb dX11_init_1 rfl (lv_at hl 1 rfl) ?_
  refine va_putF hx hb hts in_X11 tyX11 tyX11_ok nmX11 hown hK hP (va_D_of hD rfl) hS 0 rfl rfl 2 (by decide) (hts _ q1209) (fun _ h => h) rfl hnm rfl rfl rfl rfl (Nat.le_of_ble_eq_true rfl) dX11_init_2 (fun H locs hP _ hS => ?_)
  have hP : va_P D clA ((q, .inr (9, [.int 0, .int 0, .ref ca])) :: wr) H := hP
  refine lv_aload_n hx hb dX11_init_5 rfl (lv_at hl 0 rfl) ?_
  refine lv_iload_n hx hb dX11_init_6 rfl (lv_at hl 2 rfl) ?_
  refine va_putF hx hb hts in_X11 tyX11 tyX11_ok nmX11 hown hK hP (va_D_of hD rfl) hS 0 rfl rfl 1 (by decide) (hts _ q1208) (fun _ h => h) rfl hnm rfl rfl rfl rfl (Nat.le_of_ble_eq_true rfl) dX11_init_7 (fun H locs hP _ hS => ?_)
  have hP : va_P D clA ((q, .inr (9, [.int 0, .int x, .ref ca])) :: wr) H := hP
  refine lv_aload_n hx hb dX11_init_10 rfl (lv_at hl 0 rfl) ?_
  refine W.objInit hx hb hown (hts _ q1206) (hts _ q112) (hts _ q113) rfl (by rw [hml]; exact hl.1) rfl dX11_init_11 (Nat.le_of_ble_eq_true rfl) (Nat.le_of_ble_eq_true rfl) ?_
  refine lv_aload_n hx hb dX11_init_14 rfl (lv_at hl 0 rfl) ?_
  refine lv_aload_n hx hb dX11_init_15 rfl (lv_at hl 0 rfl) ?_
  refine va_get hx hb hts in_X11 hown hK hP 0 rfl rfl 1 (by decide) (hts _ q1208) (fun _ h => h) rfl dX11_init_16 ?_
  refine va_put hx hb hts in_X11 tyX11 tyX11_ok nmX11 hown hK hP (va_D_of hD rfl) hS 0 rfl rfl 0 (by decide) (hts _ q1207) (fun _ h => h) rfl rfl rfl rfl (Nat.le_of_ble_eq_true rfl) dX11_init_19 (fun H locs hP _ hS => ?_)
  have hP : va_P D clA ((q, .inr (9, [.int x, .int x, .ref ca])) :: wr) H := hP
  exact k_vret C () rfl trivial hP (va_D_of hD rfl) hS (by first | exact Nat.le_of_ble_eq_true rfl | omega | (dsimp only [Rm]; omega)) (by first | exact Nat.le_of_ble_eq_true rfl | omega | (dsimp only [Rm]; omega)) dX11_init_22
set_option maxHeartbeats 4000000 in
theorem c_from (l : Launch) (D : va_G) (k : Nat → ClassId) (g : Nat → Nat) (ca : Nat) (x : Int32) (wr : va_W) (A : Nat → Prop) (hD : va_D A wr) (hAN : ∀ q, A q → g 0 ≤ q) : kM l D k yX3_from cX3_from 2 (some (.object "java/util/Iterator")) 2 42 1 3 [.ref ca, .int x] (wr) (hKX (fun HH => True) g) (fun xx : Nat => some (.ref xx)) (fun _ _ => True) (fun xx : Nat => ((xx, .inr (9, [.int x, .int x, .ref ca])) :: wr)) A := by
  refine kM_of (by decide) (Nat.le_of_ble_eq_true rfl) ?_
  intro p e s m below meth c ls C hnm hK hP hA ⟨_, hX⟩ hS hl
  have hN : NW s := hX.nw
  obtain ⟨hx, hb, hr, hml, hown, hts, hlk⟩ := id C
  have hl : lv_has ls 2 [(0, .ref ca), (1, .int x)] := hl
  refine n_new (fs := [.int 0, .int 0, .null]) hx hb hts in_X11 tyX11 tyX11_ok hown (hts _ q1201) (hts _ q1202) (hts _ q99) hK hP (va_D_of hD rfl) hS hA (ci := 9) rfl (by decide +kernel) (by first | exact Nat.le_of_ble_eq_true rfl | omega | (dsimp only [Rm]; omega)) (by first | exact Nat.le_of_ble_eq_true rfl | omega | (dsimp only [Rm]; omega)) dX3_from_0 (fun q H _ hP hD hS => ?_)
  refine lv_dup hx hb dX3_from_3 rfl ?_
  refine lv_aload_n hx hb dX3_from_4 rfl (lv_at hl 0 rfl) ?_
  refine lv_iload_n hx hb dX3_from_5 rfl (lv_at hl 1 rfl) ?_
  refine k_after (va_runI (As := [.ref ca, .int x]) (rest := [.ref q]) (g := F0 m 6 ls [.int x, .ref ca, .ref q, .ref q]) C.fix (c_X11_init l D k g q ca x wr A (va_D_of hD rfl) hAN) (cwC 2 hts q1203 q1204 q99 q1205 rfl rfl rfl (by decide +kernel) ⟨Nat.le_of_ble_eq_true rfl, Nat.le_of_ble_eq_true rfl⟩) (preS (mv2_hPre mv2_hKX) hK (fun U hU hW => ⟨by rw [hU]; exact hP, by rw [hU]; exact fun q h => hA q (Nat.le_trans hS.1 h), (hKX_at hX hS hAN trivial hU hW)⟩)) rfl rfl hl.1 rfl (lv_room (Nat.le_of_ble_eq_true rfl)) dX3_from_6 ⟨(by first | exact Nat.le_of_ble_eq_true rfl | omega | (dsimp only [Rm]; omega)), (by first | exact Nat.le_of_ble_eq_true rfl | omega | (dsimp only [Rm]; omega))⟩) hS (fun _ h => h) (fun xx H locs hB hP hD hS hsz hk => ?_)
  have hP : va_P D clA ((q, .inr (9, [.int x, .int x, .ref ca])) :: wr) H := hP
  have hD : va_D A ((q, .inr (9, [.int x, .int x, .ref ca])) :: wr) := hD
  exact k_aret C (Or.inl ⟨_, rfl⟩) q rfl trivial hP (va_D_of hD rfl) hS (by first | exact Nat.le_of_ble_eq_true rfl | omega | (dsimp only [Rm]; omega)) (by first | exact Nat.le_of_ble_eq_true rfl | omega | (dsimp only [Rm]; omega)) dX3_from_9
set_option maxHeartbeats 4000000 in
theorem c_hasNext (l : Launch) (D : va_G) (k : Nat → ClassId) (q : Nat) : rM l D k yX11_hasNext cX11_hasNext 1 (some .boolean) 0 0 [.ref q] (fun _ => True) (some (.int (bI True))) := by
  refine rM_of (by decide) (Nat.le_of_ble_eq_true rfl) ?_
  intro p e s m below meth c ls C hK _ hl
  obtain ⟨hx, hb, hr, hml, hown, hts, hlk⟩ := id C
  have hl : lv_has ls 1 [(0, .ref q)] := hl
  refine lv_iconst (v := 1) hx hb dX11_hasNext_0 rfl ?_
  exact r_zret C (bI_t trivial) dX11_hasNext_1
theorem ext_uniq {d : Nat → Int32} {n i : Nat} (hd : okD d) (h : n < 2 ^ 30) (h1 : n ≤ i) (h2 : i ≤ ext d n) (h3 : isBus d i) : i = ext d n := by
  obtain ⟨e1, e2, e3, e4⟩ := ext_spec hd h
  rcases Nat.lt_or_ge i (ext d n) with q | q
  · exact absurd h3 (e3 i h1 q)
  · omega
set_option maxHeartbeats 4000000 in
theorem c_next2 (l : Launch) (D : va_G) (k : Nat → ClassId) (g : Nat → Nat) (ca ha : Nat) (hf d : Nat → Int32) (hd : okD d) (hh : ∀ j, j < dN d 2 → hf j = d (6 + j)) (q n0 : Nat) (hn0 : n0 < 2 ^ 29) (x : Int32) (wr : va_W) (A : Nat → Prop) (hnA : ∀ q ∈ ([(ca, .inr (3, [.ref ha, .int (d 2)])), (ha, .inl (k 0, 16, .inl hf))] : va_W), ¬ A q.1) (hD : va_D A ((q, .inr (9, [.int (nI n0), .int x, .ref ca])) :: wr)) (hAN : ∀ q, A q → g 0 ≤ q) : kM l D k yX11_next_2 cX11_next_2 1 (some (.object "java/lang/Integer")) 4 81 1 1 [.ref q] ((q, .inr (9, [.int (nI n0), .int x, .ref ca])) :: wr) (hKX (fun HH => va_P D clA [(ca, .inr (3, [.ref ha, .int (d 2)])), (ha, .inl (k 0, 16, .inl hf))] HH) g) (fun xx : Nat => some (.ref xx)) (fun (xx : Nat) HH => bx D xx (nI (ext d n0)) HH) (fun xx : Nat => ((q, .inr (9, [.int (nI (ext d n0 + 1)), .int x, .ref ca])) :: wr)) A := by
  refine kM_of (by decide) (Nat.le_of_ble_eq_true rfl) ?_
  intro p e s m below meth c ls C hnm hK hP hA ⟨hF, hX⟩ hS hl
  have hN : NW s := hX.nw
  obtain ⟨hx, hb, hr, hml, hown, hts, hlk⟩ := id C
  have hl : lv_has ls 1 [(0, .ref q)] := hl
  obtain ⟨e1, e2, e3, e4⟩ := ext_spec hd (n := n0) (by omega)
  refine lv_aload_n hx hb dX11_next_2_0 rfl (lv_at hl 0 rfl) ?_
  refine r_after (va_runV (As := []) (rest := []) (g := F0 m 1 ls [.ref q]) C.fix (c_hasNext l D k q) (cwV 0 hts (lw_V q1231 q1232 q1233 q99 q1234) rfl rfl rfl (by decide +kernel) ⟨Nat.le_of_ble_eq_true rfl, Nat.le_of_ble_eq_true rfl⟩) (preRV hK (va_recv hK hP (ci := 9) (q0 := 0) rfl rfl) trivial) rfl rfl hl.1 rfl (lv_room (Nat.le_of_ble_eq_true rfl)) dX11_next_2_1 ⟨(by first | exact Nat.le_of_ble_eq_true rfl | omega | (dsimp only [Rm]; omega)), (by first | exact Nat.le_of_ble_eq_true rfl | omega | (dsimp only [Rm]; omega))⟩) ?_
  refine lv_if_ne (tgt := 15) hx hb dX11_next_2_4 (by decide) (fun c_4 => ?_) (fun c_4 => ?_)
  · have b_4 := bI_nz c_4
    have loop_15 : ∀ (n : Nat) (i : Nat), (n0 ≤ i) → (i ≤ ext d n0) → (ext d n0 + 1 ≤ i + n) → ∀ (H : Heap) (locs : List Loc), va_P D clA ((q, .inr (9, [.int (nI i), .int x, .ref ca])) :: wr) H → va_D A ((q, .inr (9, [.int (nI i), .int x, .ref ca])) :: wr) → va_S A s.heap H locs → ∀ (ls : Array Slot), lv_has ls 1 [(0, .ref q)] → W p l e (Rm 4 81 1 1) s m ([.ref q] : List Value).toArray below meth c H locs (0 + 0) (0 + 0) (MQ below (kQ D (fun xx : Nat => some (.ref xx)) (fun (xx : Nat) HH => bx D xx (nI (ext d n0)) HH) (fun xx : Nat => ((q, .inr (9, [.int (nI (ext d n0 + 1)), .int x, .ref ca])) :: wr)) A) ([.ref q] : List Value).toArray s 1 1 A) (F0 m 15 ls []) := by
      intro n
      induction n with
      | zero =>
        intro i hi hi2 hn
        exact absurd hn (by omega)
      | succ n ih_15 =>
        intro i hi hi2 hn H locs hP hD hS ls hl
        refine lv_aload_n hx hb dX11_next_2_15 rfl (lv_at hl 0 rfl) ?_
        refine va_get hx hb hts in_X11 hown hK hP 0 rfl rfl 2 (by decide) (hts _ q1209) (fun _ h => h) rfl dX11_next_2_16 ?_
        refine lv_aload_n hx hb dX11_next_2_19 rfl (lv_at hl 0 rfl) ?_
        refine va_get hx hb hts in_X11 hown hK hP 0 rfl rfl 0 (by decide) (hts _ q1207) (fun _ h => h) rfl dX11_next_2_20 ?_
        refine r_after (va_runV (As := [.int (nI i)]) (rest := []) (g := F0 m 23 ls [.int (nI i), .ref ca]) C.fix (c_isBusinessDay l D k ca ha hf d [] hh hd.1.2.2.1 i (by omega)) (cwV 1 hts (lw_V q1250 q1182 q1183 q72 q1184) rfl rfl rfl (by decide +kernel) ⟨Nat.le_of_ble_eq_true rfl, Nat.le_of_ble_eq_true rfl⟩) (preRV hK (va_recv hK (frz hF hnA hS) (ci := 3) (q0 := 0) rfl rfl) (va_P.sub (frz hF hnA hS) [0, 1] rfl)) rfl rfl hl.1 rfl (lv_room (Nat.le_of_ble_eq_true rfl)) dX11_next_2_23 ⟨(by first | exact Nat.le_of_ble_eq_true rfl | omega | (dsimp only [Rm]; omega)), (by first | exact Nat.le_of_ble_eq_true rfl | omega | (dsimp only [Rm]; omega))⟩) ?_
        refine lv_if_ne (tgt := 42) hx hb dX11_next_2_26 (by decide) (fun c_26 => ?_) (fun c_26 => ?_)
        · have b_26 := bI_nz c_26
          obtain rfl : i = ext d n0 := ext_uniq hd (by omega) hi hi2 b_26
          refine lv_aload_n hx hb dX11_next_2_42 rfl (lv_at hl 0 rfl) ?_
          refine lv_dup hx hb dX11_next_2_43 rfl ?_
          refine va_get hx hb hts in_X11 hown hK hP 0 rfl rfl 0 (by decide) (hts _ q1207) (fun _ h => h) rfl dX11_next_2_44 ?_
          refine lv_iconst (v := 1) hx hb dX11_next_2_47 rfl ?_
          refine lv_iadd hx hb dX11_next_2_48 ?_
          refine w_topi (y := nI (ext d n0 + 1)) (nI_1 _) ?_
          refine va_put hx hb hts in_X11 tyX11 tyX11_ok nmX11 hown hK hP (va_D_of hD rfl) hS 0 rfl rfl 0 (by decide) (hts _ q1207) (fun _ h => h) rfl rfl rfl rfl (Nat.le_of_ble_eq_true rfl) dX11_next_2_49 (fun H locs hP _ hS => ?_)
          have hP : va_P D clA ((q, .inr (9, [.int (nI (ext d n0 + 1)), .int x, .ref ca])) :: wr) H := hP
          refine lv_aload_n hx hb dX11_next_2_52 rfl (lv_at hl 0 rfl) ?_
          refine va_get hx hb hts in_X11 hown hK hP 0 rfl rfl 0 (by decide) (hts _ q1207) (fun _ h => h) rfl dX11_next_2_53 ?_
          refine lv_iconst (v := 1) hx hb dX11_next_2_56 rfl ?_
          refine lv_isub hx hb dX11_next_2_57 ?_
          refine w_topi (y := nI (ext d n0)) (nI_pred _) ?_
          refine k_after (va_runS (As := [.int (nI (ext d n0))]) (rest := []) (g := F0 m 58 ls [.int (nI (ext d n0))]) C.fix (j_valueOf l D k g (nI (ext d n0)) ((q, .inr (9, [.int (nI (ext d n0 + 1)), .int x, .ref ca])) :: wr) A (va_D_of hD rfl) hAN) (va_cwS 1 hts (lw_S q1251 q1252 q93 q1253) rfl rfl rfl (by decide +kernel) ⟨Nat.le_of_ble_eq_true rfl, Nat.le_of_ble_eq_true rfl⟩) (preS (mv2_hPre mv2_hKX) hK (fun U hU hW => ⟨by rw [hU]; exact hP, by rw [hU]; exact fun q h => hA q (Nat.le_trans hS.1 h), (hKX_at hX hS hAN trivial hU hW)⟩)) rfl rfl hl.1 rfl (lv_room (Nat.le_of_ble_eq_true rfl)) dX11_next_2_58 ⟨(by first | exact Nat.le_of_ble_eq_true rfl | omega | (dsimp only [Rm]; omega)), (by first | exact Nat.le_of_ble_eq_true rfl | omega | (dsimp only [Rm]; omega))⟩) hS (fun _ h => h) (fun b H locs hB hP hD hS hsz hk => ?_)
          have hbx : bx D b (nI (ext d n0)) H := hB
          have hP : va_P D clA ((q, .inr (9, [.int (nI (ext d n0 + 1)), .int x, .ref ca])) :: wr) H := hP
          have hD : va_D A ((q, .inr (9, [.int (nI (ext d n0 + 1)), .int x, .ref ca])) :: wr) := hD
          exact k_aret C (Or.inl ⟨_, rfl⟩) b rfl hbx hP (va_D_of hD rfl) hS (by first | exact Nat.le_of_ble_eq_true rfl | omega | (dsimp only [Rm]; omega)) (by first | exact Nat.le_of_ble_eq_true rfl | omega | (dsimp only [Rm]; omega)) dX11_next_2_61
        · have b_26 := bI_0.mp c_26
          refine lv_aload_n hx hb dX11_next_2_29 rfl (lv_at hl 0 rfl) ?_
          refine lv_dup hx hb dX11_next_2_30 rfl ?_
          refine va_get hx hb hts in_X11 hown hK hP 0 rfl rfl 0 (by decide) (hts _ q1207) (fun _ h => h) rfl dX11_next_2_31 ?_
          refine lv_iconst (v := 1) hx hb dX11_next_2_34 rfl ?_
          refine lv_iadd hx hb dX11_next_2_35 ?_
          refine w_topi (y := nI (i + 1)) (nI_1 i) ?_
          refine va_put hx hb hts in_X11 tyX11 tyX11_ok nmX11 hown hK hP (va_D_of hD rfl) hS 0 rfl rfl 0 (by decide) (hts _ q1207) (fun _ h => h) rfl rfl rfl rfl (Nat.le_of_ble_eq_true rfl) dX11_next_2_36 (fun H locs hP _ hS => ?_)
          have hP : va_P D clA ((q, .inr (9, [.int (nI (i + 1)), .int x, .ref ca])) :: wr) H := hP
          refine lv_goto (tgt := 15) hx hb dX11_next_2_39 (by decide) ?_
          exact W_more (by first | exact Nat.le_of_ble_eq_true rfl | omega | (dsimp only [Rm]; omega)) (by first | exact Nat.le_of_ble_eq_true rfl | omega | (dsimp only [Rm]; omega)) (ih_15 (i + 1) (by omega) (Nat.lt_of_le_of_ne hi2 (fun z => b_26 (z ▸ e2))) (by omega) _ _ hP (va_D_of hD rfl) hS ls (lv_sub hl [0] rfl))
    exact W_more (by first | exact Nat.le_of_ble_eq_true rfl | omega | (dsimp only [Rm]; omega)) (by first | exact Nat.le_of_ble_eq_true rfl | omega | (dsimp only [Rm]; omega)) (loop_15 (ext d n0 + 1) n0 (Nat.le_refl _) e1 (by omega) _ _ hP (va_D_of hD rfl) hS ls (lv_sub hl [0] rfl))
  · exact absurd trivial (bI_0.mp c_4)
set_option maxHeartbeats 4000000 in
theorem c_next (l : Launch) (D : va_G) (k : Nat → ClassId) (g : Nat → Nat) (ca ha : Nat) (hf d : Nat → Int32) (hd : okD d) (hh : ∀ j, j < dN d 2 → hf j = d (6 + j)) (q n0 : Nat) (hn0 : n0 < 2 ^ 29) (x : Int32) (wr : va_W) (A : Nat → Prop) (hnA : ∀ q ∈ ([(ca, .inr (3, [.ref ha, .int (d 2)])), (ha, .inl (k 0, 16, .inl hf))] : va_W), ¬ A q.1) (hD : va_D A ((q, .inr (9, [.int (nI n0), .int x, .ref ca])) :: wr)) (hAN : ∀ q, A q → g 0 ≤ q) : kM l D k yX11_next cX11_next 1 (some (.object "java/lang/Object")) 5 101 1 1 [.ref q] ((q, .inr (9, [.int (nI n0), .int x, .ref ca])) :: wr) (hKX (fun HH => va_P D clA [(ca, .inr (3, [.ref ha, .int (d 2)])), (ha, .inl (k 0, 16, .inl hf))] HH) g) (fun xx : Nat => some (.ref xx)) (fun (xx : Nat) HH => bx D xx (nI (ext d n0)) HH) (fun xx : Nat => ((q, .inr (9, [.int (nI (ext d n0 + 1)), .int x, .ref ca])) :: wr)) A := by
  refine kM_of (by decide) (Nat.le_of_ble_eq_true rfl) ?_
  intro p e s m below meth c ls C hnm hK hP hA ⟨hF, hX⟩ hS hl
  have hN : NW s := hX.nw
  obtain ⟨hx, hb, hr, hml, hown, hts, hlk⟩ := id C
  have hl : lv_has ls 1 [(0, .ref q)] := hl
  refine lv_aload_n hx hb dX11_next_0 rfl (lv_at hl 0 rfl) ?_
  refine k_after (va_runV (As := []) (rest := []) (g := F0 m 1 ls [.ref q]) C.fix (c_next2 l D k g ca ha hf d hd hh q n0 (by omega) x wr A hnA (va_D_of hD rfl) hAN) (cwV 0 hts (lw_V q1227 q1228 q1229 q99 q1230) rfl rfl rfl (by decide +kernel) ⟨Nat.le_of_ble_eq_true rfl, Nat.le_of_ble_eq_true rfl⟩) (preV (mv2_hPre mv2_hKX) hK (va_recv hK hP (ci := 9) (q0 := 0) rfl rfl) (fun U hU hW => ⟨by rw [hU]; exact hP, by rw [hU]; exact fun q h => hA q (Nat.le_trans hS.1 h), (hKX_at hX hS hAN (va_P.sub (frz hF hnA hS) [0, 1] rfl) hU hW)⟩)) rfl rfl hl.1 rfl (lv_room (Nat.le_of_ble_eq_true rfl)) dX11_next_1 ⟨(by first | exact Nat.le_of_ble_eq_true rfl | omega | (dsimp only [Rm]; omega)), (by first | exact Nat.le_of_ble_eq_true rfl | omega | (dsimp only [Rm]; omega))⟩) hS (fun _ h => h) (fun b H locs hB hP hD hS hsz hk => ?_)
  have hbx : bx D b (nI (ext d n0)) H := hB
  have hP : va_P D clA ((q, .inr (9, [.int (nI (ext d n0 + 1)), .int x, .ref ca])) :: wr) H := hP
  have hD : va_D A ((q, .inr (9, [.int (nI (ext d n0 + 1)), .int x, .ref ca])) :: wr) := hD
  exact k_aret C (Or.inl ⟨_, rfl⟩) b rfl hbx hP (va_D_of hD rfl) hS (by first | exact Nat.le_of_ble_eq_true rfl | omega | (dsimp only [Rm]; omega)) (by first | exact Nat.le_of_ble_eq_true rfl | omega | (dsimp only [Rm]; omega)) dX11_next_4
set_option maxHeartbeats 4000000 in
theorem c_extended (l : Launch) (D : va_G) (k : Nat → ClassId) (g : Nat → Nat) (ca ha : Nat) (hf d : Nat → Int32) (hd : okD d) (hh : ∀ j, j < dN d 2 → hf j = d (6 + j)) (x : Nat) (hx0 : x < 2 ^ 29) : gM l D k yX3_extended cX3_extended 2 (some .int) 6 121 2 4 [.ref ca, .int (nI x)] (hKX (fun HH => va_P D clA [(ca, .inr (3, [.ref ha, .int (d 2)])), (ha, .inl (k 0, 16, .inl hf))] HH) g) (some (.int (nI (ext d x)))) := by
  refine gM_of (by decide) (Nat.le_of_ble_eq_true rfl) ?_
  intro p e s m below meth c ls C hK ⟨hF, hX⟩ hS hl
  have hP : va_P D clA [] s.heap := va_nil
  have hD : va_D (fun q => s.heap.size ≤ q) [] := va_D_nod.mpr ⟨List.nodup_nil, fun q h => by cases h⟩
  have hA : ∀ q, s.heap.size ≤ q → s.heap.size ≤ q := fun _ h => h
  have hAN : ∀ q, s.heap.size ≤ q → g 0 ≤ q := fun q h => Nat.le_trans hX.le h
  have hN : NW s := hX.nw
  obtain ⟨hx, hb, hr, hml, hown, hts, hlk⟩ := id C
  have hl : lv_has ls 2 [(0, .ref ca), (1, .int (nI x))] := hl
  refine lv_aload_n hx hb dX3_extended_0 rfl (lv_at hl 0 rfl) ?_
  refine lv_iload_n hx hb dX3_extended_1 rfl (lv_at hl 1 rfl) ?_
  refine k_after (va_runV (As := [.int (nI x)]) (rest := []) (g := F0 m 2 ls [.int (nI x), .ref ca]) C.fix (c_from l D k g ca (nI x) ([]) (fun q => s.heap.size ≤ q) (va_D_of hD rfl) hAN) (cwV 1 hts (lw_V q1197 q1198 q1199 q72 q1200) rfl rfl rfl (by decide +kernel) ⟨Nat.le_of_ble_eq_true rfl, Nat.le_of_ble_eq_true rfl⟩) (preV (mv2_hPre mv2_hKX) hK (va_recv hK (frzF hF hS) (ci := 3) (q0 := 0) rfl rfl) (fun U hU hW => ⟨by rw [hU]; exact hP, by rw [hU]; exact fun q h => hA q (Nat.le_trans hS.1 h), (hKX_at hX hS hAN trivial hU hW)⟩)) rfl rfl hl.1 rfl (lv_room (Nat.le_of_ble_eq_true rfl)) dX3_extended_2 ⟨(by first | exact Nat.le_of_ble_eq_true rfl | omega | (dsimp only [Rm]; omega)), (by first | exact Nat.le_of_ble_eq_true rfl | omega | (dsimp only [Rm]; omega))⟩) hS (fun _ h => h) (fun it H locs hB hP hD hS hsz hk => ?_)
  have hP : va_P D clA [(it, .inr (9, [.int (nI x), .int (nI x), .ref ca]))] H := hP
  have hD : va_D (fun q => s.heap.size ≤ q) [(it, .inr (9, [.int (nI x), .int (nI x), .ref ca]))] := hD
  refine k_after5 (va_runF (As := []) (rest := []) (g := F0 m 5 ls [.ref it]) (hK.1 9 _ rfl).2 C.fix (c_next l D k g ca ha hf d hd hh it x (by omega) (nI x) ([]) (fun q => s.heap.size ≤ q) (fun q hq => by have := P_lt_mem hF hq; omega) (va_D_of hD rfl) hAN) (va_cwF 0 hts (lw_F q1218 q1222 q1224 q99 q1226) rfl rfl rfl hX.iw.2.2.2.2 (by decide +kernel) ⟨Nat.le_of_ble_eq_true rfl, Nat.le_of_ble_eq_true rfl⟩) (preV (mv2_hPre mv2_hKX) hK (va_recv hK hP (ci := 9) (q0 := 0) rfl rfl) (fun U hU hW => ⟨by rw [hU]; exact hP, by rw [hU]; exact fun q h => hA q (Nat.le_trans hS.1 h), (hKX_at hX hS hAN (va_P.sub (frzF hF hS) [0, 1] rfl) hU hW)⟩)) rfl rfl hl.1 rfl (lv_room (Nat.le_of_ble_eq_true rfl)) dX3_extended_5 ⟨(by first | exact Nat.le_of_ble_eq_true rfl | omega | (dsimp only [Rm]; omega)), (by first | exact Nat.le_of_ble_eq_true rfl | omega | (dsimp only [Rm]; omega))⟩) hS (fun _ h => h) (fun b H locs hB hP hD hS hsz hk => ?_)
  have hbx : bx D b (nI (ext d x)) H := hB
  have hP : va_P D clA [(it, .inr (9, [.int (nI (ext d x + 1)), .int (nI x), .ref ca]))] H := hP
  have hD : va_D (fun q => s.heap.size ≤ q) [(it, .inr (9, [.int (nI (ext d x + 1)), .int (nI x), .ref ca]))] := hD
  refine va_castY hx hb hown (hts _ q1271) (cast_self (hK.1 15 _ rfl)) (bx_O hK hbx) dX3_extended_10 ?_
  refine g_after (va_runV (As := []) (rest := []) (g := F0 m 13 ls [.ref b]) C.fix (j_intValue l D k g b (nI (ext d x))) (cwV 0 hts (lw_V q1272 q1273 q1274 q93 q1275) rfl rfl rfl (by decide +kernel) ⟨Nat.le_of_ble_eq_true rfl, Nat.le_of_ble_eq_true rfl⟩) (preV mv2_hKX hK (bx_O hK hbx) (fun U hU hW => (hKX_at hX hS hAN hbx hU hW))) rfl rfl hl.1 rfl (lv_room (Nat.le_of_ble_eq_true rfl)) dX3_extended_13 ⟨(by first | exact Nat.le_of_ble_eq_true rfl | omega | (dsimp only [Rm]; omega)), (by first | exact Nat.le_of_ble_eq_true rfl | omega | (dsimp only [Rm]; omega))⟩) hS (fun H hS hsz hk => ?_)
  have hP : va_P D clA [(it, .inr (9, [.int (nI (ext d x + 1)), .int (nI x), .ref ca]))] H := hP.kept (fun i q hi => hk q.1 ((hP i q hi).lt))
  have hD : va_D (fun q => s.heap.size ≤ q) [(it, .inr (9, [.int (nI (ext d x + 1)), .int (nI x), .ref ca]))] := hD
  exact g_iret C rfl hS (by first | exact Nat.le_of_ble_eq_true rfl | omega | (dsimp only [Rm]; omega)) (by first | exact Nat.le_of_ble_eq_true rfl | omega | (dsimp only [Rm]; omega)) dX3_extended_16
set_option maxHeartbeats 4000000 in
theorem c_add (l : Launch) (D : va_G) (k : Nat → ClassId) (g : Nat → Nat) (ca ha : Nat) (hf d : Nat → Int32) (hd : okD d) (hh : ∀ j, j < dN d 2 → hf j = d (6 + j)) (x c0 : Nat) (hx0 : x ≤ 20000) (hc0 : c0 ≤ 100) : gM l D k yX3_add_2 cX3_add_2 6 (some .int) 6 121 (c0 + 1) (c0 + 3) [.ref ca, .int (nI x), .int (nI c0)] (hKX (fun HH => va_P D clA [(ca, .inr (3, [.ref ha, .int (d 2)])), (ha, .inl (k 0, 16, .inl hf))] HH) g) (some (.int (nI (addB d x c0)))) := by
  refine gM_of (by decide) (Nat.le_of_ble_eq_true rfl) ?_
  intro p e s m below meth c ls C hK ⟨hF, hX⟩ hS hl
  have hP : va_P D clA [] s.heap := va_nil
  have hD : va_D (fun q => s.heap.size ≤ q) [] := va_D_nod.mpr ⟨List.nodup_nil, fun q h => by cases h⟩
  have hA : ∀ q, s.heap.size ≤ q → s.heap.size ≤ q := fun _ h => h
  have hAN : ∀ q, s.heap.size ≤ q → g 0 ≤ q := fun q h => Nat.le_trans hX.le h
  have hN : NW s := hX.nw
  obtain ⟨hx, hb, hr, hml, hown, hts, hlk⟩ := id C
  have hl : lv_has ls 6 [(0, .ref ca), (1, .int (nI x)), (2, .int (nI c0))] := hl
  refine lv_aload_n hx hb dX3_add_2_0 rfl (lv_at hl 0 rfl) ?_
  refine lv_iload_n hx hb dX3_add_2_1 rfl (lv_at hl 1 rfl) ?_
  refine lv_iconst (v := 1) hx hb dX3_add_2_2 rfl ?_
  refine lv_iadd hx hb dX3_add_2_3 ?_
  refine w_topi (y := nI (x + 1)) (nI_add x 1) ?_
  refine k_after (va_runV (As := [.int (nI (x + 1))]) (rest := []) (g := F0 m 4 ls [.int (nI (x + 1)), .ref ca]) C.fix (c_from l D k g ca (nI (x + 1)) ([]) (fun q => s.heap.size ≤ q) (va_D_of hD rfl) hAN) (cwV 1 hts (lw_V q1197 q1198 q1199 q72 q1200) rfl rfl rfl (by decide +kernel) ⟨Nat.le_of_ble_eq_true rfl, Nat.le_of_ble_eq_true rfl⟩) (preV (mv2_hPre mv2_hKX) hK (va_recv hK (frzF hF hS) (ci := 3) (q0 := 0) rfl rfl) (fun U hU hW => ⟨by rw [hU]; exact hP, by rw [hU]; exact fun q h => hA q (Nat.le_trans hS.1 h), (hKX_at hX hS hAN trivial hU hW)⟩)) rfl rfl hl.1 rfl (lv_room (Nat.le_of_ble_eq_true rfl)) dX3_add_2_4 ⟨(by first | exact Nat.le_of_ble_eq_true rfl | omega | (dsimp only [Rm]; omega)), (by first | exact Nat.le_of_ble_eq_true rfl | omega | (dsimp only [Rm]; omega))⟩) hS (fun _ h => h) (fun it H locs hB hP hD hS hsz hk => ?_)
  have hP : va_P D clA [(it, .inr (9, [.int (nI (x + 1)), .int (nI (x + 1)), .ref ca]))] H := hP
  have hD : va_D (fun q => s.heap.size ≤ q) [(it, .inr (9, [.int (nI (x + 1)), .int (nI (x + 1)), .ref ca]))] := hD
  refine lv_astore_n (lv' := [(3, .ref it), (0, .ref ca), (1, .int (nI x)), (2, .int (nI c0))]) hx hb dX3_add_2_7 rfl hl (by decide) rfl (fun ls hl => ?_)
  refine lv_iload_n hx hb dX3_add_2_8 rfl (lv_at hl 2 rfl) ?_
  refine lv_istore (lv' := [(4, .int (nI x)), (3, .ref it), (0, .ref ca), (1, .int (nI x)), (2, .int (nI c0))]) hx hb dX3_add_2_9 hl (by decide) rfl (fun ls hl => ?_)
  refine lv_iconst (v := 0) hx hb dX3_add_2_11 rfl ?_
  refine lv_istore (lv' := [(5, .int 0), (4, .int (nI x)), (3, .ref it), (0, .ref ca), (1, .int (nI x)), (2, .int (nI c0))]) hx hb dX3_add_2_12 hl (by decide) rfl (fun ls hl => ?_)
  have loop_14 : ∀ (n : Nat) (j : Nat), (j ≤ c0) → (c0 + 1 ≤ j + n) → ∀ (H : Heap) (locs : List Loc), va_P D clA [(it, .inr (9, [.int (nI (addB d x j + 1)), .int (nI (x + 1)), .ref ca]))] H → va_D (fun q => s.heap.size ≤ q) [(it, .inr (9, [.int (nI (addB d x j + 1)), .int (nI (x + 1)), .ref ca]))] → va_S (fun q => s.heap.size ≤ q) s.heap H locs → ∀ (ls : Array Slot), lv_has ls 6 [(0, .ref ca), (1, .int (nI x)), (2, .int (nI c0)), (3, .ref it), (4, .int (nI (addB d x j))), (5, .int (nI j))] → W p l e (Rm 6 121 (c0 + 1) (c0 + 3)) s m ([.ref ca, .int (nI x), .int (nI c0)] : List Value).toArray below meth c H locs (j + 1) (j + 3) (MQ below (gQ (some (.int (nI (addB d x c0))))) ([.ref ca, .int (nI x), .int (nI c0)] : List Value).toArray s (c0 + 1) (c0 + 3) (fun _ => False)) (F0 m 14 ls []) := by
    intro n
    induction n with
    | zero =>
      intro j hj hn
      exact absurd hn (by omega)
    | succ n ih_14 =>
      intro j hj hn H locs hP hD hS ls hl
      have hle := addB_le hd (x := x) (by omega) j (by omega)
      refine lv_iload hx hb dX3_add_2_14 (lv_at hl 5 rfl) ?_
      refine lv_iload_n hx hb dX3_add_2_16 rfl (lv_at hl 2 rfl) ?_
      refine lv_icmp_ge (tgt := 40) hx hb dX3_add_2_17 (by decide) (fun c_17 => ?_) (fun c_17 => ?_)
      · have g_17 := nI_le' c_17 (by omega) (by omega)
        refine lv_iload hx hb dX3_add_2_40 (lv_at hl 4 rfl) ?_
        exact g_iret C (by rw [show j = c0 by omega]) hS (by first | exact Nat.le_of_ble_eq_true rfl | omega | (dsimp only [Rm]; omega)) (by first | exact Nat.le_of_ble_eq_true rfl | omega | (dsimp only [Rm]; omega)) dX3_add_2_42
      · have g_17 := nI_nle' c_17 (by omega) (by omega)
        refine lv_aload_n hx hb dX3_add_2_20 rfl (lv_at hl 3 rfl) ?_
        refine k_after5 (va_runF (As := []) (rest := []) (g := F0 m 21 ls [.ref it]) (hK.1 9 _ rfl).2 C.fix (c_next l D k g ca ha hf d hd hh it (addB d x j + 1) (by omega) (nI (x + 1)) ([]) (fun q => s.heap.size ≤ q) (fun q hq => by have := P_lt_mem hF hq; omega) (va_D_of hD rfl) hAN) (va_cwF 0 hts (lw_F q1218 q1222 q1224 q99 q1226) rfl rfl rfl hX.iw.2.2.2.2 (by decide +kernel) ⟨Nat.le_of_ble_eq_true rfl, Nat.le_of_ble_eq_true rfl⟩) (preV (mv2_hPre mv2_hKX) hK (va_recv hK hP (ci := 9) (q0 := 0) rfl rfl) (fun U hU hW => ⟨by rw [hU]; exact hP, by rw [hU]; exact fun q h => hA q (Nat.le_trans hS.1 h), (hKX_at hX hS hAN (va_P.sub (frzF hF hS) [0, 1] rfl) hU hW)⟩)) rfl rfl hl.1 rfl (lv_room (Nat.le_of_ble_eq_true rfl)) dX3_add_2_21 ⟨(by first | exact Nat.le_of_ble_eq_true rfl | omega | (dsimp only [Rm]; omega)), (by first | exact Nat.le_of_ble_eq_true rfl | omega | (dsimp only [Rm]; omega))⟩) hS (fun _ h => h) (fun b H locs hB hP hD hS hsz hk => ?_)
        have hbx : bx D b (nI (ext d (addB d x j + 1))) H := hB
        have hP : va_P D clA [(it, .inr (9, [.int (nI (ext d (addB d x j + 1) + 1)), .int (nI (x + 1)), .ref ca]))] H := hP
        have hD : va_D (fun q => s.heap.size ≤ q) [(it, .inr (9, [.int (nI (ext d (addB d x j + 1) + 1)), .int (nI (x + 1)), .ref ca]))] := hD
        refine va_castY hx hb hown (hts _ q1271) (cast_self (hK.1 15 _ rfl)) (bx_O hK hbx) dX3_add_2_26 ?_
        refine g_after (va_runV (As := []) (rest := []) (g := F0 m 29 ls [.ref b]) C.fix (j_intValue l D k g b (nI (ext d (addB d x j + 1)))) (cwV 0 hts (lw_V q1272 q1273 q1274 q93 q1275) rfl rfl rfl (by decide +kernel) ⟨Nat.le_of_ble_eq_true rfl, Nat.le_of_ble_eq_true rfl⟩) (preV mv2_hKX hK (bx_O hK hbx) (fun U hU hW => (hKX_at hX hS hAN hbx hU hW))) rfl rfl hl.1 rfl (lv_room (Nat.le_of_ble_eq_true rfl)) dX3_add_2_29 ⟨(by first | exact Nat.le_of_ble_eq_true rfl | omega | (dsimp only [Rm]; omega)), (by first | exact Nat.le_of_ble_eq_true rfl | omega | (dsimp only [Rm]; omega))⟩) hS (fun H hS hsz hk => ?_)
        have hP : va_P D clA [(it, .inr (9, [.int (nI (ext d (addB d x j + 1) + 1)), .int (nI (x + 1)), .ref ca]))] H := hP.kept (fun i q hi => hk q.1 ((hP i q hi).lt))
        have hD : va_D (fun q => s.heap.size ≤ q) [(it, .inr (9, [.int (nI (ext d (addB d x j + 1) + 1)), .int (nI (x + 1)), .ref ca]))] := hD
        refine lv_istore (lv' := [(4, .int (nI (ext d (addB d x j + 1)))), (0, .ref ca), (1, .int (nI x)), (2, .int (nI c0)), (3, .ref it), (5, .int (nI j))]) hx hb dX3_add_2_32 hl (by decide) rfl (fun ls hl => ?_)
        refine lv_iinc (v := nI (j + 1)) (lv' := [(5, .int (nI (j + 1))), (4, .int (nI (ext d (addB d x j + 1)))), (0, .ref ca), (1, .int (nI x)), (2, .int (nI c0)), (3, .ref it)]) hx hb dX3_add_2_34 hl (k := 5) rfl (nI_1 j) (by decide) rfl (fun ls hl => ?_)
        refine lv_goto (tgt := 14) hx hb dX3_add_2_37 (by decide) ?_
        exact W_more (by first | exact Nat.le_of_ble_eq_true rfl | omega | (dsimp only [Rm]; omega)) (by first | exact Nat.le_of_ble_eq_true rfl | omega | (dsimp only [Rm]; omega)) (ih_14 (j + 1) (by omega) (by omega) _ _ hP (va_D_of hD rfl) hS ls (lv_sub hl [2, 3, 4, 5, 1, 0] rfl))
  exact W_more (by first | exact Nat.le_of_ble_eq_true rfl | omega | (dsimp only [Rm]; omega)) (by first | exact Nat.le_of_ble_eq_true rfl | omega | (dsimp only [Rm]; omega)) (loop_14 (c0 + 1) 0 (Nat.zero_le _) (by omega) _ _ hP (va_D_of hD rfl) hS ls (lv_sub hl [3, 4, 5, 2, 1, 0] rfl))
set_option maxHeartbeats 4000000 in
theorem c_addHol (l : Launch) (D : va_G) (k : Nat → ClassId) (g : Nat → Nat) (ca ha c0 : Nat) (hc0 : c0 < 16) (hf : Nat → Int32) (x : Int32) (wr : va_W) (A : Nat → Prop) (hD : va_D A ((ca, .inr (3, [.ref ha, .int (nI c0)])) :: (ha, .inl (k 0, 16, .inl hf)) :: wr)) (hAN : ∀ q, A q → g 0 ≤ q) : kM l D k yX3_add cX3_add 2 none 0 0 0 0 [.ref ca, .int x] ((ca, .inr (3, [.ref ha, .int (nI c0)])) :: (ha, .inl (k 0, 16, .inl hf)) :: wr) (hKX (fun HH => True) g) (fun _ : Unit => none) (fun _ _ => True) (fun _ : Unit => ((ca, .inr (3, [.ref ha, .int (nI (c0 + 1))])) :: (ha, .inl (k 0, 16, .inl (upd hf c0 x))) :: wr)) A := by
  refine kM_of (by decide) (Nat.le_of_ble_eq_true rfl) ?_
  intro p e s m below meth c ls C hnm hK hP hA ⟨_, hX⟩ hS hl
  have hN : NW s := hX.nw
  obtain ⟨hx, hb, hr, hml, hown, hts, hlk⟩ := id C
  have hl : lv_has ls 2 [(0, .ref ca), (1, .int x)] := hl
  refine lv_aload_n hx hb dX3_add_0 rfl (lv_at hl 0 rfl) ?_
  refine va_get hx hb hts in_X3 hown hK hP 0 rfl rfl 0 (by decide) (hts _ q144) (fun _ h => h) rfl dX3_add_1 ?_
  refine lv_aload_n hx hb dX3_add_4 rfl (lv_at hl 0 rfl) ?_
  refine va_get hx hb hts in_X3 hown hK hP 0 rfl rfl 1 (by decide) (hts _ q145) (fun _ h => h) rfl dX3_add_5 ?_
  refine lv_iload_n hx hb dX3_add_8 rfl (lv_at hl 1 rfl) ?_
  refine w_iast hx hb hK hP (va_D_of hD rfl) hS 1 rfl c0 rfl hc0 (Nat.le_of_ble_eq_true rfl) dX3_add_9 (fun H locs hP _ hS => ?_)
  have hP : va_P D clA ((ca, .inr (3, [.ref ha, .int (nI c0)])) :: (ha, .inl (k 0, 16, .inl (upd hf c0 x))) :: wr) H := hP
  refine lv_aload_n hx hb dX3_add_10 rfl (lv_at hl 0 rfl) ?_
  refine lv_dup hx hb dX3_add_11 rfl ?_
  refine va_get hx hb hts in_X3 hown hK hP 0 rfl rfl 1 (by decide) (hts _ q145) (fun _ h => h) rfl dX3_add_12 ?_
  refine lv_iconst (v := 1) hx hb dX3_add_15 rfl ?_
  refine lv_iadd hx hb dX3_add_16 ?_
  refine w_topi (y := nI (c0 + 1)) (nI_add c0 1) ?_
  refine va_put hx hb hts in_X3 tyX3 tyX3_ok nmX3 hown hK hP (va_D_of hD rfl) hS 0 rfl rfl 1 (by decide) (hts _ q145) (fun _ h => h) rfl rfl rfl rfl (Nat.le_of_ble_eq_true rfl) dX3_add_17 (fun H locs hP _ hS => ?_)
  have hP : va_P D clA ((ca, .inr (3, [.ref ha, .int (nI (c0 + 1))])) :: (ha, .inl (k 0, 16, .inl (upd hf c0 x))) :: wr) H := hP
  exact k_vret C () rfl trivial hP (va_D_of hD rfl) hS (by first | exact Nat.le_of_ble_eq_true rfl | omega | (dsimp only [Rm]; omega)) (by first | exact Nat.le_of_ble_eq_true rfl | omega | (dsimp only [Rm]; omega)) dX3_add_20
set_option maxHeartbeats 4000000 in
theorem c_CalInit (l : Launch) (D : va_G) (k : Nat → ClassId) (g : Nat → Nat) (ca : Nat) (wr : va_W) (A : Nat → Prop) (hD : va_D A ((ca, .inr (3, [.null, .int 0])) :: wr)) (hAN : ∀ q, A q → g 0 ≤ q) : kM l D k yX3_init cX3_init 1 none 1 20 1 16 [.ref ca] ((ca, .inr (3, [.null, .int 0])) :: wr) (hKX (fun HH => True) g) (fun xx : Nat => none) (fun _ _ => True) (fun xx : Nat => ((ca, .inr (3, [.ref xx, .int 0])) :: (xx, .inl (k 0, 16, .inl (fun _ => 0))) :: wr)) A := by
  refine kM_of (by decide) (Nat.le_of_ble_eq_true rfl) ?_
  intro p e s m below meth c ls C hnm hK hP hA ⟨_, hX⟩ hS hl
  have hN : NW s := hX.nw
  obtain ⟨hx, hb, hr, hml, hown, hts, hlk⟩ := id C
  have hl : lv_has ls 1 [(0, .ref ca)] := hl
  refine lv_aload_n hx hb dX3_init_0 rfl (lv_at hl 0 rfl) ?_
  refine W.objInit hx hb hown (hts _ q143) (hts _ q112) (hts _ q113) rfl (by rw [hml]; exact hl.1) rfl dX3_init_1 (Nat.le_of_ble_eq_true rfl) (Nat.le_of_ble_eq_true rfl) ?_
  refine lv_aload_n hx hb dX3_init_4 rfl (lv_at hl 0 rfl) ?_
  refine lv_bipush (v := 16) hx hb dX3_init_5 rfl ?_
  refine n_newa (atype := .int) (a0 := (16, .inl (fun _ => 0))) hx hb (hts _ q152) hK hP (va_D_of hD rfl) hS hA 0 rfl (fun _ => rfl) (by decide) rfl (Nat.le_of_ble_eq_true rfl) (by first | exact Nat.le_of_ble_eq_true rfl | omega | (dsimp only [Rm]; omega)) (by first | exact Nat.le_of_ble_eq_true rfl | omega | (dsimp only [Rm]; omega)) dX3_init_7 (fun ha H _ hP hD hS => ?_)
  have hP : va_P D clA ((ca, .inr (3, [.null, .int 0])) :: (ha, .inl (k 0, 16, .inl (fun _ => 0))) :: wr) H := P_mid 1 hP
  have hD : va_D A ((ca, .inr (3, [.null, .int 0])) :: (ha, .inl (k 0, 16, .inl (fun _ => 0))) :: wr) := D_mid 1 hD
  refine va_putF hx hb hts in_X3 tyX3 tyX3_ok nmX3 hown hK hP (va_D_of hD rfl) hS 0 rfl rfl 0 (by decide) (hts _ q144) (fun _ h => h) rfl hnm rfl rfl rfl rfl (Nat.le_of_ble_eq_true rfl) dX3_init_9 (fun H locs hP _ hS => ?_)
  have hP : va_P D clA ((ca, .inr (3, [.ref ha, .int 0])) :: (ha, .inl (k 0, 16, .inl (fun _ => 0))) :: wr) H := hP
  exact k_vret C ha rfl trivial hP (va_D_of hD rfl) hS (by first | exact Nat.le_of_ble_eq_true rfl | omega | (dsimp only [Rm]; omega)) (by first | exact Nat.le_of_ble_eq_true rfl | omega | (dsimp only [Rm]; omega)) dX3_init_12
