/-! the law: its helpers that ask (printed by gen/m57.py) -/
set_option maxRecDepth 100000
def NcX (U : State) : Prop := Nc98 U ∧ va_Nc "java/lang/IllegalArgumentException" "java/lang/IndexOutOfBoundsException" U ∧ va_Nc "java/lang/IllegalStateException" "java/lang/IndexOutOfBoundsException" U ∧ va_Nc "java/lang/IllegalStateException" "java/lang/IllegalArgumentException" U
theorem NcX.moved {u U : State} (hvm : u.vm.Alike U.vm) (h : NcX u) : NcX U := ⟨va_Nc.moved hvm h.1, va_Nc.moved hvm h.2.1, va_Nc.moved hvm h.2.2.1, va_Nc.moved hvm h.2.2.2⟩
theorem mv2_NcX : mv2 NcX := fun u U _ a q => q.moved (a ▸ Vm.Alike.refl u.vm)
theorem bI_long {P : Prop} (h : P) : (1 : Int64) = (bI P).toInt64 := by rw [← bI_t h]; decide
theorem bI_long0 {P : Prop} (h : ¬ P) : (0 : Int64) = (bI P).toInt64 := by rw [← bI_f h]; decide
set_option maxHeartbeats 4000000 in
theorem l_parent (l : Launch) (D : va_G) (k : Nat → ClassId) (g : Nat → Nat) (ou : Nat) (f0 : Nat → Int64) (o bb dq : Nat) (bl eo : Int32) (z : Nat → Nat) (hf d : Nat → Int32) (hz : dkN g z hf d) (x : Int32) (htr : l.stackTraces = false) : uMV l D k yX0_parent cX0_parent 4 (some .int) [(0, 9, 12, 32)] 10 184 1 6 [.ref o, .int x, .ref ou] g [(ou, .inl (k 2, 1, .inr (.inl f0)))] (fun HH => va_P D clA [(o, .inr (1, [.ref bb, .ref dq, .ref (z 0), .int bl, .int eo]))] HH ∧ dk D k z hf d HH) NcX (fun _ : Unit => some (.int (pick (¬ hasC d x) 1))) (fun _ _ => True) (fun _ : Unit => [(ou, .inl (k 2, 1, .inr (.inl (ifp (hasC d x) (vp_updL f0 0 (cf d (ci x) 10).toInt64) f0))))]) (fun _ _ _ => False) := by
  refine uMV_of (by decide) (Nat.le_of_ble_eq_true rfl) ?_
  intro p e s m below meth c ls A hAe C htab hNc hnm hmn hK hP hD hA hAN ⟨hO, hdk⟩ hX hS hl
  have hN : NW s := hX.nw
  have hD0 := hD
  obtain ⟨hx, hb, hr, hml, hown, hts, hlk⟩ := id C
  have hl : lv_has ls 4 [(0, .ref o), (1, .int x), (2, .ref ou)] := hl
  refine lv_aload_n hx hb dX0_parent_0 rfl (lv_at hl 2 rfl) ?_
  refine lv_iconst (v := 0) hx hb dX0_parent_1 rfl ?_
  refine lv_aload_n hx hb dX0_parent_2 rfl (lv_at hl 0 rfl) ?_
  refine lv_iload_n hx hb dX0_parent_3 rfl (lv_at hl 1 rfl) ?_
  have HND : ∀ (E : String) (ce : Cell) (q9 : Addr) (H : Heap) (locs : List Loc) (cl sl : Nat) (rst : List Value) (ls : Array Slot), (fun E => ¬ hasC d x ∧ E = "java/lang/IndexOutOfBoundsException") E → va_S A s.heap H locs → va_P D clA [(ou, .inl (k 2, 1, .inr (.inl f0)))] H → H[q9]? = some ce → ce.vm = .none → s.vm.findClass E = some ce.cls → lv_has ls 4 [] → cl ≤ 1 → sl ≤ 6 → vy_W p l e (Rm 10 184 1 6) s m ([.ref o, .int x, .ref ou] : List Value).toArray below meth c H locs cl sl (vy_MQ below (jQ D (fun _ : Unit => some (.int (pick (¬ hasC d x) 1))) (fun _ _ => True) (fun _ : Unit => [(ou, .inl (k 2, 1, .inr (.inl (ifp (hasC d x) (vp_updL f0 0 (cf d (ci x) 10).toInt64) f0))))]) (inL [(ou, .inl (k 2, 1, .inr (.inl f0)))])) (uX (fun _ _ _ => False) (inL [(ou, .inl (k 2, 1, .inr (.inl f0)))])) ([.ref o, .int x, .ref ou] : List Value).toArray s 1 6 (inL [(ou, .inl (k 2, 1, .inr (.inl f0)))])) (F0 m 4 ls rst) q9 := by
    intro E ce q9 H locs cl sl rst ls hth hS hP hce hcv hcl hl hcl9 hsl9
    refine vy_widen hcl9 hsl9 ?_
    have hD : va_D A [(ou, .inl (k 2, 1, .inr (.inl f0)))] := va_D_of hD rfl
    obtain ⟨hno, hE⟩ := hth
    subst hE
    refine vy_catch (name := "java/lang/IndexOutOfBoundsException") hown [] ⟨0, 9, 12, 32⟩ [] htab (fun z hz => by cases hz) (by decide) (by decide) (hts _ q1298) (hN.at q1334 rfl rfl) hce hcv hcl ?_
    have hT9 : pick (¬ hasC d x) 1 = 1 := (pick_t hno)
    have hnok : ¬ (hasC d x) := hno
    refine lv_astore_n (lv' := [(3, .ref q9)]) hx hb dX0_parent_12 rfl hl (by decide) rfl (fun ls hl => ?_)
    refine lv_iconst (v := 1) hx hb dX0_parent_13 rfl ?_
    exact vy_ret (j_iret hAe C () (by rw [hT9]) trivial (by rw [ifp_f hnok]; exact hP) (va_D_of hD rfl) hS (by first | exact Nat.le_of_ble_eq_true rfl | omega | (dsimp only [Rm]; omega)) (by first | exact Nat.le_of_ble_eq_true rfl | omega | (dsimp only [Rm]; omega)) dX0_parent_14)
  refine o_after (vy_runV (As := [.int x]) (rest := [.int 0, .ref ou]) (g := F0 m 4 ls [.int x, .ref o, .int 0, .ref ou]) C.fix (c_parent l D k g o bb dq bl eo z hf d hz x htr) (cwV 1 hts (lw_V q1317 q1318 q1319 q68 q1320) rfl rfl rfl (by decide +kernel) ⟨Nat.le_of_ble_eq_true rfl, Nat.le_of_ble_eq_true rfl⟩) (preV mv2_hKX hK (va_recv hK hO (ci := 1) (q0 := 0) rfl rfl) (fun U hU hW => (hKX_at hX hS hAN (⟨hO, hdk⟩) hU hW))) rfl rfl hl.1 rfl (lv_room (Nat.le_of_ble_eq_true rfl)) dX0_parent_4 ⟨(by first | exact Nat.le_of_ble_eq_true rfl | omega | (dsimp only [Rm]; omega)), (by first | exact Nat.le_of_ble_eq_true rfl | omega | (dsimp only [Rm]; omega))⟩) hS (fun E ce q9 H hth hS hk hce hcv hcl => HND E ce q9 H _ _ _ _ ls hth hS (hP.kept (fun i q hi => hk q.1 ((hP i q hi).lt))) hce hcv hcl (lv_sub hl [] rfl) (by omega) (by omega)) (fun H hp4 hS hsz hk => ?_)
  have hP : va_P D clA [(ou, .inl (k 2, 1, .inr (.inl f0)))] H := hP.kept (fun i q hi => hk q.1 ((hP i q hi).lt))
  have hD : va_D A [(ou, .inl (k 2, 1, .inr (.inl f0)))] := hD
  refine lv_i2l (v := (cf d (ci x) 10).toInt64) hx hb dX0_parent_7 rfl ?_
  refine w_last hx hb hK hP (va_D_of hD rfl) hS 0 rfl 0 rfl (Nat.le_of_ble_eq_true rfl) (Nat.le_of_ble_eq_true rfl) dX0_parent_8 (fun H locs hP _ hS => ?_)
  have hP : va_P D clA [(ou, .inl (k 2, 1, .inr (.inl (vp_updL f0 0 ((cf d (ci x) 10).toInt64)))))] H := hP
  refine lv_goto (tgt := 15) hx hb dX0_parent_9 (by decide) ?_
  refine lv_iconst (v := 0) hx hb dX0_parent_15 rfl ?_
  exact vy_ret (j_iret hAe C () (by rw [pick_f (fun h => h hp4)]) trivial (by rw [ifp_t hp4]; exact hP) (va_D_of hD rfl) hS (by first | exact Nat.le_of_ble_eq_true rfl | omega | (dsimp only [Rm]; omega)) (by first | exact Nat.le_of_ble_eq_true rfl | omega | (dsimp only [Rm]; omega)) dX0_parent_16)
set_option maxHeartbeats 4000000 in
theorem l_expiry (l : Launch) (D : va_G) (k : Nat → ClassId) (g : Nat → Nat) (ou : Nat) (f0 : Nat → Int64) (o bb dq : Nat) (bl eo : Int32) (z : Nat → Nat) (hf d : Nat → Int32) (hz : dkN g z hf d) (x : Int32) (htr : l.stackTraces = false) : uMV l D k yX0_expiry cX0_expiry 4 (some .int) [(0, 9, 12, 32)] 10 184 1 6 [.ref o, .int x, .ref ou] g [(ou, .inl (k 2, 1, .inr (.inl f0)))] (fun HH => va_P D clA [(o, .inr (1, [.ref bb, .ref dq, .ref (z 0), .int bl, .int eo]))] HH ∧ dk D k z hf d HH) NcX (fun _ : Unit => some (.int (pick (¬ hasC d x) 1))) (fun _ _ => True) (fun _ : Unit => [(ou, .inl (k 2, 1, .inr (.inl (ifp (hasC d x) (vp_updL f0 0 (cf d (ci x) 3).toInt64) f0))))]) (fun _ _ _ => False) := by
  refine uMV_of (by decide) (Nat.le_of_ble_eq_true rfl) ?_
  intro p e s m below meth c ls A hAe C htab hNc hnm hmn hK hP hD hA hAN ⟨hO, hdk⟩ hX hS hl
  have hN : NW s := hX.nw
  have hD0 := hD
  obtain ⟨hx, hb, hr, hml, hown, hts, hlk⟩ := id C
  have hl : lv_has ls 4 [(0, .ref o), (1, .int x), (2, .ref ou)] := hl
  refine lv_aload_n hx hb dX0_expiry_0 rfl (lv_at hl 2 rfl) ?_
  refine lv_iconst (v := 0) hx hb dX0_expiry_1 rfl ?_
  refine lv_aload_n hx hb dX0_expiry_2 rfl (lv_at hl 0 rfl) ?_
  refine lv_iload_n hx hb dX0_expiry_3 rfl (lv_at hl 1 rfl) ?_
  have HND : ∀ (E : String) (ce : Cell) (q9 : Addr) (H : Heap) (locs : List Loc) (cl sl : Nat) (rst : List Value) (ls : Array Slot), (fun E => ¬ hasC d x ∧ E = "java/lang/IndexOutOfBoundsException") E → va_S A s.heap H locs → va_P D clA [(ou, .inl (k 2, 1, .inr (.inl f0)))] H → H[q9]? = some ce → ce.vm = .none → s.vm.findClass E = some ce.cls → lv_has ls 4 [] → cl ≤ 1 → sl ≤ 6 → vy_W p l e (Rm 10 184 1 6) s m ([.ref o, .int x, .ref ou] : List Value).toArray below meth c H locs cl sl (vy_MQ below (jQ D (fun _ : Unit => some (.int (pick (¬ hasC d x) 1))) (fun _ _ => True) (fun _ : Unit => [(ou, .inl (k 2, 1, .inr (.inl (ifp (hasC d x) (vp_updL f0 0 (cf d (ci x) 3).toInt64) f0))))]) (inL [(ou, .inl (k 2, 1, .inr (.inl f0)))])) (uX (fun _ _ _ => False) (inL [(ou, .inl (k 2, 1, .inr (.inl f0)))])) ([.ref o, .int x, .ref ou] : List Value).toArray s 1 6 (inL [(ou, .inl (k 2, 1, .inr (.inl f0)))])) (F0 m 4 ls rst) q9 := by
    intro E ce q9 H locs cl sl rst ls hth hS hP hce hcv hcl hl hcl9 hsl9
    refine vy_widen hcl9 hsl9 ?_
    have hD : va_D A [(ou, .inl (k 2, 1, .inr (.inl f0)))] := va_D_of hD rfl
    obtain ⟨hno, hE⟩ := hth
    subst hE
    refine vy_catch (name := "java/lang/IndexOutOfBoundsException") hown [] ⟨0, 9, 12, 32⟩ [] htab (fun z hz => by cases hz) (by decide) (by decide) (hts _ q1298) (hN.at q1334 rfl rfl) hce hcv hcl ?_
    have hT9 : pick (¬ hasC d x) 1 = 1 := (pick_t hno)
    have hnok : ¬ (hasC d x) := hno
    refine lv_astore_n (lv' := [(3, .ref q9)]) hx hb dX0_expiry_12 rfl hl (by decide) rfl (fun ls hl => ?_)
    refine lv_iconst (v := 1) hx hb dX0_expiry_13 rfl ?_
    exact vy_ret (j_iret hAe C () (by rw [hT9]) trivial (by rw [ifp_f hnok]; exact hP) (va_D_of hD rfl) hS (by first | exact Nat.le_of_ble_eq_true rfl | omega | (dsimp only [Rm]; omega)) (by first | exact Nat.le_of_ble_eq_true rfl | omega | (dsimp only [Rm]; omega)) dX0_expiry_14)
  refine o_after (vy_runV (As := [.int x]) (rest := [.int 0, .ref ou]) (g := F0 m 4 ls [.int x, .ref o, .int 0, .ref ou]) C.fix (c_expiry l D k g o bb dq bl eo z hf d hz x htr) (cwV 1 hts (lw_V q1362 q1363 q1364 q68 q1365) rfl rfl rfl (by decide +kernel) ⟨Nat.le_of_ble_eq_true rfl, Nat.le_of_ble_eq_true rfl⟩) (preV mv2_hKX hK (va_recv hK hO (ci := 1) (q0 := 0) rfl rfl) (fun U hU hW => (hKX_at hX hS hAN (⟨hO, hdk⟩) hU hW))) rfl rfl hl.1 rfl (lv_room (Nat.le_of_ble_eq_true rfl)) dX0_expiry_4 ⟨(by first | exact Nat.le_of_ble_eq_true rfl | omega | (dsimp only [Rm]; omega)), (by first | exact Nat.le_of_ble_eq_true rfl | omega | (dsimp only [Rm]; omega))⟩) hS (fun E ce q9 H hth hS hk hce hcv hcl => HND E ce q9 H _ _ _ _ ls hth hS (hP.kept (fun i q hi => hk q.1 ((hP i q hi).lt))) hce hcv hcl (lv_sub hl [] rfl) (by omega) (by omega)) (fun H hp4 hS hsz hk => ?_)
  have hP : va_P D clA [(ou, .inl (k 2, 1, .inr (.inl f0)))] H := hP.kept (fun i q hi => hk q.1 ((hP i q hi).lt))
  have hD : va_D A [(ou, .inl (k 2, 1, .inr (.inl f0)))] := hD
  refine lv_i2l (v := (cf d (ci x) 3).toInt64) hx hb dX0_expiry_7 rfl ?_
  refine w_last hx hb hK hP (va_D_of hD rfl) hS 0 rfl 0 rfl (Nat.le_of_ble_eq_true rfl) (Nat.le_of_ble_eq_true rfl) dX0_expiry_8 (fun H locs hP _ hS => ?_)
  have hP : va_P D clA [(ou, .inl (k 2, 1, .inr (.inl (vp_updL f0 0 ((cf d (ci x) 3).toInt64)))))] H := hP
  refine lv_goto (tgt := 15) hx hb dX0_expiry_9 (by decide) ?_
  refine lv_iconst (v := 0) hx hb dX0_expiry_15 rfl ?_
  exact vy_ret (j_iret hAe C () (by rw [pick_f (fun h => h hp4)]) trivial (by rw [ifp_t hp4]; exact hP) (va_D_of hD rfl) hS (by first | exact Nat.le_of_ble_eq_true rfl | omega | (dsimp only [Rm]; omega)) (by first | exact Nat.le_of_ble_eq_true rfl | omega | (dsimp only [Rm]; omega)) dX0_expiry_16)
set_option maxHeartbeats 4000000 in
theorem l_drawn (l : Launch) (D : va_G) (k : Nat → ClassId) (g : Nat → Nat) (ou : Nat) (f0 : Nat → Int64) (o bb dq : Nat) (bl eo : Int32) (z : Nat → Nat) (hf d : Nat → Int32) (hz : dkN g z hf d) (x : Int32) (htr : l.stackTraces = false) : uMV l D k yX0_drawn cX0_drawn 4 (some .int) [(0, 9, 12, 32)] 9 163 1 6 [.ref o, .int x, .ref ou] g [(ou, .inl (k 2, 1, .inr (.inl f0)))] (fun HH => va_P D clA [(o, .inr (1, [.ref bb, .ref dq, .ref (z 0), .int bl, .int eo]))] HH ∧ dk D k z hf d HH) NcX (fun _ : Unit => some (.int (pick (¬ hasC d x) 1))) (fun _ _ => True) (fun _ : Unit => [(ou, .inl (k 2, 1, .inr (.inl (ifp (hasC d x) (vp_updL f0 0 (drawn d x).toInt64) f0))))]) (fun _ _ _ => False) := by
  refine uMV_of (by decide) (Nat.le_of_ble_eq_true rfl) ?_
  intro p e s m below meth c ls A hAe C htab hNc hnm hmn hK hP hD hA hAN ⟨hO, hdk⟩ hX hS hl
  have hN : NW s := hX.nw
  have hD0 := hD
  obtain ⟨hx, hb, hr, hml, hown, hts, hlk⟩ := id C
  have hl : lv_has ls 4 [(0, .ref o), (1, .int x), (2, .ref ou)] := hl
  refine lv_aload_n hx hb dX0_drawn_0 rfl (lv_at hl 2 rfl) ?_
  refine lv_iconst (v := 0) hx hb dX0_drawn_1 rfl ?_
  refine lv_aload_n hx hb dX0_drawn_2 rfl (lv_at hl 0 rfl) ?_
  refine lv_iload_n hx hb dX0_drawn_3 rfl (lv_at hl 1 rfl) ?_
  have HND : ∀ (E : String) (ce : Cell) (q9 : Addr) (H : Heap) (locs : List Loc) (cl sl : Nat) (rst : List Value) (ls : Array Slot), (fun E => ¬ hasC d x ∧ E = "java/lang/IndexOutOfBoundsException") E → va_S A s.heap H locs → va_P D clA [(ou, .inl (k 2, 1, .inr (.inl f0)))] H → H[q9]? = some ce → ce.vm = .none → s.vm.findClass E = some ce.cls → lv_has ls 4 [] → cl ≤ 1 → sl ≤ 6 → vy_W p l e (Rm 9 163 1 6) s m ([.ref o, .int x, .ref ou] : List Value).toArray below meth c H locs cl sl (vy_MQ below (jQ D (fun _ : Unit => some (.int (pick (¬ hasC d x) 1))) (fun _ _ => True) (fun _ : Unit => [(ou, .inl (k 2, 1, .inr (.inl (ifp (hasC d x) (vp_updL f0 0 (drawn d x).toInt64) f0))))]) (inL [(ou, .inl (k 2, 1, .inr (.inl f0)))])) (uX (fun _ _ _ => False) (inL [(ou, .inl (k 2, 1, .inr (.inl f0)))])) ([.ref o, .int x, .ref ou] : List Value).toArray s 1 6 (inL [(ou, .inl (k 2, 1, .inr (.inl f0)))])) (F0 m 4 ls rst) q9 := by
    intro E ce q9 H locs cl sl rst ls hth hS hP hce hcv hcl hl hcl9 hsl9
    refine vy_widen hcl9 hsl9 ?_
    have hD : va_D A [(ou, .inl (k 2, 1, .inr (.inl f0)))] := va_D_of hD rfl
    obtain ⟨hno, hE⟩ := hth
    subst hE
    refine vy_catch (name := "java/lang/IndexOutOfBoundsException") hown [] ⟨0, 9, 12, 32⟩ [] htab (fun z hz => by cases hz) (by decide) (by decide) (hts _ q1298) (hN.at q1334 rfl rfl) hce hcv hcl ?_
    have hT9 : pick (¬ hasC d x) 1 = 1 := (pick_t hno)
    have hnok : ¬ (hasC d x) := hno
    refine lv_astore_n (lv' := [(3, .ref q9)]) hx hb dX0_drawn_12 rfl hl (by decide) rfl (fun ls hl => ?_)
    refine lv_iconst (v := 1) hx hb dX0_drawn_13 rfl ?_
    exact vy_ret (j_iret hAe C () (by rw [hT9]) trivial (by rw [ifp_f hnok]; exact hP) (va_D_of hD rfl) hS (by first | exact Nat.le_of_ble_eq_true rfl | omega | (dsimp only [Rm]; omega)) (by first | exact Nat.le_of_ble_eq_true rfl | omega | (dsimp only [Rm]; omega)) dX0_drawn_14)
  refine o_after (vy_runV (As := [.int x]) (rest := [.int 0, .ref ou]) (g := F0 m 4 ls [.int x, .ref o, .int 0, .ref ou]) C.fix (c_Pdrawn l D k g o bb dq bl eo z hf d hz x htr) (cwV 1 hts (lw_V q1369 q1370 q1371 q68 q1372) rfl rfl rfl (by decide +kernel) ⟨Nat.le_of_ble_eq_true rfl, Nat.le_of_ble_eq_true rfl⟩) (preV mv2_hKX hK (va_recv hK hO (ci := 1) (q0 := 0) rfl rfl) (fun U hU hW => (hKX_at hX hS hAN (⟨hO, hdk⟩) hU hW))) rfl rfl hl.1 rfl (lv_room (Nat.le_of_ble_eq_true rfl)) dX0_drawn_4 ⟨(by first | exact Nat.le_of_ble_eq_true rfl | omega | (dsimp only [Rm]; omega)), (by first | exact Nat.le_of_ble_eq_true rfl | omega | (dsimp only [Rm]; omega))⟩) hS (fun E ce q9 H hth hS hk hce hcv hcl => HND E ce q9 H _ _ _ _ ls hth hS (hP.kept (fun i q hi => hk q.1 ((hP i q hi).lt))) hce hcv hcl (lv_sub hl [] rfl) (by omega) (by omega)) (fun H hp4 hS hsz hk => ?_)
  have hP : va_P D clA [(ou, .inl (k 2, 1, .inr (.inl f0)))] H := hP.kept (fun i q hi => hk q.1 ((hP i q hi).lt))
  have hD : va_D A [(ou, .inl (k 2, 1, .inr (.inl f0)))] := hD
  refine lv_i2l (v := (drawn d x).toInt64) hx hb dX0_drawn_7 rfl ?_
  refine w_last hx hb hK hP (va_D_of hD rfl) hS 0 rfl 0 rfl (Nat.le_of_ble_eq_true rfl) (Nat.le_of_ble_eq_true rfl) dX0_drawn_8 (fun H locs hP _ hS => ?_)
  have hP : va_P D clA [(ou, .inl (k 2, 1, .inr (.inl (vp_updL f0 0 ((drawn d x).toInt64)))))] H := hP
  refine lv_goto (tgt := 15) hx hb dX0_drawn_9 (by decide) ?_
  refine lv_iconst (v := 0) hx hb dX0_drawn_15 rfl ?_
  exact vy_ret (j_iret hAe C () (by rw [pick_f (fun h => h hp4)]) trivial (by rw [ifp_t hp4]; exact hP) (va_D_of hD rfl) hS (by first | exact Nat.le_of_ble_eq_true rfl | omega | (dsimp only [Rm]; omega)) (by first | exact Nat.le_of_ble_eq_true rfl | omega | (dsimp only [Rm]; omega)) dX0_drawn_16)
set_option maxHeartbeats 4000000 in
theorem l_transferred (l : Launch) (D : va_G) (k : Nat → ClassId) (g : Nat → Nat) (ou : Nat) (f0 : Nat → Int64) (o bb dq : Nat) (bl eo : Int32) (z : Nat → Nat) (hf d : Nat → Int32) (hz : dkN g z hf d) (x : Int32) (htr : l.stackTraces = false) : uMV l D k yX0_transferred cX0_transferred 4 (some .int) [(0, 9, 12, 32)] 9 163 1 6 [.ref o, .int x, .ref ou] g [(ou, .inl (k 2, 1, .inr (.inl f0)))] (fun HH => va_P D clA [(o, .inr (1, [.ref bb, .ref dq, .ref (z 0), .int bl, .int eo]))] HH ∧ dk D k z hf d HH) NcX (fun _ : Unit => some (.int (pick (¬ hasC d x) 1))) (fun _ _ => True) (fun _ : Unit => [(ou, .inl (k 2, 1, .inr (.inl (ifp (hasC d x) (vp_updL f0 0 (transf d x).toInt64) f0))))]) (fun _ _ _ => False) := by
  refine uMV_of (by decide) (Nat.le_of_ble_eq_true rfl) ?_
  intro p e s m below meth c ls A hAe C htab hNc hnm hmn hK hP hD hA hAN ⟨hO, hdk⟩ hX hS hl
  have hN : NW s := hX.nw
  have hD0 := hD
  obtain ⟨hx, hb, hr, hml, hown, hts, hlk⟩ := id C
  have hl : lv_has ls 4 [(0, .ref o), (1, .int x), (2, .ref ou)] := hl
  refine lv_aload_n hx hb dX0_transferred_0 rfl (lv_at hl 2 rfl) ?_
  refine lv_iconst (v := 0) hx hb dX0_transferred_1 rfl ?_
  refine lv_aload_n hx hb dX0_transferred_2 rfl (lv_at hl 0 rfl) ?_
  refine lv_iload_n hx hb dX0_transferred_3 rfl (lv_at hl 1 rfl) ?_
  have HND : ∀ (E : String) (ce : Cell) (q9 : Addr) (H : Heap) (locs : List Loc) (cl sl : Nat) (rst : List Value) (ls : Array Slot), (fun E => ¬ hasC d x ∧ E = "java/lang/IndexOutOfBoundsException") E → va_S A s.heap H locs → va_P D clA [(ou, .inl (k 2, 1, .inr (.inl f0)))] H → H[q9]? = some ce → ce.vm = .none → s.vm.findClass E = some ce.cls → lv_has ls 4 [] → cl ≤ 1 → sl ≤ 6 → vy_W p l e (Rm 9 163 1 6) s m ([.ref o, .int x, .ref ou] : List Value).toArray below meth c H locs cl sl (vy_MQ below (jQ D (fun _ : Unit => some (.int (pick (¬ hasC d x) 1))) (fun _ _ => True) (fun _ : Unit => [(ou, .inl (k 2, 1, .inr (.inl (ifp (hasC d x) (vp_updL f0 0 (transf d x).toInt64) f0))))]) (inL [(ou, .inl (k 2, 1, .inr (.inl f0)))])) (uX (fun _ _ _ => False) (inL [(ou, .inl (k 2, 1, .inr (.inl f0)))])) ([.ref o, .int x, .ref ou] : List Value).toArray s 1 6 (inL [(ou, .inl (k 2, 1, .inr (.inl f0)))])) (F0 m 4 ls rst) q9 := by
    intro E ce q9 H locs cl sl rst ls hth hS hP hce hcv hcl hl hcl9 hsl9
    refine vy_widen hcl9 hsl9 ?_
    have hD : va_D A [(ou, .inl (k 2, 1, .inr (.inl f0)))] := va_D_of hD rfl
    obtain ⟨hno, hE⟩ := hth
    subst hE
    refine vy_catch (name := "java/lang/IndexOutOfBoundsException") hown [] ⟨0, 9, 12, 32⟩ [] htab (fun z hz => by cases hz) (by decide) (by decide) (hts _ q1298) (hN.at q1334 rfl rfl) hce hcv hcl ?_
    have hT9 : pick (¬ hasC d x) 1 = 1 := (pick_t hno)
    have hnok : ¬ (hasC d x) := hno
    refine lv_astore_n (lv' := [(3, .ref q9)]) hx hb dX0_transferred_12 rfl hl (by decide) rfl (fun ls hl => ?_)
    refine lv_iconst (v := 1) hx hb dX0_transferred_13 rfl ?_
    exact vy_ret (j_iret hAe C () (by rw [hT9]) trivial (by rw [ifp_f hnok]; exact hP) (va_D_of hD rfl) hS (by first | exact Nat.le_of_ble_eq_true rfl | omega | (dsimp only [Rm]; omega)) (by first | exact Nat.le_of_ble_eq_true rfl | omega | (dsimp only [Rm]; omega)) dX0_transferred_14)
  refine o_after (vy_runV (As := [.int x]) (rest := [.int 0, .ref ou]) (g := F0 m 4 ls [.int x, .ref o, .int 0, .ref ou]) C.fix (c_Ptransferred l D k g o bb dq bl eo z hf d hz x htr) (cwV 1 hts (lw_V q1376 q1377 q1378 q68 q1379) rfl rfl rfl (by decide +kernel) ⟨Nat.le_of_ble_eq_true rfl, Nat.le_of_ble_eq_true rfl⟩) (preV mv2_hKX hK (va_recv hK hO (ci := 1) (q0 := 0) rfl rfl) (fun U hU hW => (hKX_at hX hS hAN (⟨hO, hdk⟩) hU hW))) rfl rfl hl.1 rfl (lv_room (Nat.le_of_ble_eq_true rfl)) dX0_transferred_4 ⟨(by first | exact Nat.le_of_ble_eq_true rfl | omega | (dsimp only [Rm]; omega)), (by first | exact Nat.le_of_ble_eq_true rfl | omega | (dsimp only [Rm]; omega))⟩) hS (fun E ce q9 H hth hS hk hce hcv hcl => HND E ce q9 H _ _ _ _ ls hth hS (hP.kept (fun i q hi => hk q.1 ((hP i q hi).lt))) hce hcv hcl (lv_sub hl [] rfl) (by omega) (by omega)) (fun H hp4 hS hsz hk => ?_)
  have hP : va_P D clA [(ou, .inl (k 2, 1, .inr (.inl f0)))] H := hP.kept (fun i q hi => hk q.1 ((hP i q hi).lt))
  have hD : va_D A [(ou, .inl (k 2, 1, .inr (.inl f0)))] := hD
  refine lv_i2l (v := (transf d x).toInt64) hx hb dX0_transferred_7 rfl ?_
  refine w_last hx hb hK hP (va_D_of hD rfl) hS 0 rfl 0 rfl (Nat.le_of_ble_eq_true rfl) (Nat.le_of_ble_eq_true rfl) dX0_transferred_8 (fun H locs hP _ hS => ?_)
  have hP : va_P D clA [(ou, .inl (k 2, 1, .inr (.inl (vp_updL f0 0 ((transf d x).toInt64)))))] H := hP
  refine lv_goto (tgt := 15) hx hb dX0_transferred_9 (by decide) ?_
  refine lv_iconst (v := 0) hx hb dX0_transferred_15 rfl ?_
  exact vy_ret (j_iret hAe C () (by rw [pick_f (fun h => h hp4)]) trivial (by rw [ifp_t hp4]; exact hP) (va_D_of hD rfl) hS (by first | exact Nat.le_of_ble_eq_true rfl | omega | (dsimp only [Rm]; omega)) (by first | exact Nat.le_of_ble_eq_true rfl | omega | (dsimp only [Rm]; omega)) dX0_transferred_16)
set_option maxHeartbeats 4000000 in
theorem l_available (l : Launch) (D : va_G) (k : Nat → ClassId) (g : Nat → Nat) (ou : Nat) (f0 : Nat → Int64) (o bb dq : Nat) (bl eo : Int32) (z : Nat → Nat) (hf d : Nat → Int32) (hz : dkN g z hf d) (x : Int32) (htr : l.stackTraces = false) : uMV l D k yX0_available cX0_available 4 (some .int) [(0, 9, 12, 32)] 9 163 1 6 [.ref o, .int x, .ref ou] g [(ou, .inl (k 2, 1, .inr (.inl f0)))] (fun HH => va_P D clA [(o, .inr (1, [.ref bb, .ref dq, .ref (z 0), .int bl, .int eo]))] HH ∧ dk D k z hf d HH) NcX (fun _ : Unit => some (.int (pick (¬ hasC d x) 1))) (fun _ _ => True) (fun _ : Unit => [(ou, .inl (k 2, 1, .inr (.inl (ifp (hasC d x) (vp_updL f0 0 (avail d (ci x)).toInt64) f0))))]) (fun _ _ _ => False) := by
  refine uMV_of (by decide) (Nat.le_of_ble_eq_true rfl) ?_
  intro p e s m below meth c ls A hAe C htab hNc hnm hmn hK hP hD hA hAN ⟨hO, hdk⟩ hX hS hl
  have hN : NW s := hX.nw
  have hD0 := hD
  obtain ⟨hx, hb, hr, hml, hown, hts, hlk⟩ := id C
  have hl : lv_has ls 4 [(0, .ref o), (1, .int x), (2, .ref ou)] := hl
  refine lv_aload_n hx hb dX0_available_0 rfl (lv_at hl 2 rfl) ?_
  refine lv_iconst (v := 0) hx hb dX0_available_1 rfl ?_
  refine lv_aload_n hx hb dX0_available_2 rfl (lv_at hl 0 rfl) ?_
  refine lv_iload_n hx hb dX0_available_3 rfl (lv_at hl 1 rfl) ?_
  have HND : ∀ (E : String) (ce : Cell) (q9 : Addr) (H : Heap) (locs : List Loc) (cl sl : Nat) (rst : List Value) (ls : Array Slot), (fun E => ¬ hasC d x ∧ E = "java/lang/IndexOutOfBoundsException") E → va_S A s.heap H locs → va_P D clA [(ou, .inl (k 2, 1, .inr (.inl f0)))] H → H[q9]? = some ce → ce.vm = .none → s.vm.findClass E = some ce.cls → lv_has ls 4 [] → cl ≤ 1 → sl ≤ 6 → vy_W p l e (Rm 9 163 1 6) s m ([.ref o, .int x, .ref ou] : List Value).toArray below meth c H locs cl sl (vy_MQ below (jQ D (fun _ : Unit => some (.int (pick (¬ hasC d x) 1))) (fun _ _ => True) (fun _ : Unit => [(ou, .inl (k 2, 1, .inr (.inl (ifp (hasC d x) (vp_updL f0 0 (avail d (ci x)).toInt64) f0))))]) (inL [(ou, .inl (k 2, 1, .inr (.inl f0)))])) (uX (fun _ _ _ => False) (inL [(ou, .inl (k 2, 1, .inr (.inl f0)))])) ([.ref o, .int x, .ref ou] : List Value).toArray s 1 6 (inL [(ou, .inl (k 2, 1, .inr (.inl f0)))])) (F0 m 4 ls rst) q9 := by
    intro E ce q9 H locs cl sl rst ls hth hS hP hce hcv hcl hl hcl9 hsl9
    refine vy_widen hcl9 hsl9 ?_
    have hD : va_D A [(ou, .inl (k 2, 1, .inr (.inl f0)))] := va_D_of hD rfl
    obtain ⟨hno, hE⟩ := hth
    subst hE
    refine vy_catch (name := "java/lang/IndexOutOfBoundsException") hown [] ⟨0, 9, 12, 32⟩ [] htab (fun z hz => by cases hz) (by decide) (by decide) (hts _ q1298) (hN.at q1334 rfl rfl) hce hcv hcl ?_
    have hT9 : pick (¬ hasC d x) 1 = 1 := (pick_t hno)
    have hnok : ¬ (hasC d x) := hno
    refine lv_astore_n (lv' := [(3, .ref q9)]) hx hb dX0_available_12 rfl hl (by decide) rfl (fun ls hl => ?_)
    refine lv_iconst (v := 1) hx hb dX0_available_13 rfl ?_
    exact vy_ret (j_iret hAe C () (by rw [hT9]) trivial (by rw [ifp_f hnok]; exact hP) (va_D_of hD rfl) hS (by first | exact Nat.le_of_ble_eq_true rfl | omega | (dsimp only [Rm]; omega)) (by first | exact Nat.le_of_ble_eq_true rfl | omega | (dsimp only [Rm]; omega)) dX0_available_14)
  refine o_after (vy_runV (As := [.int x]) (rest := [.int 0, .ref ou]) (g := F0 m 4 ls [.int x, .ref o, .int 0, .ref ou]) C.fix (c_Pavailable l D k g o bb dq bl eo z hf d hz x htr) (cwV 1 hts (lw_V q1384 q1385 q1386 q68 q1387) rfl rfl rfl (by decide +kernel) ⟨Nat.le_of_ble_eq_true rfl, Nat.le_of_ble_eq_true rfl⟩) (preV mv2_hKX hK (va_recv hK hO (ci := 1) (q0 := 0) rfl rfl) (fun U hU hW => (hKX_at hX hS hAN (⟨hO, hdk⟩) hU hW))) rfl rfl hl.1 rfl (lv_room (Nat.le_of_ble_eq_true rfl)) dX0_available_4 ⟨(by first | exact Nat.le_of_ble_eq_true rfl | omega | (dsimp only [Rm]; omega)), (by first | exact Nat.le_of_ble_eq_true rfl | omega | (dsimp only [Rm]; omega))⟩) hS (fun E ce q9 H hth hS hk hce hcv hcl => HND E ce q9 H _ _ _ _ ls hth hS (hP.kept (fun i q hi => hk q.1 ((hP i q hi).lt))) hce hcv hcl (lv_sub hl [] rfl) (by omega) (by omega)) (fun H hp4 hS hsz hk => ?_)
  have hP : va_P D clA [(ou, .inl (k 2, 1, .inr (.inl f0)))] H := hP.kept (fun i q hi => hk q.1 ((hP i q hi).lt))
  have hD : va_D A [(ou, .inl (k 2, 1, .inr (.inl f0)))] := hD
  refine lv_i2l (v := (avail d (ci x)).toInt64) hx hb dX0_available_7 rfl ?_
  refine w_last hx hb hK hP (va_D_of hD rfl) hS 0 rfl 0 rfl (Nat.le_of_ble_eq_true rfl) (Nat.le_of_ble_eq_true rfl) dX0_available_8 (fun H locs hP _ hS => ?_)
  have hP : va_P D clA [(ou, .inl (k 2, 1, .inr (.inl (vp_updL f0 0 ((avail d (ci x)).toInt64)))))] H := hP
  refine lv_goto (tgt := 15) hx hb dX0_available_9 (by decide) ?_
  refine lv_iconst (v := 0) hx hb dX0_available_15 rfl ?_
  exact vy_ret (j_iret hAe C () (by rw [pick_f (fun h => h hp4)]) trivial (by rw [ifp_t hp4]; exact hP) (va_D_of hD rfl) hS (by first | exact Nat.le_of_ble_eq_true rfl | omega | (dsimp only [Rm]; omega)) (by first | exact Nat.le_of_ble_eq_true rfl | omega | (dsimp only [Rm]; omega)) dX0_available_16)
set_option maxHeartbeats 4000000 in
theorem l_creditOf (l : Launch) (D : va_G) (k : Nat → ClassId) (g : Nat → Nat) (ou : Nat) (f0 : Nat → Int64) (o bb dq : Nat) (bl eo : Int32) (z : Nat → Nat) (hf d : Nat → Int32) (hz : dkN g z hf d) (x : Int32) (htr : l.stackTraces = false) : uMV l D k yX0_creditOf cX0_creditOf 4 (some .int) [(0, 9, 12, 32)] 9 163 1 6 [.ref o, .int x, .ref ou] g [(ou, .inl (k 2, 1, .inr (.inl f0)))] (fun HH => va_P D clA [(o, .inr (1, [.ref bb, .ref dq, .ref (z 0), .int bl, .int eo]))] HH ∧ dk D k z hf d HH) NcX (fun _ : Unit => some (.int (pick (¬ hasP d x) 1))) (fun _ _ => True) (fun _ : Unit => [(ou, .inl (k 2, 1, .inr (.inl (ifp (hasP d x) (vp_updL f0 0 (pf d (ci x) 0).toInt64) f0))))]) (fun _ _ _ => False) := by
  refine uMV_of (by decide) (Nat.le_of_ble_eq_true rfl) ?_
  intro p e s m below meth c ls A hAe C htab hNc hnm hmn hK hP hD hA hAN ⟨hO, hdk⟩ hX hS hl
  have hN : NW s := hX.nw
  have hD0 := hD
  obtain ⟨hx, hb, hr, hml, hown, hts, hlk⟩ := id C
  have hl : lv_has ls 4 [(0, .ref o), (1, .int x), (2, .ref ou)] := hl
  refine lv_aload_n hx hb dX0_creditOf_0 rfl (lv_at hl 2 rfl) ?_
  refine lv_iconst (v := 0) hx hb dX0_creditOf_1 rfl ?_
  refine lv_aload_n hx hb dX0_creditOf_2 rfl (lv_at hl 0 rfl) ?_
  refine lv_iload_n hx hb dX0_creditOf_3 rfl (lv_at hl 1 rfl) ?_
  have HND : ∀ (E : String) (ce : Cell) (q9 : Addr) (H : Heap) (locs : List Loc) (cl sl : Nat) (rst : List Value) (ls : Array Slot), (fun E => ¬ hasP d x ∧ E = "java/lang/IndexOutOfBoundsException") E → va_S A s.heap H locs → va_P D clA [(ou, .inl (k 2, 1, .inr (.inl f0)))] H → H[q9]? = some ce → ce.vm = .none → s.vm.findClass E = some ce.cls → lv_has ls 4 [] → cl ≤ 1 → sl ≤ 6 → vy_W p l e (Rm 9 163 1 6) s m ([.ref o, .int x, .ref ou] : List Value).toArray below meth c H locs cl sl (vy_MQ below (jQ D (fun _ : Unit => some (.int (pick (¬ hasP d x) 1))) (fun _ _ => True) (fun _ : Unit => [(ou, .inl (k 2, 1, .inr (.inl (ifp (hasP d x) (vp_updL f0 0 (pf d (ci x) 0).toInt64) f0))))]) (inL [(ou, .inl (k 2, 1, .inr (.inl f0)))])) (uX (fun _ _ _ => False) (inL [(ou, .inl (k 2, 1, .inr (.inl f0)))])) ([.ref o, .int x, .ref ou] : List Value).toArray s 1 6 (inL [(ou, .inl (k 2, 1, .inr (.inl f0)))])) (F0 m 4 ls rst) q9 := by
    intro E ce q9 H locs cl sl rst ls hth hS hP hce hcv hcl hl hcl9 hsl9
    refine vy_widen hcl9 hsl9 ?_
    have hD : va_D A [(ou, .inl (k 2, 1, .inr (.inl f0)))] := va_D_of hD rfl
    obtain ⟨hno, hE⟩ := hth
    subst hE
    refine vy_catch (name := "java/lang/IndexOutOfBoundsException") hown [] ⟨0, 9, 12, 32⟩ [] htab (fun z hz => by cases hz) (by decide) (by decide) (hts _ q1298) (hN.at q1334 rfl rfl) hce hcv hcl ?_
    have hT9 : pick (¬ hasP d x) 1 = 1 := (pick_t hno)
    have hnok : ¬ (hasP d x) := hno
    refine lv_astore_n (lv' := [(3, .ref q9)]) hx hb dX0_creditOf_12 rfl hl (by decide) rfl (fun ls hl => ?_)
    refine lv_iconst (v := 1) hx hb dX0_creditOf_13 rfl ?_
    exact vy_ret (j_iret hAe C () (by rw [hT9]) trivial (by rw [ifp_f hnok]; exact hP) (va_D_of hD rfl) hS (by first | exact Nat.le_of_ble_eq_true rfl | omega | (dsimp only [Rm]; omega)) (by first | exact Nat.le_of_ble_eq_true rfl | omega | (dsimp only [Rm]; omega)) dX0_creditOf_14)
  refine o_after (vy_runV (As := [.int x]) (rest := [.int 0, .ref ou]) (g := F0 m 4 ls [.int x, .ref o, .int 0, .ref ou]) C.fix (c_creditOf l D k g o bb dq bl eo z hf d hz x htr) (cwV 1 hts (lw_V q1391 q1392 q1393 q68 q1394) rfl rfl rfl (by decide +kernel) ⟨Nat.le_of_ble_eq_true rfl, Nat.le_of_ble_eq_true rfl⟩) (preV mv2_hKX hK (va_recv hK hO (ci := 1) (q0 := 0) rfl rfl) (fun U hU hW => (hKX_at hX hS hAN (⟨hO, hdk⟩) hU hW))) rfl rfl hl.1 rfl (lv_room (Nat.le_of_ble_eq_true rfl)) dX0_creditOf_4 ⟨(by first | exact Nat.le_of_ble_eq_true rfl | omega | (dsimp only [Rm]; omega)), (by first | exact Nat.le_of_ble_eq_true rfl | omega | (dsimp only [Rm]; omega))⟩) hS (fun E ce q9 H hth hS hk hce hcv hcl => HND E ce q9 H _ _ _ _ ls hth hS (hP.kept (fun i q hi => hk q.1 ((hP i q hi).lt))) hce hcv hcl (lv_sub hl [] rfl) (by omega) (by omega)) (fun H hp4 hS hsz hk => ?_)
  have hP : va_P D clA [(ou, .inl (k 2, 1, .inr (.inl f0)))] H := hP.kept (fun i q hi => hk q.1 ((hP i q hi).lt))
  have hD : va_D A [(ou, .inl (k 2, 1, .inr (.inl f0)))] := hD
  refine lv_i2l (v := (pf d (ci x) 0).toInt64) hx hb dX0_creditOf_7 rfl ?_
  refine w_last hx hb hK hP (va_D_of hD rfl) hS 0 rfl 0 rfl (Nat.le_of_ble_eq_true rfl) (Nat.le_of_ble_eq_true rfl) dX0_creditOf_8 (fun H locs hP _ hS => ?_)
  have hP : va_P D clA [(ou, .inl (k 2, 1, .inr (.inl (vp_updL f0 0 ((pf d (ci x) 0).toInt64)))))] H := hP
  refine lv_goto (tgt := 15) hx hb dX0_creditOf_9 (by decide) ?_
  refine lv_iconst (v := 0) hx hb dX0_creditOf_15 rfl ?_
  exact vy_ret (j_iret hAe C () (by rw [pick_f (fun h => h hp4)]) trivial (by rw [ifp_t hp4]; exact hP) (va_D_of hD rfl) hS (by first | exact Nat.le_of_ble_eq_true rfl | omega | (dsimp only [Rm]; omega)) (by first | exact Nat.le_of_ble_eq_true rfl | omega | (dsimp only [Rm]; omega)) dX0_creditOf_16)
set_option maxHeartbeats 4000000 in
theorem l_state (l : Launch) (D : va_G) (k : Nat → ClassId) (g : Nat → Nat) (ou : Nat) (f0 : Nat → Int64) (o bb dq : Nat) (bl eo : Int32) (z : Nat → Nat) (hf d : Nat → Int32) (hz : dkN g z hf d) (x : Int32) (htr : l.stackTraces = false) : uMV l D k yX0_state cX0_state 4 (some .int) [(0, 9, 12, 32)] 9 163 1 6 [.ref o, .int x, .ref ou] g [(ou, .inl (k 2, 1, .inr (.inl f0)))] (fun HH => va_P D clA [(o, .inr (1, [.ref bb, .ref dq, .ref (z 0), .int bl, .int eo]))] HH ∧ dk D k z hf d HH) NcX (fun _ : Unit => some (.int (pick (¬ hasP d x) 1))) (fun _ _ => True) (fun _ : Unit => [(ou, .inl (k 2, 1, .inr (.inl (ifp (hasP d x) (vp_updL f0 0 (pf d (ci x) 4).toInt64) f0))))]) (fun _ _ _ => False) := by
  refine uMV_of (by decide) (Nat.le_of_ble_eq_true rfl) ?_
  intro p e s m below meth c ls A hAe C htab hNc hnm hmn hK hP hD hA hAN ⟨hO, hdk⟩ hX hS hl
  have hN : NW s := hX.nw
  have hD0 := hD
  obtain ⟨hx, hb, hr, hml, hown, hts, hlk⟩ := id C
  have hl : lv_has ls 4 [(0, .ref o), (1, .int x), (2, .ref ou)] := hl
  refine lv_aload_n hx hb dX0_state_0 rfl (lv_at hl 2 rfl) ?_
  refine lv_iconst (v := 0) hx hb dX0_state_1 rfl ?_
  refine lv_aload_n hx hb dX0_state_2 rfl (lv_at hl 0 rfl) ?_
  refine lv_iload_n hx hb dX0_state_3 rfl (lv_at hl 1 rfl) ?_
  have HND : ∀ (E : String) (ce : Cell) (q9 : Addr) (H : Heap) (locs : List Loc) (cl sl : Nat) (rst : List Value) (ls : Array Slot), (fun E => ¬ hasP d x ∧ E = "java/lang/IndexOutOfBoundsException") E → va_S A s.heap H locs → va_P D clA [(ou, .inl (k 2, 1, .inr (.inl f0)))] H → H[q9]? = some ce → ce.vm = .none → s.vm.findClass E = some ce.cls → lv_has ls 4 [] → cl ≤ 1 → sl ≤ 6 → vy_W p l e (Rm 9 163 1 6) s m ([.ref o, .int x, .ref ou] : List Value).toArray below meth c H locs cl sl (vy_MQ below (jQ D (fun _ : Unit => some (.int (pick (¬ hasP d x) 1))) (fun _ _ => True) (fun _ : Unit => [(ou, .inl (k 2, 1, .inr (.inl (ifp (hasP d x) (vp_updL f0 0 (pf d (ci x) 4).toInt64) f0))))]) (inL [(ou, .inl (k 2, 1, .inr (.inl f0)))])) (uX (fun _ _ _ => False) (inL [(ou, .inl (k 2, 1, .inr (.inl f0)))])) ([.ref o, .int x, .ref ou] : List Value).toArray s 1 6 (inL [(ou, .inl (k 2, 1, .inr (.inl f0)))])) (F0 m 4 ls rst) q9 := by
    intro E ce q9 H locs cl sl rst ls hth hS hP hce hcv hcl hl hcl9 hsl9
    refine vy_widen hcl9 hsl9 ?_
    have hD : va_D A [(ou, .inl (k 2, 1, .inr (.inl f0)))] := va_D_of hD rfl
    obtain ⟨hno, hE⟩ := hth
    subst hE
    refine vy_catch (name := "java/lang/IndexOutOfBoundsException") hown [] ⟨0, 9, 12, 32⟩ [] htab (fun z hz => by cases hz) (by decide) (by decide) (hts _ q1298) (hN.at q1334 rfl rfl) hce hcv hcl ?_
    have hT9 : pick (¬ hasP d x) 1 = 1 := (pick_t hno)
    have hnok : ¬ (hasP d x) := hno
    refine lv_astore_n (lv' := [(3, .ref q9)]) hx hb dX0_state_12 rfl hl (by decide) rfl (fun ls hl => ?_)
    refine lv_iconst (v := 1) hx hb dX0_state_13 rfl ?_
    exact vy_ret (j_iret hAe C () (by rw [hT9]) trivial (by rw [ifp_f hnok]; exact hP) (va_D_of hD rfl) hS (by first | exact Nat.le_of_ble_eq_true rfl | omega | (dsimp only [Rm]; omega)) (by first | exact Nat.le_of_ble_eq_true rfl | omega | (dsimp only [Rm]; omega)) dX0_state_14)
  refine o_after (vy_runV (As := [.int x]) (rest := [.int 0, .ref ou]) (g := F0 m 4 ls [.int x, .ref o, .int 0, .ref ou]) C.fix (c_state l D k g o bb dq bl eo z hf d hz x htr) (cwV 1 hts (lw_V q1402 q1403 q1404 q68 q1405) rfl rfl rfl (by decide +kernel) ⟨Nat.le_of_ble_eq_true rfl, Nat.le_of_ble_eq_true rfl⟩) (preV mv2_hKX hK (va_recv hK hO (ci := 1) (q0 := 0) rfl rfl) (fun U hU hW => (hKX_at hX hS hAN (⟨hO, hdk⟩) hU hW))) rfl rfl hl.1 rfl (lv_room (Nat.le_of_ble_eq_true rfl)) dX0_state_4 ⟨(by first | exact Nat.le_of_ble_eq_true rfl | omega | (dsimp only [Rm]; omega)), (by first | exact Nat.le_of_ble_eq_true rfl | omega | (dsimp only [Rm]; omega))⟩) hS (fun E ce q9 H hth hS hk hce hcv hcl => HND E ce q9 H _ _ _ _ ls hth hS (hP.kept (fun i q hi => hk q.1 ((hP i q hi).lt))) hce hcv hcl (lv_sub hl [] rfl) (by omega) (by omega)) (fun H hp4 hS hsz hk => ?_)
  have hP : va_P D clA [(ou, .inl (k 2, 1, .inr (.inl f0)))] H := hP.kept (fun i q hi => hk q.1 ((hP i q hi).lt))
  have hD : va_D A [(ou, .inl (k 2, 1, .inr (.inl f0)))] := hD
  refine lv_i2l (v := (pf d (ci x) 4).toInt64) hx hb dX0_state_7 rfl ?_
  refine w_last hx hb hK hP (va_D_of hD rfl) hS 0 rfl 0 rfl (Nat.le_of_ble_eq_true rfl) (Nat.le_of_ble_eq_true rfl) dX0_state_8 (fun H locs hP _ hS => ?_)
  have hP : va_P D clA [(ou, .inl (k 2, 1, .inr (.inl (vp_updL f0 0 ((pf d (ci x) 4).toInt64)))))] H := hP
  refine lv_goto (tgt := 15) hx hb dX0_state_9 (by decide) ?_
  refine lv_iconst (v := 0) hx hb dX0_state_15 rfl ?_
  exact vy_ret (j_iret hAe C () (by rw [pick_f (fun h => h hp4)]) trivial (by rw [ifp_t hp4]; exact hP) (va_D_of hD rfl) hS (by first | exact Nat.le_of_ble_eq_true rfl | omega | (dsimp only [Rm]; omega)) (by first | exact Nat.le_of_ble_eq_true rfl | omega | (dsimp only [Rm]; omega)) dX0_state_16)
set_option maxHeartbeats 4000000 in
theorem l_discrepancies (l : Launch) (D : va_G) (k : Nat → ClassId) (g : Nat → Nat) (ou : Nat) (f0 : Nat → Int64) (o bb dq : Nat) (bl eo : Int32) (z : Nat → Nat) (hf d : Nat → Int32) (hz : dkN g z hf d) (x : Int32) (htr : l.stackTraces = false) : uMV l D k yX0_discrepancies cX0_discrepancies 4 (some .int) [(0, 9, 12, 32)] 9 163 1 6 [.ref o, .int x, .ref ou] g [(ou, .inl (k 2, 1, .inr (.inl f0)))] (fun HH => va_P D clA [(o, .inr (1, [.ref bb, .ref dq, .ref (z 0), .int bl, .int eo]))] HH ∧ dk D k z hf d HH) NcX (fun _ : Unit => some (.int (pick (¬ hasP d x) 1))) (fun _ _ => True) (fun _ : Unit => [(ou, .inl (k 2, 1, .inr (.inl (ifp (hasP d x) (vp_updL f0 0 (pf d (ci x) 3).toInt64) f0))))]) (fun _ _ _ => False) := by
  refine uMV_of (by decide) (Nat.le_of_ble_eq_true rfl) ?_
  intro p e s m below meth c ls A hAe C htab hNc hnm hmn hK hP hD hA hAN ⟨hO, hdk⟩ hX hS hl
  have hN : NW s := hX.nw
  have hD0 := hD
  obtain ⟨hx, hb, hr, hml, hown, hts, hlk⟩ := id C
  have hl : lv_has ls 4 [(0, .ref o), (1, .int x), (2, .ref ou)] := hl
  refine lv_aload_n hx hb dX0_discrepancies_0 rfl (lv_at hl 2 rfl) ?_
  refine lv_iconst (v := 0) hx hb dX0_discrepancies_1 rfl ?_
  refine lv_aload_n hx hb dX0_discrepancies_2 rfl (lv_at hl 0 rfl) ?_
  refine lv_iload_n hx hb dX0_discrepancies_3 rfl (lv_at hl 1 rfl) ?_
  have HND : ∀ (E : String) (ce : Cell) (q9 : Addr) (H : Heap) (locs : List Loc) (cl sl : Nat) (rst : List Value) (ls : Array Slot), (fun E => ¬ hasP d x ∧ E = "java/lang/IndexOutOfBoundsException") E → va_S A s.heap H locs → va_P D clA [(ou, .inl (k 2, 1, .inr (.inl f0)))] H → H[q9]? = some ce → ce.vm = .none → s.vm.findClass E = some ce.cls → lv_has ls 4 [] → cl ≤ 1 → sl ≤ 6 → vy_W p l e (Rm 9 163 1 6) s m ([.ref o, .int x, .ref ou] : List Value).toArray below meth c H locs cl sl (vy_MQ below (jQ D (fun _ : Unit => some (.int (pick (¬ hasP d x) 1))) (fun _ _ => True) (fun _ : Unit => [(ou, .inl (k 2, 1, .inr (.inl (ifp (hasP d x) (vp_updL f0 0 (pf d (ci x) 3).toInt64) f0))))]) (inL [(ou, .inl (k 2, 1, .inr (.inl f0)))])) (uX (fun _ _ _ => False) (inL [(ou, .inl (k 2, 1, .inr (.inl f0)))])) ([.ref o, .int x, .ref ou] : List Value).toArray s 1 6 (inL [(ou, .inl (k 2, 1, .inr (.inl f0)))])) (F0 m 4 ls rst) q9 := by
    intro E ce q9 H locs cl sl rst ls hth hS hP hce hcv hcl hl hcl9 hsl9
    refine vy_widen hcl9 hsl9 ?_
    have hD : va_D A [(ou, .inl (k 2, 1, .inr (.inl f0)))] := va_D_of hD rfl
    obtain ⟨hno, hE⟩ := hth
    subst hE
    refine vy_catch (name := "java/lang/IndexOutOfBoundsException") hown [] ⟨0, 9, 12, 32⟩ [] htab (fun z hz => by cases hz) (by decide) (by decide) (hts _ q1298) (hN.at q1334 rfl rfl) hce hcv hcl ?_
    have hT9 : pick (¬ hasP d x) 1 = 1 := (pick_t hno)
    have hnok : ¬ (hasP d x) := hno
    refine lv_astore_n (lv' := [(3, .ref q9)]) hx hb dX0_discrepancies_12 rfl hl (by decide) rfl (fun ls hl => ?_)
    refine lv_iconst (v := 1) hx hb dX0_discrepancies_13 rfl ?_
    exact vy_ret (j_iret hAe C () (by rw [hT9]) trivial (by rw [ifp_f hnok]; exact hP) (va_D_of hD rfl) hS (by first | exact Nat.le_of_ble_eq_true rfl | omega | (dsimp only [Rm]; omega)) (by first | exact Nat.le_of_ble_eq_true rfl | omega | (dsimp only [Rm]; omega)) dX0_discrepancies_14)
  refine o_after (vy_runV (As := [.int x]) (rest := [.int 0, .ref ou]) (g := F0 m 4 ls [.int x, .ref o, .int 0, .ref ou]) C.fix (c_discrepancies l D k g o bb dq bl eo z hf d hz x htr) (cwV 1 hts (lw_V q1409 q1410 q1411 q68 q1412) rfl rfl rfl (by decide +kernel) ⟨Nat.le_of_ble_eq_true rfl, Nat.le_of_ble_eq_true rfl⟩) (preV mv2_hKX hK (va_recv hK hO (ci := 1) (q0 := 0) rfl rfl) (fun U hU hW => (hKX_at hX hS hAN (⟨hO, hdk⟩) hU hW))) rfl rfl hl.1 rfl (lv_room (Nat.le_of_ble_eq_true rfl)) dX0_discrepancies_4 ⟨(by first | exact Nat.le_of_ble_eq_true rfl | omega | (dsimp only [Rm]; omega)), (by first | exact Nat.le_of_ble_eq_true rfl | omega | (dsimp only [Rm]; omega))⟩) hS (fun E ce q9 H hth hS hk hce hcv hcl => HND E ce q9 H _ _ _ _ ls hth hS (hP.kept (fun i q hi => hk q.1 ((hP i q hi).lt))) hce hcv hcl (lv_sub hl [] rfl) (by omega) (by omega)) (fun H hp4 hS hsz hk => ?_)
  have hP : va_P D clA [(ou, .inl (k 2, 1, .inr (.inl f0)))] H := hP.kept (fun i q hi => hk q.1 ((hP i q hi).lt))
  have hD : va_D A [(ou, .inl (k 2, 1, .inr (.inl f0)))] := hD
  refine lv_i2l (v := (pf d (ci x) 3).toInt64) hx hb dX0_discrepancies_7 rfl ?_
  refine w_last hx hb hK hP (va_D_of hD rfl) hS 0 rfl 0 rfl (Nat.le_of_ble_eq_true rfl) (Nat.le_of_ble_eq_true rfl) dX0_discrepancies_8 (fun H locs hP _ hS => ?_)
  have hP : va_P D clA [(ou, .inl (k 2, 1, .inr (.inl (vp_updL f0 0 ((pf d (ci x) 3).toInt64)))))] H := hP
  refine lv_goto (tgt := 15) hx hb dX0_discrepancies_9 (by decide) ?_
  refine lv_iconst (v := 0) hx hb dX0_discrepancies_15 rfl ?_
  exact vy_ret (j_iret hAe C () (by rw [pick_f (fun h => h hp4)]) trivial (by rw [ifp_t hp4]; exact hP) (va_D_of hD rfl) hS (by first | exact Nat.le_of_ble_eq_true rfl | omega | (dsimp only [Rm]; omega)) (by first | exact Nat.le_of_ble_eq_true rfl | omega | (dsimp only [Rm]; omega)) dX0_discrepancies_16)
set_option maxHeartbeats 4000000 in
theorem l_deadline (l : Launch) (D : va_G) (k : Nat → ClassId) (g : Nat → Nat) (ou : Nat) (f0 : Nat → Int64) (o bb dq : Nat) (bl eo : Int32) (z : Nat → Nat) (hf d : Nat → Int32) (hz : dkN g z hf d) (x : Int32) (htr : l.stackTraces = false) : uMV l D k yX0_deadline cX0_deadline 4 (some .int) [(0, 9, 12, 32)] 9 188 7 14 [.ref o, .int x, .ref ou] g [(ou, .inl (k 2, 1, .inr (.inl f0)))] (fun HH => va_P D clA [(o, .inr (1, [.ref bb, .ref dq, .ref (z 0), .int bl, .int eo]))] HH ∧ dk D k z hf d HH) NcX (fun _ : Unit => some (.int (pick (¬ hasP d x) 1))) (fun _ _ => True) (fun _ : Unit => [(ou, .inl (k 2, 1, .inr (.inl (ifp (hasP d x) (vp_updL f0 0 (nI (dead d (ci x))).toInt64) f0))))]) (fun _ _ _ => False) := by
  refine uMV_of (by decide) (Nat.le_of_ble_eq_true rfl) ?_
  intro p e s m below meth c ls A hAe C htab hNc hnm hmn hK hP hD hA hAN ⟨hO, hdk⟩ hX hS hl
  have hN : NW s := hX.nw
  have hD0 := hD
  obtain ⟨hx, hb, hr, hml, hown, hts, hlk⟩ := id C
  have hl : lv_has ls 4 [(0, .ref o), (1, .int x), (2, .ref ou)] := hl
  refine lv_aload_n hx hb dX0_deadline_0 rfl (lv_at hl 2 rfl) ?_
  refine lv_iconst (v := 0) hx hb dX0_deadline_1 rfl ?_
  refine lv_aload_n hx hb dX0_deadline_2 rfl (lv_at hl 0 rfl) ?_
  refine lv_iload_n hx hb dX0_deadline_3 rfl (lv_at hl 1 rfl) ?_
  have HND : ∀ (E : String) (ce : Cell) (q9 : Addr) (H : Heap) (locs : List Loc) (cl sl : Nat) (rst : List Value) (ls : Array Slot), (fun E => ¬ hasP d x ∧ E = "java/lang/IndexOutOfBoundsException") E → va_S A s.heap H locs → va_P D clA [(ou, .inl (k 2, 1, .inr (.inl f0)))] H → H[q9]? = some ce → ce.vm = .none → s.vm.findClass E = some ce.cls → lv_has ls 4 [] → cl ≤ 7 → sl ≤ 14 → vy_W p l e (Rm 9 188 7 14) s m ([.ref o, .int x, .ref ou] : List Value).toArray below meth c H locs cl sl (vy_MQ below (jQ D (fun _ : Unit => some (.int (pick (¬ hasP d x) 1))) (fun _ _ => True) (fun _ : Unit => [(ou, .inl (k 2, 1, .inr (.inl (ifp (hasP d x) (vp_updL f0 0 (nI (dead d (ci x))).toInt64) f0))))]) (inL [(ou, .inl (k 2, 1, .inr (.inl f0)))])) (uX (fun _ _ _ => False) (inL [(ou, .inl (k 2, 1, .inr (.inl f0)))])) ([.ref o, .int x, .ref ou] : List Value).toArray s 7 14 (inL [(ou, .inl (k 2, 1, .inr (.inl f0)))])) (F0 m 4 ls rst) q9 := by
    intro E ce q9 H locs cl sl rst ls hth hS hP hce hcv hcl hl hcl9 hsl9
    refine vy_widen hcl9 hsl9 ?_
    have hD : va_D A [(ou, .inl (k 2, 1, .inr (.inl f0)))] := va_D_of hD rfl
    obtain ⟨hno, hE⟩ := hth
    subst hE
    refine vy_catch (name := "java/lang/IndexOutOfBoundsException") hown [] ⟨0, 9, 12, 32⟩ [] htab (fun z hz => by cases hz) (by decide) (by decide) (hts _ q1298) (hN.at q1334 rfl rfl) hce hcv hcl ?_
    have hT9 : pick (¬ hasP d x) 1 = 1 := (pick_t hno)
    have hnok : ¬ (hasP d x) := hno
    refine lv_astore_n (lv' := [(3, .ref q9)]) hx hb dX0_deadline_12 rfl hl (by decide) rfl (fun ls hl => ?_)
    refine lv_iconst (v := 1) hx hb dX0_deadline_13 rfl ?_
    exact vy_ret (j_iret hAe C () (by rw [hT9]) trivial (by rw [ifp_f hnok]; exact hP) (va_D_of hD rfl) hS (by first | exact Nat.le_of_ble_eq_true rfl | omega | (dsimp only [Rm]; omega)) (by first | exact Nat.le_of_ble_eq_true rfl | omega | (dsimp only [Rm]; omega)) dX0_deadline_14)
  refine o_after (vy_runV (As := [.int x]) (rest := [.int 0, .ref ou]) (g := F0 m 4 ls [.int x, .ref o, .int 0, .ref ou]) C.fix (c_Pdeadline l D k g o bb dq bl eo z hf d hz x htr) (cwV 1 hts (lw_V q1416 q1417 q1418 q68 q1419) rfl rfl rfl (by decide +kernel) ⟨Nat.le_of_ble_eq_true rfl, Nat.le_of_ble_eq_true rfl⟩) (preV mv2_hKX hK (va_recv hK hO (ci := 1) (q0 := 0) rfl rfl) (fun U hU hW => (hKX_at hX hS hAN (⟨hO, hdk⟩) hU hW))) rfl rfl hl.1 rfl (lv_room (Nat.le_of_ble_eq_true rfl)) dX0_deadline_4 ⟨(by first | exact Nat.le_of_ble_eq_true rfl | omega | (dsimp only [Rm]; omega)), (by first | exact Nat.le_of_ble_eq_true rfl | omega | (dsimp only [Rm]; omega))⟩) hS (fun E ce q9 H hth hS hk hce hcv hcl => HND E ce q9 H _ _ _ _ ls hth hS (hP.kept (fun i q hi => hk q.1 ((hP i q hi).lt))) hce hcv hcl (lv_sub hl [] rfl) (by omega) (by omega)) (fun H hp4 hS hsz hk => ?_)
  have hP : va_P D clA [(ou, .inl (k 2, 1, .inr (.inl f0)))] H := hP.kept (fun i q hi => hk q.1 ((hP i q hi).lt))
  have hD : va_D A [(ou, .inl (k 2, 1, .inr (.inl f0)))] := hD
  refine lv_i2l (v := (nI (dead d (ci x))).toInt64) hx hb dX0_deadline_7 rfl ?_
  refine w_last hx hb hK hP (va_D_of hD rfl) hS 0 rfl 0 rfl (Nat.le_of_ble_eq_true rfl) (Nat.le_of_ble_eq_true rfl) dX0_deadline_8 (fun H locs hP _ hS => ?_)
  have hP : va_P D clA [(ou, .inl (k 2, 1, .inr (.inl (vp_updL f0 0 ((nI (dead d (ci x))).toInt64)))))] H := hP
  refine lv_goto (tgt := 15) hx hb dX0_deadline_9 (by decide) ?_
  refine lv_iconst (v := 0) hx hb dX0_deadline_15 rfl ?_
  exact vy_ret (j_iret hAe C () (by rw [pick_f (fun h => h hp4)]) trivial (by rw [ifp_t hp4]; exact hP) (va_D_of hD rfl) hS (by first | exact Nat.le_of_ble_eq_true rfl | omega | (dsimp only [Rm]; omega)) (by first | exact Nat.le_of_ble_eq_true rfl | omega | (dsimp only [Rm]; omega)) dX0_deadline_16)
set_option maxHeartbeats 4000000 in
theorem l_dueDay (l : Launch) (D : va_G) (k : Nat → ClassId) (g : Nat → Nat) (ou : Nat) (f0 : Nat → Int64) (o bb dq : Nat) (bl eo : Int32) (z : Nat → Nat) (hf d : Nat → Int32) (hz : dkN g z hf d) (x : Int32) (htr : l.stackTraces = false) : uMV l D k yX0_dueDay cX0_dueDay 4 (some .int) [(0, 9, 12, 32)] 9 163 1 6 [.ref o, .int x, .ref ou] g [(ou, .inl (k 2, 1, .inr (.inl f0)))] (fun HH => va_P D clA [(o, .inr (1, [.ref bb, .ref dq, .ref (z 0), .int bl, .int eo]))] HH ∧ dk D k z hf d HH) NcX (fun _ : Unit => some (.int (pick (¬ hasP d x) 1))) (fun _ _ => True) (fun _ : Unit => [(ou, .inl (k 2, 1, .inr (.inl (ifp (hasP d x) (vp_updL f0 0 (due d (ci x)).toInt64) f0))))]) (fun _ _ _ => False) := by
  refine uMV_of (by decide) (Nat.le_of_ble_eq_true rfl) ?_
  intro p e s m below meth c ls A hAe C htab hNc hnm hmn hK hP hD hA hAN ⟨hO, hdk⟩ hX hS hl
  have hN : NW s := hX.nw
  have hD0 := hD
  obtain ⟨hx, hb, hr, hml, hown, hts, hlk⟩ := id C
  have hl : lv_has ls 4 [(0, .ref o), (1, .int x), (2, .ref ou)] := hl
  refine lv_aload_n hx hb dX0_dueDay_0 rfl (lv_at hl 2 rfl) ?_
  refine lv_iconst (v := 0) hx hb dX0_dueDay_1 rfl ?_
  refine lv_aload_n hx hb dX0_dueDay_2 rfl (lv_at hl 0 rfl) ?_
  refine lv_iload_n hx hb dX0_dueDay_3 rfl (lv_at hl 1 rfl) ?_
  have HND : ∀ (E : String) (ce : Cell) (q9 : Addr) (H : Heap) (locs : List Loc) (cl sl : Nat) (rst : List Value) (ls : Array Slot), (fun E => ¬ hasP d x ∧ E = "java/lang/IndexOutOfBoundsException") E → va_S A s.heap H locs → va_P D clA [(ou, .inl (k 2, 1, .inr (.inl f0)))] H → H[q9]? = some ce → ce.vm = .none → s.vm.findClass E = some ce.cls → lv_has ls 4 [] → cl ≤ 1 → sl ≤ 6 → vy_W p l e (Rm 9 163 1 6) s m ([.ref o, .int x, .ref ou] : List Value).toArray below meth c H locs cl sl (vy_MQ below (jQ D (fun _ : Unit => some (.int (pick (¬ hasP d x) 1))) (fun _ _ => True) (fun _ : Unit => [(ou, .inl (k 2, 1, .inr (.inl (ifp (hasP d x) (vp_updL f0 0 (due d (ci x)).toInt64) f0))))]) (inL [(ou, .inl (k 2, 1, .inr (.inl f0)))])) (uX (fun _ _ _ => False) (inL [(ou, .inl (k 2, 1, .inr (.inl f0)))])) ([.ref o, .int x, .ref ou] : List Value).toArray s 1 6 (inL [(ou, .inl (k 2, 1, .inr (.inl f0)))])) (F0 m 4 ls rst) q9 := by
    intro E ce q9 H locs cl sl rst ls hth hS hP hce hcv hcl hl hcl9 hsl9
    refine vy_widen hcl9 hsl9 ?_
    have hD : va_D A [(ou, .inl (k 2, 1, .inr (.inl f0)))] := va_D_of hD rfl
    obtain ⟨hno, hE⟩ := hth
    subst hE
    refine vy_catch (name := "java/lang/IndexOutOfBoundsException") hown [] ⟨0, 9, 12, 32⟩ [] htab (fun z hz => by cases hz) (by decide) (by decide) (hts _ q1298) (hN.at q1334 rfl rfl) hce hcv hcl ?_
    have hT9 : pick (¬ hasP d x) 1 = 1 := (pick_t hno)
    have hnok : ¬ (hasP d x) := hno
    refine lv_astore_n (lv' := [(3, .ref q9)]) hx hb dX0_dueDay_12 rfl hl (by decide) rfl (fun ls hl => ?_)
    refine lv_iconst (v := 1) hx hb dX0_dueDay_13 rfl ?_
    exact vy_ret (j_iret hAe C () (by rw [hT9]) trivial (by rw [ifp_f hnok]; exact hP) (va_D_of hD rfl) hS (by first | exact Nat.le_of_ble_eq_true rfl | omega | (dsimp only [Rm]; omega)) (by first | exact Nat.le_of_ble_eq_true rfl | omega | (dsimp only [Rm]; omega)) dX0_dueDay_14)
  refine o_after (vy_runV (As := [.int x]) (rest := [.int 0, .ref ou]) (g := F0 m 4 ls [.int x, .ref o, .int 0, .ref ou]) C.fix (c_dueDay l D k g o bb dq bl eo z hf d hz x htr) (cwV 1 hts (lw_V q1428 q1429 q1430 q68 q1431) rfl rfl rfl (by decide +kernel) ⟨Nat.le_of_ble_eq_true rfl, Nat.le_of_ble_eq_true rfl⟩) (preV mv2_hKX hK (va_recv hK hO (ci := 1) (q0 := 0) rfl rfl) (fun U hU hW => (hKX_at hX hS hAN (⟨hO, hdk⟩) hU hW))) rfl rfl hl.1 rfl (lv_room (Nat.le_of_ble_eq_true rfl)) dX0_dueDay_4 ⟨(by first | exact Nat.le_of_ble_eq_true rfl | omega | (dsimp only [Rm]; omega)), (by first | exact Nat.le_of_ble_eq_true rfl | omega | (dsimp only [Rm]; omega))⟩) hS (fun E ce q9 H hth hS hk hce hcv hcl => HND E ce q9 H _ _ _ _ ls hth hS (hP.kept (fun i q hi => hk q.1 ((hP i q hi).lt))) hce hcv hcl (lv_sub hl [] rfl) (by omega) (by omega)) (fun H hp4 hS hsz hk => ?_)
  have hP : va_P D clA [(ou, .inl (k 2, 1, .inr (.inl f0)))] H := hP.kept (fun i q hi => hk q.1 ((hP i q hi).lt))
  have hD : va_D A [(ou, .inl (k 2, 1, .inr (.inl f0)))] := hD
  refine lv_i2l (v := (due d (ci x)).toInt64) hx hb dX0_dueDay_7 rfl ?_
  refine w_last hx hb hK hP (va_D_of hD rfl) hS 0 rfl 0 rfl (Nat.le_of_ble_eq_true rfl) (Nat.le_of_ble_eq_true rfl) dX0_dueDay_8 (fun H locs hP _ hS => ?_)
  have hP : va_P D clA [(ou, .inl (k 2, 1, .inr (.inl (vp_updL f0 0 ((due d (ci x)).toInt64)))))] H := hP
  refine lv_goto (tgt := 15) hx hb dX0_dueDay_9 (by decide) ?_
  refine lv_iconst (v := 0) hx hb dX0_dueDay_15 rfl ?_
  exact vy_ret (j_iret hAe C () (by rw [pick_f (fun h => h hp4)]) trivial (by rw [ifp_t hp4]; exact hP) (va_D_of hD rfl) hS (by first | exact Nat.le_of_ble_eq_true rfl | omega | (dsimp only [Rm]; omega)) (by first | exact Nat.le_of_ble_eq_true rfl | omega | (dsimp only [Rm]; omega)) dX0_dueDay_16)
set_option maxHeartbeats 4000000 in
theorem l_bestFit (l : Launch) (D : va_G) (k : Nat → ClassId) (g : Nat → Nat) (ou : Nat) (f0 : Nat → Int64) (o bb dq : Nat) (bl eo : Int32) (z : Nat → Nat) (hf d : Nat → Int32) (hz : dkN g z hf d) (x : Int32) (htr : l.stackTraces = false) : uMV l D k yX0_bestFit cX0_bestFit 4 (some .int) [(0, 9, 12, 32)] 9 180 2 18 [.ref o, .int x, .ref ou] g [(ou, .inl (k 2, 1, .inr (.inl f0)))] (fun HH => va_P D clA [(o, .inr (1, [.ref bb, .ref dq, .ref (z 0), .int bl, .int eo]))] HH ∧ dk D k z hf d HH) NcX (fun _ : Unit => some (.int (pick (¬ hasC d x) 1))) (fun _ _ => True) (fun _ : Unit => [(ou, .inl (k 2, 1, .inr (.inl (ifp (hasC d x) (vp_updL f0 0 (fitV d x).toInt64) f0))))]) (fun _ _ _ => False) := by
  refine uMV_of (by decide) (Nat.le_of_ble_eq_true rfl) ?_
  intro p e s m below meth c ls A hAe C htab hNc hnm hmn hK hP hD hA hAN ⟨hO, hdk⟩ hX hS hl
  have hN : NW s := hX.nw
  have hD0 := hD
  obtain ⟨hx, hb, hr, hml, hown, hts, hlk⟩ := id C
  have hl : lv_has ls 4 [(0, .ref o), (1, .int x), (2, .ref ou)] := hl
  refine lv_aload_n hx hb dX0_bestFit_0 rfl (lv_at hl 2 rfl) ?_
  refine lv_iconst (v := 0) hx hb dX0_bestFit_1 rfl ?_
  refine lv_aload_n hx hb dX0_bestFit_2 rfl (lv_at hl 0 rfl) ?_
  refine lv_iload_n hx hb dX0_bestFit_3 rfl (lv_at hl 1 rfl) ?_
  have HND : ∀ (E : String) (ce : Cell) (q9 : Addr) (H : Heap) (locs : List Loc) (cl sl : Nat) (rst : List Value) (ls : Array Slot), (fun E => ¬ hasC d x ∧ E = "java/lang/IndexOutOfBoundsException") E → va_S A s.heap H locs → va_P D clA [(ou, .inl (k 2, 1, .inr (.inl f0)))] H → H[q9]? = some ce → ce.vm = .none → s.vm.findClass E = some ce.cls → lv_has ls 4 [] → cl ≤ 2 → sl ≤ 18 → vy_W p l e (Rm 9 180 2 18) s m ([.ref o, .int x, .ref ou] : List Value).toArray below meth c H locs cl sl (vy_MQ below (jQ D (fun _ : Unit => some (.int (pick (¬ hasC d x) 1))) (fun _ _ => True) (fun _ : Unit => [(ou, .inl (k 2, 1, .inr (.inl (ifp (hasC d x) (vp_updL f0 0 (fitV d x).toInt64) f0))))]) (inL [(ou, .inl (k 2, 1, .inr (.inl f0)))])) (uX (fun _ _ _ => False) (inL [(ou, .inl (k 2, 1, .inr (.inl f0)))])) ([.ref o, .int x, .ref ou] : List Value).toArray s 2 18 (inL [(ou, .inl (k 2, 1, .inr (.inl f0)))])) (F0 m 4 ls rst) q9 := by
    intro E ce q9 H locs cl sl rst ls hth hS hP hce hcv hcl hl hcl9 hsl9
    refine vy_widen hcl9 hsl9 ?_
    have hD : va_D A [(ou, .inl (k 2, 1, .inr (.inl f0)))] := va_D_of hD rfl
    obtain ⟨hno, hE⟩ := hth
    subst hE
    refine vy_catch (name := "java/lang/IndexOutOfBoundsException") hown [] ⟨0, 9, 12, 32⟩ [] htab (fun z hz => by cases hz) (by decide) (by decide) (hts _ q1298) (hN.at q1334 rfl rfl) hce hcv hcl ?_
    have hT9 : pick (¬ hasC d x) 1 = 1 := (pick_t hno)
    have hnok : ¬ (hasC d x) := hno
    refine lv_astore_n (lv' := [(3, .ref q9)]) hx hb dX0_bestFit_12 rfl hl (by decide) rfl (fun ls hl => ?_)
    refine lv_iconst (v := 1) hx hb dX0_bestFit_13 rfl ?_
    exact vy_ret (j_iret hAe C () (by rw [hT9]) trivial (by rw [ifp_f hnok]; exact hP) (va_D_of hD rfl) hS (by first | exact Nat.le_of_ble_eq_true rfl | omega | (dsimp only [Rm]; omega)) (by first | exact Nat.le_of_ble_eq_true rfl | omega | (dsimp only [Rm]; omega)) dX0_bestFit_14)
  refine o_after (vy_runV (As := [.int x]) (rest := [.int 0, .ref ou]) (g := F0 m 4 ls [.int x, .ref o, .int 0, .ref ou]) C.fix (c_PbestFit l D k g o bb dq bl eo z hf d hz x htr) (cwV 1 hts (lw_V q1497 q1498 q1499 q68 q1500) rfl rfl rfl (by decide +kernel) ⟨Nat.le_of_ble_eq_true rfl, Nat.le_of_ble_eq_true rfl⟩) (preV mv2_hKX hK (va_recv hK hO (ci := 1) (q0 := 0) rfl rfl) (fun U hU hW => (hKX_at hX hS hAN (⟨hO, hdk⟩) hU hW))) rfl rfl hl.1 rfl (lv_room (Nat.le_of_ble_eq_true rfl)) dX0_bestFit_4 ⟨(by first | exact Nat.le_of_ble_eq_true rfl | omega | (dsimp only [Rm]; omega)), (by first | exact Nat.le_of_ble_eq_true rfl | omega | (dsimp only [Rm]; omega))⟩) hS (fun E ce q9 H hth hS hk hce hcv hcl => HND E ce q9 H _ _ _ _ ls hth hS (hP.kept (fun i q hi => hk q.1 ((hP i q hi).lt))) hce hcv hcl (lv_sub hl [] rfl) (by omega) (by omega)) (fun H hp4 hS hsz hk => ?_)
  have hP : va_P D clA [(ou, .inl (k 2, 1, .inr (.inl f0)))] H := hP.kept (fun i q hi => hk q.1 ((hP i q hi).lt))
  have hD : va_D A [(ou, .inl (k 2, 1, .inr (.inl f0)))] := hD
  refine lv_i2l (v := (fitV d x).toInt64) hx hb dX0_bestFit_7 rfl ?_
  refine w_last hx hb hK hP (va_D_of hD rfl) hS 0 rfl 0 rfl (Nat.le_of_ble_eq_true rfl) (Nat.le_of_ble_eq_true rfl) dX0_bestFit_8 (fun H locs hP _ hS => ?_)
  have hP : va_P D clA [(ou, .inl (k 2, 1, .inr (.inl (vp_updL f0 0 ((fitV d x).toInt64)))))] H := hP
  refine lv_goto (tgt := 15) hx hb dX0_bestFit_9 (by decide) ?_
  refine lv_iconst (v := 0) hx hb dX0_bestFit_15 rfl ?_
  exact vy_ret (j_iret hAe C () (by rw [pick_f (fun h => h hp4)]) trivial (by rw [ifp_t hp4]; exact hP) (va_D_of hD rfl) hS (by first | exact Nat.le_of_ble_eq_true rfl | omega | (dsimp only [Rm]; omega)) (by first | exact Nat.le_of_ble_eq_true rfl | omega | (dsimp only [Rm]; omega)) dX0_bestFit_16)
set_option maxHeartbeats 4000000 in
theorem l_fee (l : Launch) (D : va_G) (k : Nat → ClassId) (g : Nat → Nat) (ou : Nat) (f0 : Nat → Int64) (o bb dq : Nat) (bl eo : Int32) (z : Nat → Nat) (hf d : Nat → Int32) (hz : dkN g z hf d) (F : FeF) (x : Int32) (htr : l.stackTraces = false) : uMV l D k yX0_fee cX0_fee 4 (some .int) [(0, 9, 12, 32)] 904 27108 1 6 [.ref o, .int x, .ref ou] g [(ou, .inl (k 2, 1, .inr (.inl f0)))] (fun HH => va_P D clA [(o, .inr (1, [.ref bb, .ref dq, .ref (z 0), .int bl, .int eo]))] HH ∧ dk D k z hf d HH ∧ feD g F (z 9) HH) NcX (fun _ : Unit => some (.int (pick (¬ hasP d x) 1))) (fun _ _ => True) (fun _ : Unit => [(ou, .inl (k 2, 1, .inr (.inl (ifp (hasP d x) (vp_updL f0 0 (cfee F d (ci x)).toInt64) f0))))]) (fun _ _ _ => False) := by
  refine uMV_of (by decide) (Nat.le_of_ble_eq_true rfl) ?_
  intro p e s m below meth c ls A hAe C htab hNc hnm hmn hK hP hD hA hAN ⟨hO, hdk, hfe⟩ hX hS hl
  have hN : NW s := hX.nw
  have hD0 := hD
  obtain ⟨hx, hb, hr, hml, hown, hts, hlk⟩ := id C
  have hl : lv_has ls 4 [(0, .ref o), (1, .int x), (2, .ref ou)] := hl
  refine lv_aload_n hx hb dX0_fee_0 rfl (lv_at hl 2 rfl) ?_
  refine lv_iconst (v := 0) hx hb dX0_fee_1 rfl ?_
  refine lv_aload_n hx hb dX0_fee_2 rfl (lv_at hl 0 rfl) ?_
  refine lv_iload_n hx hb dX0_fee_3 rfl (lv_at hl 1 rfl) ?_
  have HND : ∀ (E : String) (ce : Cell) (q9 : Addr) (H : Heap) (locs : List Loc) (cl sl : Nat) (rst : List Value) (ls : Array Slot), (fun E => ¬ hasP d x ∧ E = "java/lang/IndexOutOfBoundsException") E → va_S A s.heap H locs → va_P D clA [(ou, .inl (k 2, 1, .inr (.inl f0)))] H → H[q9]? = some ce → ce.vm = .none → s.vm.findClass E = some ce.cls → lv_has ls 4 [] → cl ≤ 1 → sl ≤ 6 → vy_W p l e (Rm 904 27108 1 6) s m ([.ref o, .int x, .ref ou] : List Value).toArray below meth c H locs cl sl (vy_MQ below (jQ D (fun _ : Unit => some (.int (pick (¬ hasP d x) 1))) (fun _ _ => True) (fun _ : Unit => [(ou, .inl (k 2, 1, .inr (.inl (ifp (hasP d x) (vp_updL f0 0 (cfee F d (ci x)).toInt64) f0))))]) (inL [(ou, .inl (k 2, 1, .inr (.inl f0)))])) (uX (fun _ _ _ => False) (inL [(ou, .inl (k 2, 1, .inr (.inl f0)))])) ([.ref o, .int x, .ref ou] : List Value).toArray s 1 6 (inL [(ou, .inl (k 2, 1, .inr (.inl f0)))])) (F0 m 4 ls rst) q9 := by
    intro E ce q9 H locs cl sl rst ls hth hS hP hce hcv hcl hl hcl9 hsl9
    refine vy_widen hcl9 hsl9 ?_
    have hD : va_D A [(ou, .inl (k 2, 1, .inr (.inl f0)))] := va_D_of hD rfl
    obtain ⟨hno, hE⟩ := hth
    subst hE
    refine vy_catch (name := "java/lang/IndexOutOfBoundsException") hown [] ⟨0, 9, 12, 32⟩ [] htab (fun z hz => by cases hz) (by decide) (by decide) (hts _ q1298) (hN.at q1334 rfl rfl) hce hcv hcl ?_
    have hT9 : pick (¬ hasP d x) 1 = 1 := (pick_t hno)
    have hnok : ¬ (hasP d x) := hno
    refine lv_astore_n (lv' := [(3, .ref q9)]) hx hb dX0_fee_12 rfl hl (by decide) rfl (fun ls hl => ?_)
    refine lv_iconst (v := 1) hx hb dX0_fee_13 rfl ?_
    exact vy_ret (j_iret hAe C () (by rw [hT9]) trivial (by rw [ifp_f hnok]; exact hP) (va_D_of hD rfl) hS (by first | exact Nat.le_of_ble_eq_true rfl | omega | (dsimp only [Rm]; omega)) (by first | exact Nat.le_of_ble_eq_true rfl | omega | (dsimp only [Rm]; omega)) dX0_fee_14)
  refine o_after (vy_runV (As := [.int x]) (rest := [.int 0, .ref ou]) (g := F0 m 4 ls [.int x, .ref o, .int 0, .ref ou]) C.fix (c_Pfee l D k g o bb dq bl eo z hf d hz F x htr) (cwV 1 hts (lw_V q1435 q1436 q1437 q68 q1438) rfl rfl rfl (by decide +kernel) ⟨Nat.le_of_ble_eq_true rfl, Nat.le_of_ble_eq_true rfl⟩) (preV mv2_hKX hK (va_recv hK hO (ci := 1) (q0 := 0) rfl rfl) (fun U hU hW => (hKX_at hX hS hAN (⟨hO, hdk, hfe⟩) hU hW))) rfl rfl hl.1 rfl (lv_room (Nat.le_of_ble_eq_true rfl)) dX0_fee_4 ⟨(by first | exact Nat.le_of_ble_eq_true rfl | omega | (dsimp only [Rm]; omega)), (by first | exact Nat.le_of_ble_eq_true rfl | omega | (dsimp only [Rm]; omega))⟩) hS (fun E ce q9 H hth hS hk hce hcv hcl => HND E ce q9 H _ _ _ _ ls hth hS (hP.kept (fun i q hi => hk q.1 ((hP i q hi).lt))) hce hcv hcl (lv_sub hl [] rfl) (by omega) (by omega)) (fun H hp4 hS hsz hk => ?_)
  have hP : va_P D clA [(ou, .inl (k 2, 1, .inr (.inl f0)))] H := hP.kept (fun i q hi => hk q.1 ((hP i q hi).lt))
  have hD : va_D A [(ou, .inl (k 2, 1, .inr (.inl f0)))] := hD
  refine lv_i2l (v := (cfee F d (ci x)).toInt64) hx hb dX0_fee_7 rfl ?_
  refine w_last hx hb hK hP (va_D_of hD rfl) hS 0 rfl 0 rfl (Nat.le_of_ble_eq_true rfl) (Nat.le_of_ble_eq_true rfl) dX0_fee_8 (fun H locs hP _ hS => ?_)
  have hP : va_P D clA [(ou, .inl (k 2, 1, .inr (.inl (vp_updL f0 0 ((cfee F d (ci x)).toInt64)))))] H := hP
  refine lv_goto (tgt := 15) hx hb dX0_fee_9 (by decide) ?_
  refine lv_iconst (v := 0) hx hb dX0_fee_15 rfl ?_
  exact vy_ret (j_iret hAe C () (by rw [pick_f (fun h => h hp4)]) trivial (by rw [ifp_t hp4]; exact hP) (va_D_of hD rfl) hS (by first | exact Nat.le_of_ble_eq_true rfl | omega | (dsimp only [Rm]; omega)) (by first | exact Nat.le_of_ble_eq_true rfl | omega | (dsimp only [Rm]; omega)) dX0_fee_16)
set_option maxHeartbeats 4000000 in
theorem l_isBusinessDay (l : Launch) (D : va_G) (k : Nat → ClassId) (g : Nat → Nat) (ou : Nat) (f0 : Nat → Int64) (o bb dq : Nat) (bl eo : Int32) (z : Nat → Nat) (hf d : Nat → Int32) (hz : dkN g z hf d) (x : Int32) (htr : l.stackTraces = false) : uMV l D k yX0_isBusinessDay cX0_isBusinessDay 4 (some .int) [(0, 16, 19, 13)] 9 161 1 6 [.ref o, .int x, .ref ou] g [(ou, .inl (k 2, 1, .inr (.inl f0)))] (fun HH => va_P D clA [(o, .inr (1, [.ref bb, .ref dq, .ref (z 0), .int bl, .int eo]))] HH ∧ dk D k z hf d HH) NcX (fun _ : Unit => some (.int (pick (¬ inR x 0 9999) 1))) (fun _ _ => True) (fun _ : Unit => [(ou, .inl (k 2, 1, .inr (.inl (ifp (inR x 0 9999) (vp_updL f0 0 (bI (isBus d (ci x))).toInt64) f0))))]) (fun _ _ _ => False) := by
  refine uMV_of (by decide) (Nat.le_of_ble_eq_true rfl) ?_
  intro p e s m below meth c ls A hAe C htab hNc hnm hmn hK hP hD hA hAN ⟨hO, hdk⟩ hX hS hl
  have hN : NW s := hX.nw
  have hD0 := hD
  obtain ⟨hx, hb, hr, hml, hown, hts, hlk⟩ := id C
  have hl : lv_has ls 4 [(0, .ref o), (1, .int x), (2, .ref ou)] := hl
  refine lv_aload_n hx hb dX0_isBusinessDay_0 rfl (lv_at hl 2 rfl) ?_
  refine lv_iconst (v := 0) hx hb dX0_isBusinessDay_1 rfl ?_
  refine lv_aload_n hx hb dX0_isBusinessDay_2 rfl (lv_at hl 0 rfl) ?_
  refine lv_iload_n hx hb dX0_isBusinessDay_3 rfl (lv_at hl 1 rfl) ?_
  have HND : ∀ (E : String) (ce : Cell) (q9 : Addr) (H : Heap) (locs : List Loc) (cl sl : Nat) (rst : List Value) (ls : Array Slot), (fun E => ¬ inR x 0 9999 ∧ E = "java/lang/IllegalArgumentException") E → va_S A s.heap H locs → va_P D clA [(ou, .inl (k 2, 1, .inr (.inl f0)))] H → H[q9]? = some ce → ce.vm = .none → s.vm.findClass E = some ce.cls → lv_has ls 4 [] → cl ≤ 1 → sl ≤ 6 → vy_W p l e (Rm 9 161 1 6) s m ([.ref o, .int x, .ref ou] : List Value).toArray below meth c H locs cl sl (vy_MQ below (jQ D (fun _ : Unit => some (.int (pick (¬ inR x 0 9999) 1))) (fun _ _ => True) (fun _ : Unit => [(ou, .inl (k 2, 1, .inr (.inl (ifp (inR x 0 9999) (vp_updL f0 0 (bI (isBus d (ci x))).toInt64) f0))))]) (inL [(ou, .inl (k 2, 1, .inr (.inl f0)))])) (uX (fun _ _ _ => False) (inL [(ou, .inl (k 2, 1, .inr (.inl f0)))])) ([.ref o, .int x, .ref ou] : List Value).toArray s 1 6 (inL [(ou, .inl (k 2, 1, .inr (.inl f0)))])) (F0 m 4 ls rst) q9 := by
    intro E ce q9 H locs cl sl rst ls hth hS hP hce hcv hcl hl hcl9 hsl9
    refine vy_widen hcl9 hsl9 ?_
    have hD : va_D A [(ou, .inl (k 2, 1, .inr (.inl f0)))] := va_D_of hD rfl
    obtain ⟨hno, hE⟩ := hth
    subst hE
    refine vy_catch (name := "java/lang/IllegalArgumentException") hown [] ⟨0, 16, 19, 13⟩ [] htab (fun z hz => by cases hz) (by decide) (by decide) (hts _ q374) (hN.at q386 rfl rfl) hce hcv hcl ?_
    have hT9 : pick (¬ inR x 0 9999) 1 = 1 := (pick_t hno)
    have hnok : ¬ (inR x 0 9999) := hno
    refine lv_astore_n (lv' := [(3, .ref q9)]) hx hb dX0_isBusinessDay_19 rfl hl (by decide) rfl (fun ls hl => ?_)
    refine lv_iconst (v := 1) hx hb dX0_isBusinessDay_20 rfl ?_
    exact vy_ret (j_iret hAe C () (by rw [hT9]) trivial (by rw [ifp_f hnok]; exact hP) (va_D_of hD rfl) hS (by first | exact Nat.le_of_ble_eq_true rfl | omega | (dsimp only [Rm]; omega)) (by first | exact Nat.le_of_ble_eq_true rfl | omega | (dsimp only [Rm]; omega)) dX0_isBusinessDay_21)
  refine o_after (vy_runV (As := [.int x]) (rest := [.int 0, .ref ou]) (g := F0 m 4 ls [.int x, .ref o, .int 0, .ref ou]) C.fix (c_PisBusinessDay l D k g o bb dq bl eo z hf d hz x htr) (cwV 1 hts (lw_V q1173 q1174 q1175 q68 q1176) rfl rfl rfl (by decide +kernel) ⟨Nat.le_of_ble_eq_true rfl, Nat.le_of_ble_eq_true rfl⟩) (preV mv2_hKX hK (va_recv hK hO (ci := 1) (q0 := 0) rfl rfl) (fun U hU hW => (hKX_at hX hS hAN (⟨hO, hdk⟩) hU hW))) rfl rfl hl.1 rfl (lv_room (Nat.le_of_ble_eq_true rfl)) dX0_isBusinessDay_4 ⟨(by first | exact Nat.le_of_ble_eq_true rfl | omega | (dsimp only [Rm]; omega)), (by first | exact Nat.le_of_ble_eq_true rfl | omega | (dsimp only [Rm]; omega))⟩) hS (fun E ce q9 H hth hS hk hce hcv hcl => HND E ce q9 H _ _ _ _ ls hth hS (hP.kept (fun i q hi => hk q.1 ((hP i q hi).lt))) hce hcv hcl (lv_sub hl [] rfl) (by omega) (by omega)) (fun H hp4 hS hsz hk => ?_)
  have hP : va_P D clA [(ou, .inl (k 2, 1, .inr (.inl f0)))] H := hP.kept (fun i q hi => hk q.1 ((hP i q hi).lt))
  have hD : va_D A [(ou, .inl (k 2, 1, .inr (.inl f0)))] := hD
  have J_15 : ∀ (zl : Int64), (zl = (bI (isBus d (ci x))).toInt64) → ∀ (ls : Array Slot), lv_has ls 4 [(0, .ref o), (1, .int x), (2, .ref ou)] → W p l e (Rm 9 161 1 6) s m ([.ref o, .int x, .ref ou] : List Value).toArray below meth c H [] (0 + 1) (0 + 6) (vy_MQ below (jQ D (fun _ : Unit => some (.int (pick (¬ inR x 0 9999) 1))) (fun _ _ => True) (fun _ : Unit => [(ou, .inl (k 2, 1, .inr (.inl (ifp (inR x 0 9999) (vp_updL f0 0 (bI (isBus d (ci x))).toInt64) f0))))]) (inL [(ou, .inl (k 2, 1, .inr (.inl f0)))])) (uX (fun _ _ _ => False) (inL [(ou, .inl (k 2, 1, .inr (.inl f0)))])) ([.ref o, .int x, .ref ou] : List Value).toArray s 1 6 (inL [(ou, .inl (k 2, 1, .inr (.inl f0)))])) (F0 m 15 ls [.long zl, .int 0, .ref ou]) := by
    intro zl h_zl ls hl
    subst h_zl
    refine w_last hx hb hK hP (va_D_of hD rfl) hS 0 rfl 0 rfl (Nat.le_of_ble_eq_true rfl) (Nat.le_of_ble_eq_true rfl) dX0_isBusinessDay_15 (fun H locs hP _ hS => ?_)
    have hP : va_P D clA [(ou, .inl (k 2, 1, .inr (.inl (vp_updL f0 0 ((bI (isBus d (ci x))).toInt64)))))] H := hP
    refine lv_goto (tgt := 22) hx hb dX0_isBusinessDay_16 (by decide) ?_
    refine lv_iconst (v := 0) hx hb dX0_isBusinessDay_22 rfl ?_
    exact vy_ret (j_iret hAe C () (by rw [pick_f (fun h => h hp4)]) trivial (by rw [ifp_t hp4]; exact hP) (va_D_of hD rfl) hS (by first | exact Nat.le_of_ble_eq_true rfl | omega | (dsimp only [Rm]; omega)) (by first | exact Nat.le_of_ble_eq_true rfl | omega | (dsimp only [Rm]; omega)) dX0_isBusinessDay_23)
  refine lv_if_eq (tgt := 14) hx hb dX0_isBusinessDay_7 (by decide) (fun c_7 => ?_) (fun c_7 => ?_)
  · have b_7 := bI_0.mp c_7
    refine lv_lconst (v := 0) hx hb dX0_isBusinessDay_14 rfl ?_
    exact J_15 0 (by first | exact bI_long (bI_nz c_7) | exact bI_long0 (bI_0.mp c_7)) ls hl
  · have b_7 := bI_nz c_7
    refine lv_lconst (v := 1) hx hb dX0_isBusinessDay_10 rfl ?_
    refine lv_goto (tgt := 15) hx hb dX0_isBusinessDay_11 (by decide) ?_
    exact J_15 1 (by first | exact bI_long (bI_nz c_7) | exact bI_long0 (bI_0.mp c_7)) ls hl
set_option maxHeartbeats 4000000 in
theorem l_extended (l : Launch) (D : va_G) (k : Nat → ClassId) (g : Nat → Nat) (ou : Nat) (f0 : Nat → Int64) (o bb dq : Nat) (bl eo : Int32) (z : Nat → Nat) (hf d : Nat → Int32) (hz : dkN g z hf d) (x : Int32) (htr : l.stackTraces = false) : uMV l D k yX0_extended cX0_extended 4 (some .int) [(0, 9, 12, 13)] 9 163 3 10 [.ref o, .int x, .ref ou] g [(ou, .inl (k 2, 1, .inr (.inl f0)))] (fun HH => va_P D clA [(o, .inr (1, [.ref bb, .ref dq, .ref (z 0), .int bl, .int eo]))] HH ∧ dk D k z hf d HH) NcX (fun _ : Unit => some (.int (pick (¬ inR x 0 9999) 1))) (fun _ _ => True) (fun _ : Unit => [(ou, .inl (k 2, 1, .inr (.inl (ifp (inR x 0 9999) (vp_updL f0 0 (nI (ext d (ci x))).toInt64) f0))))]) (fun _ _ _ => False) := by
  refine uMV_of (by decide) (Nat.le_of_ble_eq_true rfl) ?_
  intro p e s m below meth c ls A hAe C htab hNc hnm hmn hK hP hD hA hAN ⟨hO, hdk⟩ hX hS hl
  have hN : NW s := hX.nw
  have hD0 := hD
  obtain ⟨hx, hb, hr, hml, hown, hts, hlk⟩ := id C
  have hl : lv_has ls 4 [(0, .ref o), (1, .int x), (2, .ref ou)] := hl
  refine lv_aload_n hx hb dX0_extended_0 rfl (lv_at hl 2 rfl) ?_
  refine lv_iconst (v := 0) hx hb dX0_extended_1 rfl ?_
  refine lv_aload_n hx hb dX0_extended_2 rfl (lv_at hl 0 rfl) ?_
  refine lv_iload_n hx hb dX0_extended_3 rfl (lv_at hl 1 rfl) ?_
  have HND : ∀ (E : String) (ce : Cell) (q9 : Addr) (H : Heap) (locs : List Loc) (cl sl : Nat) (rst : List Value) (ls : Array Slot), (fun E => ¬ inR x 0 9999 ∧ E = "java/lang/IllegalArgumentException") E → va_S A s.heap H locs → va_P D clA [(ou, .inl (k 2, 1, .inr (.inl f0)))] H → H[q9]? = some ce → ce.vm = .none → s.vm.findClass E = some ce.cls → lv_has ls 4 [] → cl ≤ 3 → sl ≤ 10 → vy_W p l e (Rm 9 163 3 10) s m ([.ref o, .int x, .ref ou] : List Value).toArray below meth c H locs cl sl (vy_MQ below (jQ D (fun _ : Unit => some (.int (pick (¬ inR x 0 9999) 1))) (fun _ _ => True) (fun _ : Unit => [(ou, .inl (k 2, 1, .inr (.inl (ifp (inR x 0 9999) (vp_updL f0 0 (nI (ext d (ci x))).toInt64) f0))))]) (inL [(ou, .inl (k 2, 1, .inr (.inl f0)))])) (uX (fun _ _ _ => False) (inL [(ou, .inl (k 2, 1, .inr (.inl f0)))])) ([.ref o, .int x, .ref ou] : List Value).toArray s 3 10 (inL [(ou, .inl (k 2, 1, .inr (.inl f0)))])) (F0 m 4 ls rst) q9 := by
    intro E ce q9 H locs cl sl rst ls hth hS hP hce hcv hcl hl hcl9 hsl9
    refine vy_widen hcl9 hsl9 ?_
    have hD : va_D A [(ou, .inl (k 2, 1, .inr (.inl f0)))] := va_D_of hD rfl
    obtain ⟨hno, hE⟩ := hth
    subst hE
    refine vy_catch (name := "java/lang/IllegalArgumentException") hown [] ⟨0, 9, 12, 13⟩ [] htab (fun z hz => by cases hz) (by decide) (by decide) (hts _ q374) (hN.at q386 rfl rfl) hce hcv hcl ?_
    have hT9 : pick (¬ inR x 0 9999) 1 = 1 := (pick_t hno)
    have hnok : ¬ (inR x 0 9999) := hno
    refine lv_astore_n (lv' := [(3, .ref q9)]) hx hb dX0_extended_12 rfl hl (by decide) rfl (fun ls hl => ?_)
    refine lv_iconst (v := 1) hx hb dX0_extended_13 rfl ?_
    exact vy_ret (j_iret hAe C () (by rw [hT9]) trivial (by rw [ifp_f hnok]; exact hP) (va_D_of hD rfl) hS (by first | exact Nat.le_of_ble_eq_true rfl | omega | (dsimp only [Rm]; omega)) (by first | exact Nat.le_of_ble_eq_true rfl | omega | (dsimp only [Rm]; omega)) dX0_extended_14)
  refine o_after (vy_runV (As := [.int x]) (rest := [.int 0, .ref ou]) (g := F0 m 4 ls [.int x, .ref o, .int 0, .ref ou]) C.fix (c_Pextended l D k g o bb dq bl eo z hf d hz x htr) (cwV 1 hts (lw_V q1189 q1190 q1191 q68 q1192) rfl rfl rfl (by decide +kernel) ⟨Nat.le_of_ble_eq_true rfl, Nat.le_of_ble_eq_true rfl⟩) (preV mv2_hKX hK (va_recv hK hO (ci := 1) (q0 := 0) rfl rfl) (fun U hU hW => (hKX_at hX hS hAN (⟨hO, hdk⟩) hU hW))) rfl rfl hl.1 rfl (lv_room (Nat.le_of_ble_eq_true rfl)) dX0_extended_4 ⟨(by first | exact Nat.le_of_ble_eq_true rfl | omega | (dsimp only [Rm]; omega)), (by first | exact Nat.le_of_ble_eq_true rfl | omega | (dsimp only [Rm]; omega))⟩) hS (fun E ce q9 H hth hS hk hce hcv hcl => HND E ce q9 H _ _ _ _ ls hth hS (hP.kept (fun i q hi => hk q.1 ((hP i q hi).lt))) hce hcv hcl (lv_sub hl [] rfl) (by omega) (by omega)) (fun H hp4 hS hsz hk => ?_)
  have hP : va_P D clA [(ou, .inl (k 2, 1, .inr (.inl f0)))] H := hP.kept (fun i q hi => hk q.1 ((hP i q hi).lt))
  have hD : va_D A [(ou, .inl (k 2, 1, .inr (.inl f0)))] := hD
  refine lv_i2l (v := (nI (ext d (ci x))).toInt64) hx hb dX0_extended_7 rfl ?_
  refine w_last hx hb hK hP (va_D_of hD rfl) hS 0 rfl 0 rfl (Nat.le_of_ble_eq_true rfl) (Nat.le_of_ble_eq_true rfl) dX0_extended_8 (fun H locs hP _ hS => ?_)
  have hP : va_P D clA [(ou, .inl (k 2, 1, .inr (.inl (vp_updL f0 0 ((nI (ext d (ci x))).toInt64)))))] H := hP
  refine lv_goto (tgt := 15) hx hb dX0_extended_9 (by decide) ?_
  refine lv_iconst (v := 0) hx hb dX0_extended_15 rfl ?_
  exact vy_ret (j_iret hAe C () (by rw [pick_f (fun h => h hp4)]) trivial (by rw [ifp_t hp4]; exact hP) (va_D_of hD rfl) hS (by first | exact Nat.le_of_ble_eq_true rfl | omega | (dsimp only [Rm]; omega)) (by first | exact Nat.le_of_ble_eq_true rfl | omega | (dsimp only [Rm]; omega)) dX0_extended_16)
set_option maxHeartbeats 4000000 in
theorem l_addBusinessDays (l : Launch) (D : va_G) (k : Nat → ClassId) (g : Nat → Nat) (ou : Nat) (f0 : Nat → Int64) (o bb dq : Nat) (bl eo : Int32) (z : Nat → Nat) (hf d : Nat → Int32) (hz : dkN g z hf d) (x y : Int32) (htr : l.stackTraces = false) : uMV l D k yX0_addBusinessDays cX0_addBusinessDays 5 (some .int) [(0, 10, 13, 13)] 9 168 (ci y + 3) (ci y + 15) [.ref o, .int x, .int y, .ref ou] g [(ou, .inl (k 2, 1, .inr (.inl f0)))] (fun HH => va_P D clA [(o, .inr (1, [.ref bb, .ref dq, .ref (z 0), .int bl, .int eo]))] HH ∧ dk D k z hf d HH) NcX (fun _ : Unit => some (.int (pick (¬ (inR x 0 9999 ∧ inR y 0 100)) 1))) (fun _ _ => True) (fun _ : Unit => [(ou, .inl (k 2, 1, .inr (.inl (ifp (inR x 0 9999 ∧ inR y 0 100) (vp_updL f0 0 (nI (addB d (ci x) (ci y))).toInt64) f0))))]) (fun _ _ _ => False) := by
  refine uMV_of (by decide) (Nat.le_of_ble_eq_true rfl) ?_
  intro p e s m below meth c ls A hAe C htab hNc hnm hmn hK hP hD hA hAN ⟨hO, hdk⟩ hX hS hl
  have hN : NW s := hX.nw
  have hD0 := hD
  obtain ⟨hx, hb, hr, hml, hown, hts, hlk⟩ := id C
  have hl : lv_has ls 5 [(0, .ref o), (1, .int x), (2, .int y), (3, .ref ou)] := hl
  refine lv_aload_n hx hb dX0_addBusinessDays_0 rfl (lv_at hl 3 rfl) ?_
  refine lv_iconst (v := 0) hx hb dX0_addBusinessDays_1 rfl ?_
  refine lv_aload_n hx hb dX0_addBusinessDays_2 rfl (lv_at hl 0 rfl) ?_
  refine lv_iload_n hx hb dX0_addBusinessDays_3 rfl (lv_at hl 1 rfl) ?_
  refine lv_iload_n hx hb dX0_addBusinessDays_4 rfl (lv_at hl 2 rfl) ?_
  have HND : ∀ (E : String) (ce : Cell) (q9 : Addr) (H : Heap) (locs : List Loc) (cl sl : Nat) (rst : List Value) (ls : Array Slot), (fun E => ¬ (inR x 0 9999 ∧ inR y 0 100) ∧ E = "java/lang/IllegalArgumentException") E → va_S A s.heap H locs → va_P D clA [(ou, .inl (k 2, 1, .inr (.inl f0)))] H → H[q9]? = some ce → ce.vm = .none → s.vm.findClass E = some ce.cls → lv_has ls 5 [] → cl ≤ (ci y + 3) → sl ≤ (ci y + 15) → vy_W p l e (Rm 9 168 (ci y + 3) (ci y + 15)) s m ([.ref o, .int x, .int y, .ref ou] : List Value).toArray below meth c H locs cl sl (vy_MQ below (jQ D (fun _ : Unit => some (.int (pick (¬ (inR x 0 9999 ∧ inR y 0 100)) 1))) (fun _ _ => True) (fun _ : Unit => [(ou, .inl (k 2, 1, .inr (.inl (ifp (inR x 0 9999 ∧ inR y 0 100) (vp_updL f0 0 (nI (addB d (ci x) (ci y))).toInt64) f0))))]) (inL [(ou, .inl (k 2, 1, .inr (.inl f0)))])) (uX (fun _ _ _ => False) (inL [(ou, .inl (k 2, 1, .inr (.inl f0)))])) ([.ref o, .int x, .int y, .ref ou] : List Value).toArray s (ci y + 3) (ci y + 15) (inL [(ou, .inl (k 2, 1, .inr (.inl f0)))])) (F0 m 5 ls rst) q9 := by
    intro E ce q9 H locs cl sl rst ls hth hS hP hce hcv hcl hl hcl9 hsl9
    refine vy_widen hcl9 hsl9 ?_
    have hD : va_D A [(ou, .inl (k 2, 1, .inr (.inl f0)))] := va_D_of hD rfl
    obtain ⟨hno, hE⟩ := hth
    subst hE
    refine vy_catch (name := "java/lang/IllegalArgumentException") hown [] ⟨0, 10, 13, 13⟩ [] htab (fun z hz => by cases hz) (by decide) (by decide) (hts _ q374) (hN.at q386 rfl rfl) hce hcv hcl ?_
    have hT9 : pick (¬ (inR x 0 9999 ∧ inR y 0 100)) 1 = 1 := (pick_t hno)
    have hnok : ¬ (inR x 0 9999 ∧ inR y 0 100) := hno
    refine lv_astore (lv' := [(4, .ref q9)]) hx hb dX0_addBusinessDays_13 hl (by decide) rfl (fun ls hl => ?_)
    refine lv_iconst (v := 1) hx hb dX0_addBusinessDays_15 rfl ?_
    exact vy_ret (j_iret hAe C () (by rw [hT9]) trivial (by rw [ifp_f hnok]; exact hP) (va_D_of hD rfl) hS (by first | exact Nat.le_of_ble_eq_true rfl | omega | (dsimp only [Rm]; omega)) (by first | exact Nat.le_of_ble_eq_true rfl | omega | (dsimp only [Rm]; omega)) dX0_addBusinessDays_16)
  refine o_after (vy_runV (As := [.int x, .int y]) (rest := [.int 0, .ref ou]) (g := F0 m 5 ls [.int y, .int x, .ref o, .int 0, .ref ou]) C.fix (c_PaddDays l D k g o bb dq bl eo z hf d hz x y htr) (cwV 2 hts (lw_V q1279 q1280 q1281 q68 q1282) rfl rfl rfl (by decide +kernel) ⟨Nat.le_of_ble_eq_true rfl, Nat.le_of_ble_eq_true rfl⟩) (preV mv2_hKX hK (va_recv hK hO (ci := 1) (q0 := 0) rfl rfl) (fun U hU hW => (hKX_at hX hS hAN (⟨hO, hdk⟩) hU hW))) rfl rfl hl.1 rfl (lv_room (Nat.le_of_ble_eq_true rfl)) dX0_addBusinessDays_5 ⟨(by first | exact Nat.le_of_ble_eq_true rfl | omega | (dsimp only [Rm]; omega)), (by first | exact Nat.le_of_ble_eq_true rfl | omega | (dsimp only [Rm]; omega))⟩) hS (fun E ce q9 H hth hS hk hce hcv hcl => HND E ce q9 H _ _ _ _ ls hth hS (hP.kept (fun i q hi => hk q.1 ((hP i q hi).lt))) hce hcv hcl (lv_sub hl [] rfl) (by omega) (by omega)) (fun H hp5 hS hsz hk => ?_)
  have hP : va_P D clA [(ou, .inl (k 2, 1, .inr (.inl f0)))] H := hP.kept (fun i q hi => hk q.1 ((hP i q hi).lt))
  have hD : va_D A [(ou, .inl (k 2, 1, .inr (.inl f0)))] := hD
  refine lv_i2l (v := (nI (addB d (ci x) (ci y))).toInt64) hx hb dX0_addBusinessDays_8 rfl ?_
  refine w_last hx hb hK hP (va_D_of hD rfl) hS 0 rfl 0 rfl (Nat.le_of_ble_eq_true rfl) (Nat.le_of_ble_eq_true rfl) dX0_addBusinessDays_9 (fun H locs hP _ hS => ?_)
  have hP : va_P D clA [(ou, .inl (k 2, 1, .inr (.inl (vp_updL f0 0 ((nI (addB d (ci x) (ci y))).toInt64)))))] H := hP
  refine lv_goto (tgt := 17) hx hb dX0_addBusinessDays_10 (by decide) ?_
  refine lv_iconst (v := 0) hx hb dX0_addBusinessDays_17 rfl ?_
  exact vy_ret (j_iret hAe C () (by rw [pick_f (fun h => h hp5)]) trivial (by rw [ifp_t hp5]; exact hP) (va_D_of hD rfl) hS (by first | exact Nat.le_of_ble_eq_true rfl | omega | (dsimp only [Rm]; omega)) (by first | exact Nat.le_of_ble_eq_true rfl | omega | (dsimp only [Rm]; omega)) dX0_addBusinessDays_18)
set_option maxHeartbeats 4000000 in
theorem l_businessDays (l : Launch) (D : va_G) (k : Nat → ClassId) (g : Nat → Nat) (ou : Nat) (f0 : Nat → Int64) (o bb dq : Nat) (bl eo : Int32) (z : Nat → Nat) (hf d : Nat → Int32) (hz : dkN g z hf d) (x y : Int32) (htr : l.stackTraces = false) : uMV l D k yX0_businessDays cX0_businessDays 5 (some .int) [(0, 10, 13, 13)] 9 164 2 12 [.ref o, .int x, .int y, .ref ou] g [(ou, .inl (k 2, 1, .inr (.inl f0)))] (fun HH => va_P D clA [(o, .inr (1, [.ref bb, .ref dq, .ref (z 0), .int bl, .int eo]))] HH ∧ dk D k z hf d HH) NcX (fun _ : Unit => some (.int (pick (¬ (inR x 0 9999 ∧ inR y 0 9999)) 1))) (fun _ _ => True) (fun _ : Unit => [(ou, .inl (k 2, 1, .inr (.inl (ifp (inR x 0 9999 ∧ inR y 0 9999) (vp_updL f0 0 (cntB d (ci x) (ci y - ci x)).toInt64) f0))))]) (fun _ _ _ => False) := by
  refine uMV_of (by decide) (Nat.le_of_ble_eq_true rfl) ?_
  intro p e s m below meth c ls A hAe C htab hNc hnm hmn hK hP hD hA hAN ⟨hO, hdk⟩ hX hS hl
  have hN : NW s := hX.nw
  have hD0 := hD
  obtain ⟨hx, hb, hr, hml, hown, hts, hlk⟩ := id C
  have hl : lv_has ls 5 [(0, .ref o), (1, .int x), (2, .int y), (3, .ref ou)] := hl
  refine lv_aload_n hx hb dX0_businessDays_0 rfl (lv_at hl 3 rfl) ?_
  refine lv_iconst (v := 0) hx hb dX0_businessDays_1 rfl ?_
  refine lv_aload_n hx hb dX0_businessDays_2 rfl (lv_at hl 0 rfl) ?_
  refine lv_iload_n hx hb dX0_businessDays_3 rfl (lv_at hl 1 rfl) ?_
  refine lv_iload_n hx hb dX0_businessDays_4 rfl (lv_at hl 2 rfl) ?_
  have HND : ∀ (E : String) (ce : Cell) (q9 : Addr) (H : Heap) (locs : List Loc) (cl sl : Nat) (rst : List Value) (ls : Array Slot), (fun E => ¬ (inR x 0 9999 ∧ inR y 0 9999) ∧ E = "java/lang/IllegalArgumentException") E → va_S A s.heap H locs → va_P D clA [(ou, .inl (k 2, 1, .inr (.inl f0)))] H → H[q9]? = some ce → ce.vm = .none → s.vm.findClass E = some ce.cls → lv_has ls 5 [] → cl ≤ 2 → sl ≤ 12 → vy_W p l e (Rm 9 164 2 12) s m ([.ref o, .int x, .int y, .ref ou] : List Value).toArray below meth c H locs cl sl (vy_MQ below (jQ D (fun _ : Unit => some (.int (pick (¬ (inR x 0 9999 ∧ inR y 0 9999)) 1))) (fun _ _ => True) (fun _ : Unit => [(ou, .inl (k 2, 1, .inr (.inl (ifp (inR x 0 9999 ∧ inR y 0 9999) (vp_updL f0 0 (cntB d (ci x) (ci y - ci x)).toInt64) f0))))]) (inL [(ou, .inl (k 2, 1, .inr (.inl f0)))])) (uX (fun _ _ _ => False) (inL [(ou, .inl (k 2, 1, .inr (.inl f0)))])) ([.ref o, .int x, .int y, .ref ou] : List Value).toArray s 2 12 (inL [(ou, .inl (k 2, 1, .inr (.inl f0)))])) (F0 m 5 ls rst) q9 := by
    intro E ce q9 H locs cl sl rst ls hth hS hP hce hcv hcl hl hcl9 hsl9
    refine vy_widen hcl9 hsl9 ?_
    have hD : va_D A [(ou, .inl (k 2, 1, .inr (.inl f0)))] := va_D_of hD rfl
    obtain ⟨hno, hE⟩ := hth
    subst hE
    refine vy_catch (name := "java/lang/IllegalArgumentException") hown [] ⟨0, 10, 13, 13⟩ [] htab (fun z hz => by cases hz) (by decide) (by decide) (hts _ q374) (hN.at q386 rfl rfl) hce hcv hcl ?_
    have hT9 : pick (¬ (inR x 0 9999 ∧ inR y 0 9999)) 1 = 1 := (pick_t hno)
    have hnok : ¬ (inR x 0 9999 ∧ inR y 0 9999) := hno
    refine lv_astore (lv' := [(4, .ref q9)]) hx hb dX0_businessDays_13 hl (by decide) rfl (fun ls hl => ?_)
    refine lv_iconst (v := 1) hx hb dX0_businessDays_15 rfl ?_
    exact vy_ret (j_iret hAe C () (by rw [hT9]) trivial (by rw [ifp_f hnok]; exact hP) (va_D_of hD rfl) hS (by first | exact Nat.le_of_ble_eq_true rfl | omega | (dsimp only [Rm]; omega)) (by first | exact Nat.le_of_ble_eq_true rfl | omega | (dsimp only [Rm]; omega)) dX0_businessDays_16)
  refine o_after (vy_runV (As := [.int x, .int y]) (rest := [.int 0, .ref ou]) (g := F0 m 5 ls [.int y, .int x, .ref o, .int 0, .ref ou]) C.fix (c_PbusDays l D k g o bb dq bl eo z hf d hz x y htr) (cwV 2 hts (lw_V q1291 q1292 q1293 q68 q1294) rfl rfl rfl (by decide +kernel) ⟨Nat.le_of_ble_eq_true rfl, Nat.le_of_ble_eq_true rfl⟩) (preV mv2_hKX hK (va_recv hK hO (ci := 1) (q0 := 0) rfl rfl) (fun U hU hW => (hKX_at hX hS hAN (⟨hO, hdk⟩) hU hW))) rfl rfl hl.1 rfl (lv_room (Nat.le_of_ble_eq_true rfl)) dX0_businessDays_5 ⟨(by first | exact Nat.le_of_ble_eq_true rfl | omega | (dsimp only [Rm]; omega)), (by first | exact Nat.le_of_ble_eq_true rfl | omega | (dsimp only [Rm]; omega))⟩) hS (fun E ce q9 H hth hS hk hce hcv hcl => HND E ce q9 H _ _ _ _ ls hth hS (hP.kept (fun i q hi => hk q.1 ((hP i q hi).lt))) hce hcv hcl (lv_sub hl [] rfl) (by omega) (by omega)) (fun H hp5 hS hsz hk => ?_)
  have hP : va_P D clA [(ou, .inl (k 2, 1, .inr (.inl f0)))] H := hP.kept (fun i q hi => hk q.1 ((hP i q hi).lt))
  have hD : va_D A [(ou, .inl (k 2, 1, .inr (.inl f0)))] := hD
  refine lv_i2l (v := (cntB d (ci x) (ci y - ci x)).toInt64) hx hb dX0_businessDays_8 rfl ?_
  refine w_last hx hb hK hP (va_D_of hD rfl) hS 0 rfl 0 rfl (Nat.le_of_ble_eq_true rfl) (Nat.le_of_ble_eq_true rfl) dX0_businessDays_9 (fun H locs hP _ hS => ?_)
  have hP : va_P D clA [(ou, .inl (k 2, 1, .inr (.inl (vp_updL f0 0 ((cntB d (ci x) (ci y - ci x)).toInt64)))))] H := hP
  refine lv_goto (tgt := 17) hx hb dX0_businessDays_10 (by decide) ?_
  refine lv_iconst (v := 0) hx hb dX0_businessDays_17 rfl ?_
  exact vy_ret (j_iret hAe C () (by rw [pick_f (fun h => h hp5)]) trivial (by rw [ifp_t hp5]; exact hP) (va_D_of hD rfl) hS (by first | exact Nat.le_of_ble_eq_true rfl | omega | (dsimp only [Rm]; omega)) (by first | exact Nat.le_of_ble_eq_true rfl | omega | (dsimp only [Rm]; omega)) dX0_businessDays_18)
set_option maxHeartbeats 4000000 in
theorem l_bound (l : Launch) (D : va_G) (k : Nat → ClassId) (g : Nat → Nat) (ou : Nat) (f0 : Nat → Int64) (o bb dq : Nat) (bl eo : Int32) (z : Nat → Nat) (hf d : Nat → Int32) (hz : dkN g z hf d) (x : Int32) (B : Prop) (htr : l.stackTraces = false) : uMV l D k yX0_bound cX0_bound 5 (some .int) [(0, 10, 13, 32)] 10 185 1 6 [.ref o, .int x, .int (bI B), .ref ou] g [(ou, .inl (k 2, 1, .inr (.inl f0)))] (fun HH => va_P D clA [(o, .inr (1, [.ref bb, .ref dq, .ref (z 0), .int bl, .int eo]))] HH ∧ dk D k z hf d HH) NcX (fun _ : Unit => some (.int (pick (¬ hasC d x) 1))) (fun _ _ => True) (fun _ : Unit => [(ou, .inl (k 2, 1, .inr (.inl (ifp (hasC d x) (vp_updL f0 0 (ifp B (most d (ci x)) (least d (ci x))).toInt64) f0))))]) (fun _ _ _ => False) := by
  refine uMV_of (by decide) (Nat.le_of_ble_eq_true rfl) ?_
  intro p e s m below meth c ls A hAe C htab hNc hnm hmn hK hP hD hA hAN ⟨hO, hdk⟩ hX hS hl
  have hN : NW s := hX.nw
  have hD0 := hD
  obtain ⟨hx, hb, hr, hml, hown, hts, hlk⟩ := id C
  have hl : lv_has ls 5 [(0, .ref o), (1, .int x), (2, .int (bI B)), (3, .ref ou)] := hl
  refine lv_aload_n hx hb dX0_bound_0 rfl (lv_at hl 3 rfl) ?_
  refine lv_iconst (v := 0) hx hb dX0_bound_1 rfl ?_
  refine lv_aload_n hx hb dX0_bound_2 rfl (lv_at hl 0 rfl) ?_
  refine lv_iload_n hx hb dX0_bound_3 rfl (lv_at hl 1 rfl) ?_
  refine lv_iload_n hx hb dX0_bound_4 rfl (lv_at hl 2 rfl) ?_
  have HND : ∀ (E : String) (ce : Cell) (q9 : Addr) (H : Heap) (locs : List Loc) (cl sl : Nat) (rst : List Value) (ls : Array Slot), (fun E => ¬ hasC d x ∧ E = "java/lang/IndexOutOfBoundsException") E → va_S A s.heap H locs → va_P D clA [(ou, .inl (k 2, 1, .inr (.inl f0)))] H → H[q9]? = some ce → ce.vm = .none → s.vm.findClass E = some ce.cls → lv_has ls 5 [] → cl ≤ 1 → sl ≤ 6 → vy_W p l e (Rm 10 185 1 6) s m ([.ref o, .int x, .int (bI B), .ref ou] : List Value).toArray below meth c H locs cl sl (vy_MQ below (jQ D (fun _ : Unit => some (.int (pick (¬ hasC d x) 1))) (fun _ _ => True) (fun _ : Unit => [(ou, .inl (k 2, 1, .inr (.inl (ifp (hasC d x) (vp_updL f0 0 (ifp B (most d (ci x)) (least d (ci x))).toInt64) f0))))]) (inL [(ou, .inl (k 2, 1, .inr (.inl f0)))])) (uX (fun _ _ _ => False) (inL [(ou, .inl (k 2, 1, .inr (.inl f0)))])) ([.ref o, .int x, .int (bI B), .ref ou] : List Value).toArray s 1 6 (inL [(ou, .inl (k 2, 1, .inr (.inl f0)))])) (F0 m 5 ls rst) q9 := by
    intro E ce q9 H locs cl sl rst ls hth hS hP hce hcv hcl hl hcl9 hsl9
    refine vy_widen hcl9 hsl9 ?_
    have hD : va_D A [(ou, .inl (k 2, 1, .inr (.inl f0)))] := va_D_of hD rfl
    obtain ⟨hno, hE⟩ := hth
    subst hE
    refine vy_catch (name := "java/lang/IndexOutOfBoundsException") hown [] ⟨0, 10, 13, 32⟩ [] htab (fun z hz => by cases hz) (by decide) (by decide) (hts _ q1298) (hN.at q1334 rfl rfl) hce hcv hcl ?_
    have hT9 : pick (¬ hasC d x) 1 = 1 := (pick_t hno)
    have hnok : ¬ (hasC d x) := hno
    refine lv_astore (lv' := [(4, .ref q9)]) hx hb dX0_bound_13 hl (by decide) rfl (fun ls hl => ?_)
    refine lv_iconst (v := 1) hx hb dX0_bound_15 rfl ?_
    exact vy_ret (j_iret hAe C () (by rw [hT9]) trivial (by rw [ifp_f hnok]; exact hP) (va_D_of hD rfl) hS (by first | exact Nat.le_of_ble_eq_true rfl | omega | (dsimp only [Rm]; omega)) (by first | exact Nat.le_of_ble_eq_true rfl | omega | (dsimp only [Rm]; omega)) dX0_bound_16)
  refine o_after (vy_runV (As := [.int x, .int (bI B)]) (rest := [.int 0, .ref ou]) (g := F0 m 5 ls [.int (bI B), .int x, .ref o, .int 0, .ref ou]) C.fix (c_Pbound l D k g o bb dq bl eo z hf d hz x B htr) (cwV 2 hts (lw_V q1350 q1351 q1352 q68 q1353) rfl rfl rfl (by decide +kernel) ⟨Nat.le_of_ble_eq_true rfl, Nat.le_of_ble_eq_true rfl⟩) (preV mv2_hKX hK (va_recv hK hO (ci := 1) (q0 := 0) rfl rfl) (fun U hU hW => (hKX_at hX hS hAN (⟨hO, hdk⟩) hU hW))) rfl rfl hl.1 rfl (lv_room (Nat.le_of_ble_eq_true rfl)) dX0_bound_5 ⟨(by first | exact Nat.le_of_ble_eq_true rfl | omega | (dsimp only [Rm]; omega)), (by first | exact Nat.le_of_ble_eq_true rfl | omega | (dsimp only [Rm]; omega))⟩) hS (fun E ce q9 H hth hS hk hce hcv hcl => HND E ce q9 H _ _ _ _ ls hth hS (hP.kept (fun i q hi => hk q.1 ((hP i q hi).lt))) hce hcv hcl (lv_sub hl [] rfl) (by omega) (by omega)) (fun H hp5 hS hsz hk => ?_)
  have hP : va_P D clA [(ou, .inl (k 2, 1, .inr (.inl f0)))] H := hP.kept (fun i q hi => hk q.1 ((hP i q hi).lt))
  have hD : va_D A [(ou, .inl (k 2, 1, .inr (.inl f0)))] := hD
  refine lv_i2l (v := (ifp B (most d (ci x)) (least d (ci x))).toInt64) hx hb dX0_bound_8 rfl ?_
  refine w_last hx hb hK hP (va_D_of hD rfl) hS 0 rfl 0 rfl (Nat.le_of_ble_eq_true rfl) (Nat.le_of_ble_eq_true rfl) dX0_bound_9 (fun H locs hP _ hS => ?_)
  have hP : va_P D clA [(ou, .inl (k 2, 1, .inr (.inl (vp_updL f0 0 ((ifp B (most d (ci x)) (least d (ci x))).toInt64)))))] H := hP
  refine lv_goto (tgt := 17) hx hb dX0_bound_10 (by decide) ?_
  refine lv_iconst (v := 0) hx hb dX0_bound_17 rfl ?_
  exact vy_ret (j_iret hAe C () (by rw [pick_f (fun h => h hp5)]) trivial (by rw [ifp_t hp5]; exact hP) (va_D_of hD rfl) hS (by first | exact Nat.le_of_ble_eq_true rfl | omega | (dsimp only [Rm]; omega)) (by first | exact Nat.le_of_ble_eq_true rfl | omega | (dsimp only [Rm]; omega)) dX0_bound_18)
set_option maxHeartbeats 4000000 in
theorem l_check (l : Launch) (D : va_G) (k : Nat → ClassId) (g : Nat → Nat) (ou : Nat) (f0 : Nat → Int64) (o bb dq : Nat) (bl eo : Int32) (z : Nat → Nat) (hf d : Nat → Int32) (hz : dkN g z hf d) (x y am dc ins : Int32) (htr : l.stackTraces = false) : uMV l D k yX0_check cX0_check 8 (some .int) [(0, 16, 19, 32), (0, 16, 23, 13)] 10 217 6 20 [.ref o, .int x, .int y, .int am, .int dc, .int ins, .ref ou] g [(ou, .inl (k 2, 1, .inr (.inl f0)))] (fun HH => va_P D clA [(o, .inr (1, [.ref bb, .ref dq, .ref (z 0), .int bl, .int eo]))] HH ∧ dk D k z hf d HH) NcX (fun _ : Unit => some (.int (thr2 (¬ hasC d x) (wrong y am dc ins)))) (fun _ _ => True) (fun _ : Unit => [(ou, .inl (k 2, 1, .inr (.inl (ifp (hasC d x ∧ ¬ wrong y am dc ins) (vp_updL f0 0 (faults d (ci x) (ci y) am dc ins).toInt64) f0))))]) (fun _ _ _ => False) := by
  refine uMV_of (by decide) (Nat.le_of_ble_eq_true rfl) ?_
  intro p e s m below meth c ls A hAe C htab hNc hnm hmn hK hP hD hA hAN ⟨hO, hdk⟩ hX hS hl
  have hN : NW s := hX.nw
  have hD0 := hD
  obtain ⟨hx, hb, hr, hml, hown, hts, hlk⟩ := id C
  have hl : lv_has ls 8 [(0, .ref o), (1, .int x), (2, .int y), (3, .int am), (4, .int dc), (5, .int ins), (6, .ref ou)] := hl
  refine lv_aload hx hb dX0_check_0 (lv_at hl 6 rfl) ?_
  refine lv_iconst (v := 0) hx hb dX0_check_2 rfl ?_
  refine lv_aload_n hx hb dX0_check_3 rfl (lv_at hl 0 rfl) ?_
  refine lv_iload_n hx hb dX0_check_4 rfl (lv_at hl 1 rfl) ?_
  refine lv_iload_n hx hb dX0_check_5 rfl (lv_at hl 2 rfl) ?_
  refine lv_iload_n hx hb dX0_check_6 rfl (lv_at hl 3 rfl) ?_
  refine lv_iload hx hb dX0_check_7 (lv_at hl 4 rfl) ?_
  refine lv_iload hx hb dX0_check_9 (lv_at hl 5 rfl) ?_
  have HND : ∀ (E : String) (ce : Cell) (q9 : Addr) (H : Heap) (locs : List Loc) (cl sl : Nat) (rst : List Value) (ls : Array Slot), (fun E => (¬ hasC d x ∧ E = "java/lang/IndexOutOfBoundsException") ∨ (hasC d x ∧ wrong y am dc ins ∧ E = "java/lang/IllegalArgumentException")) E → va_S A s.heap H locs → va_P D clA [(ou, .inl (k 2, 1, .inr (.inl f0)))] H → H[q9]? = some ce → ce.vm = .none → s.vm.findClass E = some ce.cls → lv_has ls 8 [] → cl ≤ 6 → sl ≤ 20 → vy_W p l e (Rm 10 217 6 20) s m ([.ref o, .int x, .int y, .int am, .int dc, .int ins, .ref ou] : List Value).toArray below meth c H locs cl sl (vy_MQ below (jQ D (fun _ : Unit => some (.int (thr2 (¬ hasC d x) (wrong y am dc ins)))) (fun _ _ => True) (fun _ : Unit => [(ou, .inl (k 2, 1, .inr (.inl (ifp (hasC d x ∧ ¬ wrong y am dc ins) (vp_updL f0 0 (faults d (ci x) (ci y) am dc ins).toInt64) f0))))]) (inL [(ou, .inl (k 2, 1, .inr (.inl f0)))])) (uX (fun _ _ _ => False) (inL [(ou, .inl (k 2, 1, .inr (.inl f0)))])) ([.ref o, .int x, .int y, .int am, .int dc, .int ins, .ref ou] : List Value).toArray s 6 20 (inL [(ou, .inl (k 2, 1, .inr (.inl f0)))])) (F0 m 11 ls rst) q9 := by
    intro E ce q9 H locs cl sl rst ls hth hS hP hce hcv hcl hl hcl9 hsl9
    refine vy_widen hcl9 hsl9 ?_
    have hD : va_D A [(ou, .inl (k 2, 1, .inr (.inl f0)))] := va_D_of hD rfl
    rcases hth with ⟨hno, hE⟩ | ⟨hy1, hno, hE⟩
    · subst hE
      refine vy_catch (name := "java/lang/IndexOutOfBoundsException") hown [] ⟨0, 16, 19, 32⟩ [⟨0, 16, 23, 13⟩] htab (fun z hz => by cases hz) (by decide) (by decide) (hts _ q1298) (hN.at q1334 rfl rfl) hce hcv hcl ?_
      have hT9 : thr2 (¬ hasC d x) (wrong y am dc ins) = 1 := (thr2_a hno)
      have hnok : ¬ (hasC d x ∧ ¬ wrong y am dc ins) := (fun h => hno h.1)
      refine lv_astore (lv' := [(7, .ref q9)]) hx hb dX0_check_19 hl (by decide) rfl (fun ls hl => ?_)
      refine lv_iconst (v := 1) hx hb dX0_check_21 rfl ?_
      exact vy_ret (j_iret hAe C () (by rw [hT9]) trivial (by rw [ifp_f hnok]; exact hP) (va_D_of hD rfl) hS (by first | exact Nat.le_of_ble_eq_true rfl | omega | (dsimp only [Rm]; omega)) (by first | exact Nat.le_of_ble_eq_true rfl | omega | (dsimp only [Rm]; omega)) dX0_check_22)
    · subst hE
      refine vy_catch (name := "java/lang/IllegalArgumentException") hown [⟨0, 16, 19, 32⟩] ⟨0, 16, 23, 13⟩ [] htab (fun z hz => Or.inr (by rw [List.mem_singleton.mp hz]; exact ⟨by decide, "java/lang/IndexOutOfBoundsException", hts _ q1298, hNc.2.1⟩)) (by decide) (by decide) (hts _ q374) (hN.at q386 rfl rfl) hce hcv hcl ?_
      have hT9 : thr2 (¬ hasC d x) (wrong y am dc ins) = 2 := (thr2_b (fun h => h hy1) hno)
      have hnok : ¬ (hasC d x ∧ ¬ wrong y am dc ins) := (fun h => h.2 hno)
      refine lv_astore (lv' := [(7, .ref q9)]) hx hb dX0_check_23 hl (by decide) rfl (fun ls hl => ?_)
      refine lv_iconst (v := 2) hx hb dX0_check_25 rfl ?_
      exact vy_ret (j_iret hAe C () (by rw [hT9]) trivial (by rw [ifp_f hnok]; exact hP) (va_D_of hD rfl) hS (by first | exact Nat.le_of_ble_eq_true rfl | omega | (dsimp only [Rm]; omega)) (by first | exact Nat.le_of_ble_eq_true rfl | omega | (dsimp only [Rm]; omega)) dX0_check_26)
  refine o_after (vy_runV (As := [.int x, .int y, .int am, .int dc, .int ins]) (rest := [.int 0, .ref ou]) (g := F0 m 11 ls [.int ins, .int dc, .int am, .int y, .int x, .ref o, .int 0, .ref ou]) C.fix (c_Pcheck l D k g o bb dq bl eo z hf d hz x y am dc ins htr) (cwV 5 hts (lw_V q1457 q1458 q1459 q68 q1460) rfl rfl rfl (by decide +kernel) ⟨Nat.le_of_ble_eq_true rfl, Nat.le_of_ble_eq_true rfl⟩) (preV mv2_hKX hK (va_recv hK hO (ci := 1) (q0 := 0) rfl rfl) (fun U hU hW => (hKX_at hX hS hAN (⟨hO, hdk⟩) hU hW))) rfl rfl hl.1 rfl (lv_room (Nat.le_of_ble_eq_true rfl)) dX0_check_11 ⟨(by first | exact Nat.le_of_ble_eq_true rfl | omega | (dsimp only [Rm]; omega)), (by first | exact Nat.le_of_ble_eq_true rfl | omega | (dsimp only [Rm]; omega))⟩) hS (fun E ce q9 H hth hS hk hce hcv hcl => HND E ce q9 H _ _ _ _ ls hth hS (hP.kept (fun i q hi => hk q.1 ((hP i q hi).lt))) hce hcv hcl (lv_sub hl [] rfl) (by omega) (by omega)) (fun H hp11 hS hsz hk => ?_)
  have hP : va_P D clA [(ou, .inl (k 2, 1, .inr (.inl f0)))] H := hP.kept (fun i q hi => hk q.1 ((hP i q hi).lt))
  have hD : va_D A [(ou, .inl (k 2, 1, .inr (.inl f0)))] := hD
  refine lv_i2l (v := (faults d (ci x) (ci y) am dc ins).toInt64) hx hb dX0_check_14 rfl ?_
  refine w_last hx hb hK hP (va_D_of hD rfl) hS 0 rfl 0 rfl (Nat.le_of_ble_eq_true rfl) (Nat.le_of_ble_eq_true rfl) dX0_check_15 (fun H locs hP _ hS => ?_)
  have hP : va_P D clA [(ou, .inl (k 2, 1, .inr (.inl (vp_updL f0 0 ((faults d (ci x) (ci y) am dc ins).toInt64)))))] H := hP
  refine lv_goto (tgt := 27) hx hb dX0_check_16 (by decide) ?_
  refine lv_iconst (v := 0) hx hb dX0_check_27 rfl ?_
  exact vy_ret (j_iret hAe C () (by rw [thr2_c (fun h => h hp11.1) hp11.2]) trivial (by rw [ifp_t hp11]; exact hP) (va_D_of hD rfl) hS (by first | exact Nat.le_of_ble_eq_true rfl | omega | (dsimp only [Rm]; omega)) (by first | exact Nat.le_of_ble_eq_true rfl | omega | (dsimp only [Rm]; omega)) dX0_check_28)
set_option maxHeartbeats 4000000 in
theorem l_lastDay (l : Launch) (D : va_G) (k : Nat → ClassId) (g : Nat → Nat) (ou : Nat) (f0 : Nat → Int64) (o bb dq : Nat) (bl eo : Int32) (z : Nat → Nat) (hf d : Nat → Int32) (hz : dkN g z hf d) (x y : Int32) (htr : l.stackTraces = false) : uMV l D k yX0_lastDay cX0_lastDay 5 (some .int) [(0, 10, 13, 32), (0, 10, 17, 13)] 9 187 6 20 [.ref o, .int x, .int y, .ref ou] g [(ou, .inl (k 2, 1, .inr (.inl f0)))] (fun HH => va_P D clA [(o, .inr (1, [.ref bb, .ref dq, .ref (z 0), .int bl, .int eo]))] HH ∧ dk D k z hf d HH) NcX (fun _ : Unit => some (.int (thr2 (¬ hasC d x) (¬ inR y 0 9999)))) (fun _ _ => True) (fun _ : Unit => [(ou, .inl (k 2, 1, .inr (.inl (ifp (hasC d x ∧ inR y 0 9999) (vp_updL f0 0 (lastD d (ci x) (ci y)).toInt64) f0))))]) (fun _ _ _ => False) := by
  refine uMV_of (by decide) (Nat.le_of_ble_eq_true rfl) ?_
  intro p e s m below meth c ls A hAe C htab hNc hnm hmn hK hP hD hA hAN ⟨hO, hdk⟩ hX hS hl
  have hN : NW s := hX.nw
  have hD0 := hD
  obtain ⟨hx, hb, hr, hml, hown, hts, hlk⟩ := id C
  have hl : lv_has ls 5 [(0, .ref o), (1, .int x), (2, .int y), (3, .ref ou)] := hl
  refine lv_aload_n hx hb dX0_lastDay_0 rfl (lv_at hl 3 rfl) ?_
  refine lv_iconst (v := 0) hx hb dX0_lastDay_1 rfl ?_
  refine lv_aload_n hx hb dX0_lastDay_2 rfl (lv_at hl 0 rfl) ?_
  refine lv_iload_n hx hb dX0_lastDay_3 rfl (lv_at hl 1 rfl) ?_
  refine lv_iload_n hx hb dX0_lastDay_4 rfl (lv_at hl 2 rfl) ?_
  have HND : ∀ (E : String) (ce : Cell) (q9 : Addr) (H : Heap) (locs : List Loc) (cl sl : Nat) (rst : List Value) (ls : Array Slot), (fun E => (¬ hasC d x ∧ E = "java/lang/IndexOutOfBoundsException") ∨ (hasC d x ∧ ¬ inR y 0 9999 ∧ E = "java/lang/IllegalArgumentException")) E → va_S A s.heap H locs → va_P D clA [(ou, .inl (k 2, 1, .inr (.inl f0)))] H → H[q9]? = some ce → ce.vm = .none → s.vm.findClass E = some ce.cls → lv_has ls 5 [] → cl ≤ 6 → sl ≤ 20 → vy_W p l e (Rm 9 187 6 20) s m ([.ref o, .int x, .int y, .ref ou] : List Value).toArray below meth c H locs cl sl (vy_MQ below (jQ D (fun _ : Unit => some (.int (thr2 (¬ hasC d x) (¬ inR y 0 9999)))) (fun _ _ => True) (fun _ : Unit => [(ou, .inl (k 2, 1, .inr (.inl (ifp (hasC d x ∧ inR y 0 9999) (vp_updL f0 0 (lastD d (ci x) (ci y)).toInt64) f0))))]) (inL [(ou, .inl (k 2, 1, .inr (.inl f0)))])) (uX (fun _ _ _ => False) (inL [(ou, .inl (k 2, 1, .inr (.inl f0)))])) ([.ref o, .int x, .int y, .ref ou] : List Value).toArray s 6 20 (inL [(ou, .inl (k 2, 1, .inr (.inl f0)))])) (F0 m 5 ls rst) q9 := by
    intro E ce q9 H locs cl sl rst ls hth hS hP hce hcv hcl hl hcl9 hsl9
    refine vy_widen hcl9 hsl9 ?_
    have hD : va_D A [(ou, .inl (k 2, 1, .inr (.inl f0)))] := va_D_of hD rfl
    rcases hth with ⟨hno, hE⟩ | ⟨hy1, hno, hE⟩
    · subst hE
      refine vy_catch (name := "java/lang/IndexOutOfBoundsException") hown [] ⟨0, 10, 13, 32⟩ [⟨0, 10, 17, 13⟩] htab (fun z hz => by cases hz) (by decide) (by decide) (hts _ q1298) (hN.at q1334 rfl rfl) hce hcv hcl ?_
      have hT9 : thr2 (¬ hasC d x) (¬ inR y 0 9999) = 1 := (thr2_a hno)
      have hnok : ¬ (hasC d x ∧ inR y 0 9999) := (fun h => hno h.1)
      refine lv_astore (lv' := [(4, .ref q9)]) hx hb dX0_lastDay_13 hl (by decide) rfl (fun ls hl => ?_)
      refine lv_iconst (v := 1) hx hb dX0_lastDay_15 rfl ?_
      exact vy_ret (j_iret hAe C () (by rw [hT9]) trivial (by rw [ifp_f hnok]; exact hP) (va_D_of hD rfl) hS (by first | exact Nat.le_of_ble_eq_true rfl | omega | (dsimp only [Rm]; omega)) (by first | exact Nat.le_of_ble_eq_true rfl | omega | (dsimp only [Rm]; omega)) dX0_lastDay_16)
    · subst hE
      refine vy_catch (name := "java/lang/IllegalArgumentException") hown [⟨0, 10, 13, 32⟩] ⟨0, 10, 17, 13⟩ [] htab (fun z hz => Or.inr (by rw [List.mem_singleton.mp hz]; exact ⟨by decide, "java/lang/IndexOutOfBoundsException", hts _ q1298, hNc.2.1⟩)) (by decide) (by decide) (hts _ q374) (hN.at q386 rfl rfl) hce hcv hcl ?_
      have hT9 : thr2 (¬ hasC d x) (¬ inR y 0 9999) = 2 := (thr2_b (fun h => h hy1) hno)
      have hnok : ¬ (hasC d x ∧ inR y 0 9999) := (fun h => hno h.2)
      refine lv_astore (lv' := [(4, .ref q9)]) hx hb dX0_lastDay_17 hl (by decide) rfl (fun ls hl => ?_)
      refine lv_iconst (v := 2) hx hb dX0_lastDay_19 rfl ?_
      exact vy_ret (j_iret hAe C () (by rw [hT9]) trivial (by rw [ifp_f hnok]; exact hP) (va_D_of hD rfl) hS (by first | exact Nat.le_of_ble_eq_true rfl | omega | (dsimp only [Rm]; omega)) (by first | exact Nat.le_of_ble_eq_true rfl | omega | (dsimp only [Rm]; omega)) dX0_lastDay_20)
  refine o_after (vy_runV (As := [.int x, .int y]) (rest := [.int 0, .ref ou]) (g := F0 m 5 ls [.int y, .int x, .ref o, .int 0, .ref ou]) C.fix (c_PlastDay l D k g o bb dq bl eo z hf d hz x y htr) (cwV 2 hts (lw_V q1489 q1490 q1491 q68 q1492) rfl rfl rfl (by decide +kernel) ⟨Nat.le_of_ble_eq_true rfl, Nat.le_of_ble_eq_true rfl⟩) (preV mv2_hKX hK (va_recv hK hO (ci := 1) (q0 := 0) rfl rfl) (fun U hU hW => (hKX_at hX hS hAN (⟨hO, hdk⟩) hU hW))) rfl rfl hl.1 rfl (lv_room (Nat.le_of_ble_eq_true rfl)) dX0_lastDay_5 ⟨(by first | exact Nat.le_of_ble_eq_true rfl | omega | (dsimp only [Rm]; omega)), (by first | exact Nat.le_of_ble_eq_true rfl | omega | (dsimp only [Rm]; omega))⟩) hS (fun E ce q9 H hth hS hk hce hcv hcl => HND E ce q9 H _ _ _ _ ls hth hS (hP.kept (fun i q hi => hk q.1 ((hP i q hi).lt))) hce hcv hcl (lv_sub hl [] rfl) (by omega) (by omega)) (fun H hp5 hS hsz hk => ?_)
  have hP : va_P D clA [(ou, .inl (k 2, 1, .inr (.inl f0)))] H := hP.kept (fun i q hi => hk q.1 ((hP i q hi).lt))
  have hD : va_D A [(ou, .inl (k 2, 1, .inr (.inl f0)))] := hD
  refine lv_i2l (v := (lastD d (ci x) (ci y)).toInt64) hx hb dX0_lastDay_8 rfl ?_
  refine w_last hx hb hK hP (va_D_of hD rfl) hS 0 rfl 0 rfl (Nat.le_of_ble_eq_true rfl) (Nat.le_of_ble_eq_true rfl) dX0_lastDay_9 (fun H locs hP _ hS => ?_)
  have hP : va_P D clA [(ou, .inl (k 2, 1, .inr (.inl (vp_updL f0 0 ((lastD d (ci x) (ci y)).toInt64)))))] H := hP
  refine lv_goto (tgt := 21) hx hb dX0_lastDay_10 (by decide) ?_
  refine lv_iconst (v := 0) hx hb dX0_lastDay_21 rfl ?_
  exact vy_ret (j_iret hAe C () (by rw [thr2_c (fun h => h hp5.1) (fun h => h hp5.2)]) trivial (by rw [ifp_t hp5]; exact hP) (va_D_of hD rfl) hS (by first | exact Nat.le_of_ble_eq_true rfl | omega | (dsimp only [Rm]; omega)) (by first | exact Nat.le_of_ble_eq_true rfl | omega | (dsimp only [Rm]; omega)) dX0_lastDay_22)
