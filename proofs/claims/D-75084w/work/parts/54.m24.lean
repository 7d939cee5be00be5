/-! the component: public questions (printed by gen/m24.py) -/
set_option maxRecDepth 100000
theorem ci_of {x : Int32} {n j : Nat} (h : x = nI j) (hj : j < 2 ^ 31) : ci x = j := by rw [h, ci_n hj]
theorem hasC_ci {d : Nat → Int32} {c : Int32} (hd : okD d) (h : hasC d c) : ci c < dN d 0 ∧ c = nI (ci c) := by
  obtain ⟨j, h1, h2⟩ := hasC_n hd h
  have := hd.1.1.2
  have e := ci_of (n := 0) h2 (by omega)
  rw [e]
  exact ⟨h1, h2⟩
theorem hasP_ci {d : Nat → Int32} {c : Int32} (hd : okD d) (h : hasP d c) : ci c < dN d 1 ∧ c = nI (ci c) := by
  obtain ⟨j, h1, h2⟩ := hasP_n hd h
  have := hd.1.2.1.2
  have e := ci_of (n := 0) h2 (by omega)
  rw [e]
  exact ⟨h1, h2⟩
theorem day_ci {x : Int32} (h : inR x 0 9999) : ci x ≤ 9999 ∧ x = nI (ci x) := by
  obtain ⟨j, h1, h2⟩ := day_n h
  have e := ci_of (n := 0) h2 (by omega)
  rw [e]
  exact ⟨h1, h2⟩
theorem cnt_ci {x : Int32} (h : inR x 0 100) : ci x ≤ 100 ∧ x = nI (ci x) := by
  obtain ⟨j, h1, h2⟩ := nI_of2 (n := 100) (x := x) rfl (Int32.not_lt.mpr h.1) h.2
  have e := ci_of (n := 0) h2 (by omega)
  rw [e]
  exact ⟨h1, h2⟩
theorem le64 (x y : Int32) : (x.toInt64 ≤ y.toInt64) ↔ x ≤ y := by
  rw [Int64.le_iff_toInt_le, Int32.le_iff_toInt_le, Int32.toInt_toInt64, Int32.toInt_toInt64]
theorem bet (x lo hi : Int32) {a b : Int64} (ha : lo.toInt64 = a) (hb : hi.toInt64 = b) : (a ≤ x.toInt64 ∧ x.toInt64 ≤ b) = inR x lo hi := by
  subst ha hb
  exact propext ⟨fun h => ⟨(le64 _ _).mp h.1, (le64 _ _).mp h.2⟩, fun h => ⟨(le64 _ _).mpr h.1, (le64 _ _).mpr h.2⟩⟩
theorem hasC_e {d : Nat → Int32} {x : Int32} (hd : okD d) : inR x 0 (nI (dN d 0) - 1) = hasC d x := by unfold hasC; rw [← hd.1.1.1]
theorem hasP_e {d : Nat → Int32} {x : Int32} (hd : okD d) : inR x 0 (nI (dN d 1) - 1) = hasP d x := by unfold hasP; rw [← hd.1.2.1.1]
set_option maxHeartbeats 4000000 in
theorem c_isBetween (l : Launch) (D : va_G) (k : Nat → ClassId) (v lo hi : Int64) : rM l D k yX1_isBetween cX1_isBetween 6 (some .boolean) 0 0 [.long v, .long lo, .long hi] (fun _ => True) (some (.int (bI (lo ≤ v ∧ v ≤ hi)))) := by
  refine rM_of (by decide) (Nat.le_of_ble_eq_true rfl) ?_
  intro p e s m below meth c ls C hK _ hl
  obtain ⟨hx, hb, hr, hml, hown, hts, hlk⟩ := id C
  have hl : lv_has ls 6 [(0, .long v), (2, .long lo), (4, .long hi)] := hl
  refine lv_lload_n hx hb dX1_isBetween_0 rfl (lv_at hl 0 rfl) ?_
  refine lv_lload_n hx hb dX1_isBetween_1 rfl (lv_at hl 1 rfl) ?_
  refine W.lcmp hx hb dX1_isBetween_2 ?_
  have J_18 : ∀ (z : Int32), (z = bI (lo ≤ v ∧ v ≤ hi)) → ∀ (ls : Array Slot), lv_has ls 6 [(0, .long v), (2, .long lo), (4, .long hi)] → W p l e (Rm 0 0 0 0) s m ([.long v, .long lo, .long hi] : List Value).toArray below meth c s.heap [] 0 0 (MQ below (rQ (some (.int (bI (lo ≤ v ∧ v ≤ hi))))) ([.long v, .long lo, .long hi] : List Value).toArray s 0 0 (fun _ => False)) (F0 m 18 ls [.int z]) := by
    intro z h_z ls hl
    exact r_zret C h_z dX1_isBetween_18
  refine lv_if_lt (tgt := 17) hx hb dX1_isBetween_3 (by decide) (fun c_3 => ?_) (fun c_3 => ?_)
  · refine lv_iconst (v := 0) hx hb dX1_isBetween_17 rfl ?_
    exact J_18 0 (by simp only [lg_cmp_lt, lg_cmp_le, lg_cmp_ge, lg_cmp_gt, Int64.lt_iff_toInt_lt, Int64.le_iff_toInt_le] at *; first | exact bI_f (fun h => by omega) | exact bI_t (by omega)) ls hl
  · refine lv_lload_n hx hb dX1_isBetween_6 rfl (lv_at hl 0 rfl) ?_
    refine lv_lload hx hb dX1_isBetween_7 (lv_at hl 2 rfl) ?_
    refine W.lcmp hx hb dX1_isBetween_9 ?_
    refine lv_if_gt (tgt := 17) hx hb dX1_isBetween_10 (by decide) (fun c_10 => ?_) (fun c_10 => ?_)
    · refine lv_iconst (v := 0) hx hb dX1_isBetween_17 rfl ?_
      exact J_18 0 (by simp only [lg_cmp_lt, lg_cmp_le, lg_cmp_ge, lg_cmp_gt, Int64.lt_iff_toInt_lt, Int64.le_iff_toInt_le] at *; first | exact bI_f (fun h => by omega) | exact bI_t (by omega)) ls hl
    · refine lv_iconst (v := 1) hx hb dX1_isBetween_13 rfl ?_
      refine lv_goto (tgt := 18) hx hb dX1_isBetween_14 (by decide) ?_
      exact J_18 1 (by simp only [lg_cmp_lt, lg_cmp_le, lg_cmp_ge, lg_cmp_gt, Int64.lt_iff_toInt_lt, Int64.le_iff_toInt_le] at *; first | exact bI_f (fun h => by omega) | exact bI_t (by omega)) ls hl
set_option maxHeartbeats 4000000 in
theorem thr_X1_46 {args : Array Value} {s : State} (hts : ∀ w ∈ lw_all, w.before args s = true) (hN : NW s) : ∀ w ∈ Bundle.ownAtoms0 "DocumentaryCreditDesk" 46 "java/lang/IndexOutOfBoundsException" ["java/lang/RuntimeException", "java/lang/Exception"], vy_no w = true → w.before args s = true :=
  (fc (fun _ => hts _ q77) (fc (fun _ => hts _ q406) (fc (fun _ => hts _ q415) (fc (fun _ => hts _ q423) (fc (fun _ => hts _ q426) (fc (fun _ => hts _ q428) (fc (fun _ => hts _ q407) (fc (fun _ => hts _ q408) (fc (fun _ => hts _ q112) (fc (fun _ => hts _ q113) (fc (fun _ => hts _ q409) (fc (fun _ => hts _ q414) (fc (fun _ => hts _ q424) (fc (fun _ => hts _ q441) (fc (fun _ => hts _ q396) (fc (fun _ => hts _ q442) (fc (fun _ => hts _ q398) (fc (fun _ => hts _ q443) (fc (fun _ => hts _ q400) (fc (fun _ => hts _ q410) (fc (fun h => absurd h (by decide)) (fc (fun _ => hts _ q412) (fc (fun h => absurd h (by decide)) (fc (fun _ => hts _ q402) (fc (fun _ => hts _ q1342) (fc (fun _ => hts _ q1343) (fc (fun _ => hts _ q1344) (fc (fun _ => hts _ q433) (fc (fun _ => hN.at q387 rfl rfl) (fc (fun _ => hts _ q433) (fc (fun _ => hts _ q434) (fc (fun _ => hts _ q435) (fc (fun _ => hts _ q436) (fc (fun _ => hN.at q389 rfl rfl) (fc (fun _ => hts _ q436) (fc (fun _ => hts _ q437) (fc (fun _ => hts _ q438) (fc (fun _ => hts _ q407) (fc (fun _ => hN.at q391 rfl rfl) (fc (fun _ => hts _ q1341) (fc (fun _ => hts _ q1333) (fc (fun _ => hN.at q1334 rfl rfl) (fc (fun _ => hts _ q1335) (fc (fun _ => hts _ q421) (fc (fun _ => hts _ q1336) (fc (fun _ => hts _ q1337) (fc (fun _ => hts _ q1338) (fc (fun _ => hts _ q1339) (fc (fun h => absurd h (by decide)) (fc (fun h => absurd h (by decide)) (fc (fun _ => hts _ q439) (fc (fun _ => hts _ q404) (fc (fun _ => hts _ q1340) fn0)))))))))))))))))))))))))))))))))))))))))))))))))))))
theorem thr_X1_46_ot : ∀ w ∈ Cond.classLink "DocumentaryCreditDesk" 44 "java/lang/IndexOutOfBoundsException" :: Cond.initialized "java/lang/IndexOutOfBoundsException" :: vy_at0 "DocumentaryCreditDesk" 46 "java/lang/IndexOutOfBoundsException" ["java/lang/RuntimeException", "java/lang/Exception"], vy_ot w = true := List.all_eq_true.mp (by decide +kernel)
set_option maxHeartbeats 4000000 in
theorem c_reqIndex (l : Launch) (D : va_G) (k : Nat → ClassId) (g : Nat → Nat) (x n : Int32) (htr : l.stackTraces = false) : oM l D k yX1_requireIndex cX1_requireIndex 2 none 6 100 1 6 [.int x, .int n] (hKX (fun HH => True) g) (inR x 0 (n - 1)) (none) (fun E => ¬ inR x 0 (n - 1) ∧ E = "java/lang/IndexOutOfBoundsException") := by
  refine oM_of (by decide) (Nat.le_of_ble_eq_true rfl) ?_
  intro p e s m below meth c ls C hnt hK ⟨_, hX⟩ hS hl
  have hP : va_P D clA [] s.heap := va_nil
  have hD : va_D (fun q => s.heap.size ≤ q) [] := va_D_nod.mpr ⟨List.nodup_nil, fun q h => by cases h⟩
  have hA : ∀ q, s.heap.size ≤ q → s.heap.size ≤ q := fun _ h => h
  have hAN : ∀ q, s.heap.size ≤ q → g 0 ≤ q := fun q h => Nat.le_trans hX.le h
  have hN : NW s := hX.nw
  obtain ⟨hx, hb, hr, hml, hown, hts, hlk⟩ := id C
  have hl : lv_has ls 2 [(0, .int x), (1, .int n)] := hl
  refine lv_iload_n hx hb dX1_requireIndex_0 rfl (lv_at hl 0 rfl) ?_
  refine lv_i2l (v := x.toInt64) hx hb dX1_requireIndex_1 rfl ?_
  refine lv_lconst (v := 0) hx hb dX1_requireIndex_2 rfl ?_
  refine lv_iload_n hx hb dX1_requireIndex_3 rfl (lv_at hl 1 rfl) ?_
  refine lv_iconst (v := 1) hx hb dX1_requireIndex_4 rfl ?_
  refine lv_isub hx hb dX1_requireIndex_5 ?_
  refine lv_i2l (v := (n - 1).toInt64) hx hb dX1_requireIndex_6 rfl ?_
  refine r_after (va_runS (As := [.long x.toInt64, .long 0, .long ((n - 1).toInt64)]) (rest := []) (g := F0 m 7 ls [.long ((n - 1).toInt64), .long 0, .long x.toInt64]) C.fix (c_isBetween l D k x.toInt64 0 ((n - 1).toInt64)) (va_cwS 3 hts (lw_S q301 q302 q68 q303) rfl rfl rfl (by decide +kernel) ⟨Nat.le_of_ble_eq_true rfl, Nat.le_of_ble_eq_true rfl⟩) (preR hK trivial) rfl rfl hl.1 rfl (lv_room (Nat.le_of_ble_eq_true rfl)) dX1_requireIndex_7 ⟨(by first | exact Nat.le_of_ble_eq_true rfl | omega | (dsimp only [Rm]; omega)), (by first | exact Nat.le_of_ble_eq_true rfl | omega | (dsimp only [Rm]; omega))⟩) ?_
  refine w_topi (y := bI (inR x 0 (n - 1))) (congrArg bI (bet x 0 (n - 1) (by decide) rfl)) ?_
  refine lv_if_ne (tgt := 21) hx hb dX1_requireIndex_10 (by decide) (fun c_10 => ?_) (fun c_10 => ?_)
  · have b_10 := bI_nz c_10
    exact o_vret C b_10 hS (by first | exact Nat.le_of_ble_eq_true rfl | omega | (dsimp only [Rm]; omega)) (by first | exact Nat.le_of_ble_eq_true rfl | omega | (dsimp only [Rm]; omega)) dX1_requireIndex_21
  · have b_10 := bI_0.mp c_10
    refine g_forget hS ?_
    exact vy_throw0 hx hb htr (names := ["java/lang/RuntimeException", "java/lang/Exception"]) hown (by decide) (by decide) (hts _ q1332) (hts _ q102) (at0_of (thr_X1_46 hts hN)) thr_X1_46_ot hX.kt.1 hX.kt.2 (S_wide (S_nil hS) hAN) (hl.1.trans hml.symm) dX1_requireIndex_13 dX1_requireIndex_16 dX1_requireIndex_17 dX1_requireIndex_20 (fun x hx => (hnt x hx).elim) (Nat.le_of_ble_eq_true rfl) (Nat.le_of_ble_eq_true rfl) (by first | exact Nat.le_of_ble_eq_true rfl | omega | (dsimp only [Rm]; omega)) (by first | exact Nat.le_of_ble_eq_true rfl | omega | (dsimp only [Rm]; omega)) hlk (fun q9 t hvm h1 h2 => ⟨⟨b_10, rfl⟩, Nat.le_trans hS.1 h1, fun q h _ => (h2 q (Nat.lt_of_lt_of_le h hS.1)).trans (hS.2.1 q h (by omega))⟩) (fun z h => by cases h) (by first | exact Nat.le_of_ble_eq_true rfl | omega | (dsimp only [Rm]; omega)) (by first | exact Nat.le_of_ble_eq_true rfl | omega | (dsimp only [Rm]; omega))
set_option maxHeartbeats 4000000 in
theorem thr_X1_49 {args : Array Value} {s : State} (hts : ∀ w ∈ lw_all, w.before args s = true) (hN : NW s) : ∀ w ∈ Bundle.ownAtoms0 "DocumentaryCreditDesk" 49 "java/lang/IllegalArgumentException" ["java/lang/RuntimeException", "java/lang/Exception"], vy_no w = true → w.before args s = true :=
  (fc (fun _ => hts _ q77) (fc (fun _ => hts _ q406) (fc (fun _ => hts _ q415) (fc (fun _ => hts _ q423) (fc (fun _ => hts _ q426) (fc (fun _ => hts _ q428) (fc (fun _ => hts _ q407) (fc (fun _ => hts _ q408) (fc (fun _ => hts _ q112) (fc (fun _ => hts _ q113) (fc (fun _ => hts _ q409) (fc (fun _ => hts _ q414) (fc (fun _ => hts _ q424) (fc (fun _ => hts _ q441) (fc (fun _ => hts _ q396) (fc (fun _ => hts _ q442) (fc (fun _ => hts _ q398) (fc (fun _ => hts _ q443) (fc (fun _ => hts _ q400) (fc (fun _ => hts _ q410) (fc (fun h => absurd h (by decide)) (fc (fun _ => hts _ q412) (fc (fun h => absurd h (by decide)) (fc (fun _ => hts _ q402) (fc (fun _ => hts _ q430) (fc (fun _ => hts _ q431) (fc (fun _ => hts _ q432) (fc (fun _ => hts _ q433) (fc (fun _ => hN.at q387 rfl rfl) (fc (fun _ => hts _ q433) (fc (fun _ => hts _ q434) (fc (fun _ => hts _ q435) (fc (fun _ => hts _ q436) (fc (fun _ => hN.at q389 rfl rfl) (fc (fun _ => hts _ q436) (fc (fun _ => hts _ q437) (fc (fun _ => hts _ q438) (fc (fun _ => hts _ q407) (fc (fun _ => hN.at q391 rfl rfl) (fc (fun _ => hts _ q429) (fc (fun _ => hts _ q385) (fc (fun _ => hN.at q386 rfl rfl) (fc (fun _ => hts _ q393) (fc (fun _ => hts _ q394) (fc (fun _ => hts _ q395) (fc (fun _ => hts _ q397) (fc (fun _ => hts _ q399) (fc (fun _ => hts _ q401) (fc (fun h => absurd h (by decide)) (fc (fun h => absurd h (by decide)) (fc (fun _ => hts _ q439) (fc (fun _ => hts _ q404) (fc (fun _ => hts _ q403) fn0)))))))))))))))))))))))))))))))))))))))))))))))))))))
theorem thr_X1_49_ot : ∀ w ∈ Cond.classLink "DocumentaryCreditDesk" 47 "java/lang/IllegalArgumentException" :: Cond.initialized "java/lang/IllegalArgumentException" :: vy_at0 "DocumentaryCreditDesk" 49 "java/lang/IllegalArgumentException" ["java/lang/RuntimeException", "java/lang/Exception"], vy_ot w = true := List.all_eq_true.mp (by decide +kernel)
set_option maxHeartbeats 4000000 in
theorem c_reqArg (l : Launch) (D : va_G) (k : Nat → ClassId) (g : Nat → Nat) (B : Prop) (htr : l.stackTraces = false) : oM l D k yX1_requireArgument cX1_requireArgument 1 none 6 100 1 6 [.int (bI B)] (hKX (fun HH => True) g) B (none) (fun E => ¬ B ∧ E = "java/lang/IllegalArgumentException") := by
  refine oM_of (by decide) (Nat.le_of_ble_eq_true rfl) ?_
  intro p e s m below meth c ls C hnt hK ⟨_, hX⟩ hS hl
  have hP : va_P D clA [] s.heap := va_nil
  have hD : va_D (fun q => s.heap.size ≤ q) [] := va_D_nod.mpr ⟨List.nodup_nil, fun q h => by cases h⟩
  have hA : ∀ q, s.heap.size ≤ q → s.heap.size ≤ q := fun _ h => h
  have hAN : ∀ q, s.heap.size ≤ q → g 0 ≤ q := fun q h => Nat.le_trans hX.le h
  have hN : NW s := hX.nw
  obtain ⟨hx, hb, hr, hml, hown, hts, hlk⟩ := id C
  have hl : lv_has ls 1 [(0, .int (bI B))] := hl
  refine lv_iload_n hx hb dX1_requireArgument_0 rfl (lv_at hl 0 rfl) ?_
  refine lv_if_ne (tgt := 12) hx hb dX1_requireArgument_1 (by decide) (fun c_1 => ?_) (fun c_1 => ?_)
  · have b_1 := bI_nz c_1
    exact o_vret C b_1 hS (by first | exact Nat.le_of_ble_eq_true rfl | omega | (dsimp only [Rm]; omega)) (by first | exact Nat.le_of_ble_eq_true rfl | omega | (dsimp only [Rm]; omega)) dX1_requireArgument_12
  · have b_1 := bI_0.mp c_1
    refine g_forget hS ?_
    exact vy_throw0 hx hb htr (names := ["java/lang/RuntimeException", "java/lang/Exception"]) hown (by decide) (by decide) (hts _ q384) (hts _ q80) (at0_of (thr_X1_49 hts hN)) thr_X1_49_ot hX.kt.1 hX.kt.2 (S_wide (S_nil hS) hAN) (hl.1.trans hml.symm) dX1_requireArgument_4 dX1_requireArgument_7 dX1_requireArgument_8 dX1_requireArgument_11 (fun x hx => (hnt x hx).elim) (Nat.le_of_ble_eq_true rfl) (Nat.le_of_ble_eq_true rfl) (by first | exact Nat.le_of_ble_eq_true rfl | omega | (dsimp only [Rm]; omega)) (by first | exact Nat.le_of_ble_eq_true rfl | omega | (dsimp only [Rm]; omega)) hlk (fun q9 t hvm h1 h2 => ⟨⟨b_1, rfl⟩, Nat.le_trans hS.1 h1, fun q h _ => (h2 q (Nat.lt_of_lt_of_le h hS.1)).trans (hS.2.1 q h (by omega))⟩) (fun z h => by cases h) (by first | exact Nat.le_of_ble_eq_true rfl | omega | (dsimp only [Rm]; omega)) (by first | exact Nat.le_of_ble_eq_true rfl | omega | (dsimp only [Rm]; omega))
set_option maxHeartbeats 4000000 in
theorem thr_X1_52 {args : Array Value} {s : State} (hts : ∀ w ∈ lw_all, w.before args s = true) (hN : NW s) : ∀ w ∈ Bundle.ownAtoms0 "DocumentaryCreditDesk" 52 "java/lang/IllegalStateException" ["java/lang/RuntimeException", "java/lang/Exception"], vy_no w = true → w.before args s = true :=
  (fc (fun _ => hts _ q77) (fc (fun _ => hts _ q406) (fc (fun _ => hts _ q415) (fc (fun _ => hts _ q423) (fc (fun _ => hts _ q426) (fc (fun _ => hts _ q428) (fc (fun _ => hts _ q407) (fc (fun _ => hts _ q408) (fc (fun _ => hts _ q112) (fc (fun _ => hts _ q113) (fc (fun _ => hts _ q409) (fc (fun _ => hts _ q414) (fc (fun _ => hts _ q424) (fc (fun _ => hts _ q441) (fc (fun _ => hts _ q396) (fc (fun _ => hts _ q442) (fc (fun _ => hts _ q398) (fc (fun _ => hts _ q443) (fc (fun _ => hts _ q400) (fc (fun _ => hts _ q410) (fc (fun h => absurd h (by decide)) (fc (fun _ => hts _ q412) (fc (fun h => absurd h (by decide)) (fc (fun _ => hts _ q402) (fc (fun _ => hts _ q1519) (fc (fun _ => hts _ q1520) (fc (fun _ => hts _ q1521) (fc (fun _ => hts _ q433) (fc (fun _ => hN.at q387 rfl rfl) (fc (fun _ => hts _ q433) (fc (fun _ => hts _ q434) (fc (fun _ => hts _ q435) (fc (fun _ => hts _ q436) (fc (fun _ => hN.at q389 rfl rfl) (fc (fun _ => hts _ q436) (fc (fun _ => hts _ q437) (fc (fun _ => hts _ q438) (fc (fun _ => hts _ q407) (fc (fun _ => hN.at q391 rfl rfl) (fc (fun _ => hts _ q1518) (fc (fun _ => hts _ q1143) (fc (fun _ => hN.at q1144 rfl rfl) (fc (fun _ => hts _ q1145) (fc (fun _ => hts _ q420) (fc (fun _ => hts _ q1146) (fc (fun _ => hts _ q1147) (fc (fun _ => hts _ q1148) (fc (fun _ => hts _ q1149) (fc (fun h => absurd h (by decide)) (fc (fun h => absurd h (by decide)) (fc (fun _ => hts _ q439) (fc (fun _ => hts _ q404) (fc (fun _ => hts _ q1150) fn0)))))))))))))))))))))))))))))))))))))))))))))))))))))
theorem thr_X1_52_ot : ∀ w ∈ Cond.classLink "DocumentaryCreditDesk" 50 "java/lang/IllegalStateException" :: Cond.initialized "java/lang/IllegalStateException" :: vy_at0 "DocumentaryCreditDesk" 52 "java/lang/IllegalStateException" ["java/lang/RuntimeException", "java/lang/Exception"], vy_ot w = true := List.all_eq_true.mp (by decide +kernel)
set_option maxHeartbeats 4000000 in
theorem c_reqState (l : Launch) (D : va_G) (k : Nat → ClassId) (g : Nat → Nat) (B : Prop) (htr : l.stackTraces = false) : oM l D k yX1_requireState cX1_requireState 1 none 6 100 1 6 [.int (bI B)] (hKX (fun HH => True) g) B (none) (fun E => ¬ B ∧ E = "java/lang/IllegalStateException") := by
  refine oM_of (by decide) (Nat.le_of_ble_eq_true rfl) ?_
  intro p e s m below meth c ls C hnt hK ⟨_, hX⟩ hS hl
  have hP : va_P D clA [] s.heap := va_nil
  have hD : va_D (fun q => s.heap.size ≤ q) [] := va_D_nod.mpr ⟨List.nodup_nil, fun q h => by cases h⟩
  have hA : ∀ q, s.heap.size ≤ q → s.heap.size ≤ q := fun _ h => h
  have hAN : ∀ q, s.heap.size ≤ q → g 0 ≤ q := fun q h => Nat.le_trans hX.le h
  have hN : NW s := hX.nw
  obtain ⟨hx, hb, hr, hml, hown, hts, hlk⟩ := id C
  have hl : lv_has ls 1 [(0, .int (bI B))] := hl
  refine lv_iload_n hx hb dX1_requireState_0 rfl (lv_at hl 0 rfl) ?_
  refine lv_if_ne (tgt := 12) hx hb dX1_requireState_1 (by decide) (fun c_1 => ?_) (fun c_1 => ?_)
  · have b_1 := bI_nz c_1
    exact o_vret C b_1 hS (by first | exact Nat.le_of_ble_eq_true rfl | omega | (dsimp only [Rm]; omega)) (by first | exact Nat.le_of_ble_eq_true rfl | omega | (dsimp only [Rm]; omega)) dX1_requireState_12
  · have b_1 := bI_0.mp c_1
    refine g_forget hS ?_
    exact vy_throw0 hx hb htr (names := ["java/lang/RuntimeException", "java/lang/Exception"]) hown (by decide) (by decide) (hts _ q1517) (hts _ q98) (at0_of (thr_X1_52 hts hN)) thr_X1_52_ot hX.kt.1 hX.kt.2 (S_wide (S_nil hS) hAN) (hl.1.trans hml.symm) dX1_requireState_4 dX1_requireState_7 dX1_requireState_8 dX1_requireState_11 (fun x hx => (hnt x hx).elim) (Nat.le_of_ble_eq_true rfl) (Nat.le_of_ble_eq_true rfl) (by first | exact Nat.le_of_ble_eq_true rfl | omega | (dsimp only [Rm]; omega)) (by first | exact Nat.le_of_ble_eq_true rfl | omega | (dsimp only [Rm]; omega)) hlk (fun q9 t hvm h1 h2 => ⟨⟨b_1, rfl⟩, Nat.le_trans hS.1 h1, fun q h _ => (h2 q (Nat.lt_of_lt_of_le h hS.1)).trans (hS.2.1 q h (by omega))⟩) (fun z h => by cases h) (by first | exact Nat.le_of_ble_eq_true rfl | omega | (dsimp only [Rm]; omega)) (by first | exact Nat.le_of_ble_eq_true rfl | omega | (dsimp only [Rm]; omega))
set_option maxHeartbeats 4000000 in
theorem c_reqDay (l : Launch) (D : va_G) (k : Nat → ClassId) (g : Nat → Nat) (x : Int32) (htr : l.stackTraces = false) : oM l D k yX1_requireDay cX1_requireDay 1 none 7 120 1 6 [.int x] (hKX (fun HH => True) g) (inR x 0 9999) (none) (fun E => ¬ inR x 0 9999 ∧ E = "java/lang/IllegalArgumentException") := by
  refine oM_of (by decide) (Nat.le_of_ble_eq_true rfl) ?_
  intro p e s m below meth c ls C hnt hK ⟨_, hX⟩ hS hl
  have hP : va_P D clA [] s.heap := va_nil
  have hD : va_D (fun q => s.heap.size ≤ q) [] := va_D_nod.mpr ⟨List.nodup_nil, fun q h => by cases h⟩
  have hA : ∀ q, s.heap.size ≤ q → s.heap.size ≤ q := fun _ h => h
  have hAN : ∀ q, s.heap.size ≤ q → g 0 ≤ q := fun q h => Nat.le_trans hX.le h
  have hN : NW s := hX.nw
  obtain ⟨hx, hb, hr, hml, hown, hts, hlk⟩ := id C
  have hl : lv_has ls 1 [(0, .int x)] := hl
  refine lv_iload_n hx hb dX1_requireDay_0 rfl (lv_at hl 0 rfl) ?_
  refine lv_i2l (v := x.toInt64) hx hb dX1_requireDay_1 rfl ?_
  refine lv_lconst (v := 0) hx hb dX1_requireDay_2 rfl ?_
  refine lv_ldc2 (v := 9999) hx hb hown (hts _ q1180) dX1_requireDay_3 ?_
  refine r_after (va_runS (As := [.long x.toInt64, .long 0, .long 9999]) (rest := []) (g := F0 m 6 ls [.long 9999, .long 0, .long x.toInt64]) C.fix (c_isBetween l D k x.toInt64 0 9999) (va_cwS 3 hts (lw_S q301 q302 q68 q303) rfl rfl rfl (by decide +kernel) ⟨Nat.le_of_ble_eq_true rfl, Nat.le_of_ble_eq_true rfl⟩) (preR hK trivial) rfl rfl hl.1 rfl (lv_room (Nat.le_of_ble_eq_true rfl)) dX1_requireDay_6 ⟨(by first | exact Nat.le_of_ble_eq_true rfl | omega | (dsimp only [Rm]; omega)), (by first | exact Nat.le_of_ble_eq_true rfl | omega | (dsimp only [Rm]; omega))⟩) ?_
  refine w_topi (y := bI (inR x 0 9999)) (congrArg bI (bet x 0 9999 (by decide) (by decide))) ?_
  refine o_after (vy_runS (As := [.int (bI (inR x 0 9999))]) (rest := []) (g := F0 m 9 ls [.int (bI (inR x 0 9999))]) C.fix (c_reqArg l D k g (inR x 0 9999) htr) (va_cwS 1 hts (lw_S q381 q382 q68 q383) rfl rfl rfl (by decide +kernel) ⟨Nat.le_of_ble_eq_true rfl, Nat.le_of_ble_eq_true rfl⟩) (preS mv2_hKX hK (fun U hU hW => (hKX_at hX hS hAN trivial hU hW))) rfl rfl hl.1 rfl (lv_room (Nat.le_of_ble_eq_true rfl)) dX1_requireDay_9 ⟨(by first | exact Nat.le_of_ble_eq_true rfl | omega | (dsimp only [Rm]; omega)), (by first | exact Nat.le_of_ble_eq_true rfl | omega | (dsimp only [Rm]; omega))⟩) hS (fun E ce q9 H hth hS hk hce hcv hcl => o_out hnt hlk (hth) hS hce hcv hcl (by first | exact Nat.le_of_ble_eq_true rfl | omega | (dsimp only [Rm]; omega)) (by first | exact Nat.le_of_ble_eq_true rfl | omega | (dsimp only [Rm]; omega))) (fun H hp9 hS hsz hk => ?_)
  have hP : va_P D clA [] H := hP.kept (fun i q hi => hk q.1 ((hP i q hi).lt))
  have hD : va_D (fun q => s.heap.size ≤ q) [] := hD
  exact o_vret C hp9 hS (by first | exact Nat.le_of_ble_eq_true rfl | omega | (dsimp only [Rm]; omega)) (by first | exact Nat.le_of_ble_eq_true rfl | omega | (dsimp only [Rm]; omega)) dX1_requireDay_12
set_option maxHeartbeats 4000000 in
theorem c_reqCredit (l : Launch) (D : va_G) (k : Nat → ClassId) (g : Nat → Nat) (o bb dq : Nat) (bl eo : Int32) (z : Nat → Nat) (hf d : Nat → Int32) (hz : dkN g z hf d) (x : Int32) (htr : l.stackTraces = false) : oM l D k yX1_requireCredit cX1_requireCredit 2 none 7 121 1 6 [.ref o, .int x] (hKX (fun HH => va_P D clA [(o, .inr (1, [.ref bb, .ref dq, .ref (z 0), .int bl, .int eo]))] HH ∧ dk D k z hf d HH) g) (hasC d x) (none) (fun E => ¬ hasC d x ∧ E = "java/lang/IndexOutOfBoundsException") := by
  refine oM_of (by decide) (Nat.le_of_ble_eq_true rfl) ?_
  intro p e s m below meth c ls C hnt hK ⟨⟨hO, hdk⟩, hX⟩ hS hl
  have hP : va_P D clA [] s.heap := va_nil
  have hD : va_D (fun q => s.heap.size ≤ q) [] := va_D_nod.mpr ⟨List.nodup_nil, fun q h => by cases h⟩
  have hA : ∀ q, s.heap.size ≤ q → s.heap.size ≤ q := fun _ h => h
  have hAN : ∀ q, s.heap.size ≤ q → g 0 ≤ q := fun q h => Nat.le_trans hX.le h
  have hN : NW s := hX.nw
  obtain ⟨hx, hb, hr, hml, hown, hts, hlk⟩ := id C
  have hl : lv_has ls 2 [(0, .ref o), (1, .int x)] := hl
  have hF : va_P D clA [(o, .inr (1, [.ref bb, .ref dq, .ref (z 0), .int bl, .int eo])), (z 0, .inr (2, [.ref (z 1), .ref (z 3), .ref (z 6), .ref (z 9), .int (d 3)])), (z 1, .inr (3, [.ref (z 2), .int (d 2)])), (z 2, .inl (k 0, 16, .inl hf)), (z 3, .inr (4, [.ref (z 4), .int 12])), (z 4, .inr (12, [.int (nI (z 12)), .ref (z 5), .int (nI (dN d 0))])), (z 6, .inr (4, [.ref (z 7), .int 24])), (z 7, .inr (12, [.int (nI (z 13)), .ref (z 8), .int (nI (dN d 1))]))] s.heap := va_cons (hO 0 _ rfl) hdk.1
  have hd := hz.1
  have hh := hz.2.1
  have h10 := hz.2.2
  obtain ⟨h10, h10b, h11, h11b, -⟩ := h10
  have hd0 := hd.1.1.2
  have hd1 := hd.1.2.1.2
  refine lv_iload_n hx hb dX1_requireCredit_0 rfl (lv_at hl 1 rfl) ?_
  refine lv_aload_n hx hb dX1_requireCredit_1 rfl (lv_at hl 0 rfl) ?_
  refine va_get hx hb hts in_X1 hown hK (frzF hF hS) 0 rfl rfl 2 (by decide) (hts _ q221) (fun _ h => h) rfl dX1_requireCredit_2 ?_
  refine va_getN hx hb hts in_X2 hown hK (frzF hF hS) 1 rfl rfl 1 (by decide) ((hN _ q199 rfl).use rfl) (fun _ h => h) rfl dX1_requireCredit_5 ?_
  refine r_after (va_runV (As := []) (rest := [.int x]) (g := F0 m 8 ls [.ref (z 3), .int x]) C.fix (c_bookSize l D k g (z 3) (z 4) (z 5) (nI (z 12)) 12 (nI (dN d 0))) (cwV 0 hts (lw_V q251 q252 q253 q73 q254) rfl rfl rfl (by decide +kernel) ⟨Nat.le_of_ble_eq_true rfl, Nat.le_of_ble_eq_true rfl⟩) (preV mv2_hKX hK (va_recv hK (frzF hF hS) (ci := 4) (q0 := 4) rfl rfl) (fun U hU hW => (hKX_at hX hS hAN (va_cons ((frzF hF hS) 4 _ rfl) (va_cons ((frzF hF hS) 5 _ rfl) va_nil)) hU hW))) rfl rfl hl.1 rfl (lv_room (Nat.le_of_ble_eq_true rfl)) dX1_requireCredit_8 ⟨(by first | exact Nat.le_of_ble_eq_true rfl | omega | (dsimp only [Rm]; omega)), (by first | exact Nat.le_of_ble_eq_true rfl | omega | (dsimp only [Rm]; omega))⟩) ?_
  refine o_after (vy_runS (As := [.int x, .int (nI (dN d 0))]) (rest := []) (g := F0 m 11 ls [.int (nI (dN d 0)), .int x]) C.fix (c_reqIndex l D k g x (nI (dN d 0)) htr) (va_cwS 2 hts (lw_S q1329 q1330 q68 q1331) rfl rfl rfl (by decide +kernel) ⟨Nat.le_of_ble_eq_true rfl, Nat.le_of_ble_eq_true rfl⟩) (preS mv2_hKX hK (fun U hU hW => (hKX_at hX hS hAN trivial hU hW))) rfl rfl hl.1 rfl (lv_room (Nat.le_of_ble_eq_true rfl)) dX1_requireCredit_11 ⟨(by first | exact Nat.le_of_ble_eq_true rfl | omega | (dsimp only [Rm]; omega)), (by first | exact Nat.le_of_ble_eq_true rfl | omega | (dsimp only [Rm]; omega))⟩) hS (fun E ce q9 H hth hS hk hce hcv hcl => o_out hnt hlk ((by rw [hasC_e hd] at hth; exact hth)) hS hce hcv hcl (by first | exact Nat.le_of_ble_eq_true rfl | omega | (dsimp only [Rm]; omega)) (by first | exact Nat.le_of_ble_eq_true rfl | omega | (dsimp only [Rm]; omega))) (fun H hp11 hS hsz hk => ?_)
  have hP : va_P D clA [] H := hP.kept (fun i q hi => hk q.1 ((hP i q hi).lt))
  have hD : va_D (fun q => s.heap.size ≤ q) [] := hD
  exact o_vret C (hasC_e hd ▸ hp11) hS (by first | exact Nat.le_of_ble_eq_true rfl | omega | (dsimp only [Rm]; omega)) (by first | exact Nat.le_of_ble_eq_true rfl | omega | (dsimp only [Rm]; omega)) dX1_requireCredit_14
set_option maxHeartbeats 4000000 in
theorem c_creditAt (l : Launch) (D : va_G) (k : Nat → ClassId) (g : Nat → Nat) (o bb dq : Nat) (bl eo : Int32) (z : Nat → Nat) (hf d : Nat → Int32) (hz : dkN g z hf d) (x : Int32) (htr : l.stackTraces = false) : oM l D k yX1_creditAt cX1_creditAt 2 (some (.object "DocumentaryCreditDesk$Credit")) 8 142 1 6 [.ref o, .int x] (hKX (fun HH => va_P D clA [(o, .inr (1, [.ref bb, .ref dq, .ref (z 0), .int bl, .int eo]))] HH ∧ dk D k z hf d HH) g) (hasC d x) (some (.ref (z (16 + ci x)))) (fun E => ¬ hasC d x ∧ E = "java/lang/IndexOutOfBoundsException") := by
  refine oM_of (by decide) (Nat.le_of_ble_eq_true rfl) ?_
  intro p e s m below meth c ls C hnt hK ⟨⟨hO, hdk⟩, hX⟩ hS hl
  have hP : va_P D clA [] s.heap := va_nil
  have hD : va_D (fun q => s.heap.size ≤ q) [] := va_D_nod.mpr ⟨List.nodup_nil, fun q h => by cases h⟩
  have hA : ∀ q, s.heap.size ≤ q → s.heap.size ≤ q := fun _ h => h
  have hAN : ∀ q, s.heap.size ≤ q → g 0 ≤ q := fun q h => Nat.le_trans hX.le h
  have hN : NW s := hX.nw
  obtain ⟨hx, hb, hr, hml, hown, hts, hlk⟩ := id C
  have hl : lv_has ls 2 [(0, .ref o), (1, .int x)] := hl
  have hF : va_P D clA [(o, .inr (1, [.ref bb, .ref dq, .ref (z 0), .int bl, .int eo])), (z 0, .inr (2, [.ref (z 1), .ref (z 3), .ref (z 6), .ref (z 9), .int (d 3)])), (z 1, .inr (3, [.ref (z 2), .int (d 2)])), (z 2, .inl (k 0, 16, .inl hf)), (z 3, .inr (4, [.ref (z 4), .int 12])), (z 4, .inr (12, [.int (nI (z 12)), .ref (z 5), .int (nI (dN d 0))])), (z 6, .inr (4, [.ref (z 7), .int 24])), (z 7, .inr (12, [.int (nI (z 13)), .ref (z 8), .int (nI (dN d 1))]))] s.heap := va_cons (hO 0 _ rfl) hdk.1
  have hd := hz.1
  have hh := hz.2.1
  have h10 := hz.2.2
  obtain ⟨h10, h10b, h11, h11b, -⟩ := h10
  have hd0 := hd.1.1.2
  have hd1 := hd.1.2.1.2
  refine lv_aload_n hx hb dX1_creditAt_0 rfl (lv_at hl 0 rfl) ?_
  refine lv_iload_n hx hb dX1_creditAt_1 rfl (lv_at hl 1 rfl) ?_
  refine o_after (vy_runV (As := [.int x]) (rest := []) (g := F0 m 2 ls [.int x, .ref o]) C.fix (c_reqCredit l D k g o bb dq bl eo z hf d hz x htr) (cwV 1 hts (lw_V q1325 q1327 qs25 q68 q1328) rfl rfl rfl (by decide +kernel) ⟨Nat.le_of_ble_eq_true rfl, Nat.le_of_ble_eq_true rfl⟩) (preV mv2_hKX hK (va_recv hK (frzF hF hS) (ci := 1) (q0 := 0) rfl rfl) (fun U hU hW => (hKX_at hX hS hAN (⟨(frzF hO hS), (dk_frF hdk hS)⟩) hU hW))) rfl rfl hl.1 rfl (lv_room (Nat.le_of_ble_eq_true rfl)) dX1_creditAt_2 ⟨(by first | exact Nat.le_of_ble_eq_true rfl | omega | (dsimp only [Rm]; omega)), (by first | exact Nat.le_of_ble_eq_true rfl | omega | (dsimp only [Rm]; omega))⟩) hS (fun E ce q9 H hth hS hk hce hcv hcl => o_out hnt hlk (hth) hS hce hcv hcl (by first | exact Nat.le_of_ble_eq_true rfl | omega | (dsimp only [Rm]; omega)) (by first | exact Nat.le_of_ble_eq_true rfl | omega | (dsimp only [Rm]; omega))) (fun H hp2 hS hsz hk => ?_)
  have hP : va_P D clA [] H := hP.kept (fun i q hi => hk q.1 ((hP i q hi).lt))
  have hD : va_D (fun q => s.heap.size ≤ q) [] := hD
  refine lv_aload_n hx hb dX1_creditAt_5 rfl (lv_at hl 0 rfl) ?_
  refine va_get hx hb hts in_X1 hown hK (frzF hF hS) 0 rfl rfl 2 (by decide) (hts _ q221) (fun _ h => h) rfl dX1_creditAt_6 ?_
  refine va_getN hx hb hts in_X2 hown hK (frzF hF hS) 1 rfl rfl 1 (by decide) ((hN _ q199 rfl).use rfl) (fun _ h => h) rfl dX1_creditAt_9 ?_
  refine lv_iload_n hx hb dX1_creditAt_12 rfl (lv_at hl 1 rfl) ?_
  obtain ⟨hcx, ecx⟩ := hasC_ci hd hp2
  refine w_topi (y := nI (ci x)) ecx ?_
  refine r_after (va_runV (As := [.int (nI (ci x))]) (rest := []) (g := F0 m 13 ls [.int (nI (ci x)), .ref (z 3)]) C.fix (c_bookGet l D k g (z 3) 12 (z 4) (z 5) (nI (z 12)) (dN d 0) (z 10) (ci x) (z (16 + (ci x))) _ (by omega) (by omega) (by omega) (rfs_at (by omega))) (cwV 1 hts (lw_V q277 q278 q279 q73 q280) rfl rfl rfl (by decide +kernel) ⟨Nat.le_of_ble_eq_true rfl, Nat.le_of_ble_eq_true rfl⟩) (preV mv2_hKX hK (va_recv hK (frzF hF hS) (ci := 4) (q0 := 4) rfl rfl) (fun U hU hW => (hKX_at hX hS hAN (va_cons ((frzF hF hS) 4 _ rfl) (va_cons ((frzF hF hS) 5 _ rfl) (va_cons ((frzF (hdk.2.1 (by omega)) hS) 0 _ rfl) va_nil))) hU hW))) rfl rfl hl.1 rfl (lv_room (Nat.le_of_ble_eq_true rfl)) dX1_creditAt_13 ⟨(by first | exact Nat.le_of_ble_eq_true rfl | omega | (dsimp only [Rm]; omega)), (by first | exact Nat.le_of_ble_eq_true rfl | omega | (dsimp only [Rm]; omega))⟩) ?_
  refine va_castY hx hb hown (hts _ q337) (cast_self (hK.1 8 _ rfl)) (va_recv hK (frzF (hdk.2.2.2.1 (ci x) (by omega)) hS) (ci := 8) (q0 := 0) rfl rfl) dX1_creditAt_16 ?_
  exact o_aret C (Or.inl ⟨_, rfl⟩) hp2 rfl hS (by first | exact Nat.le_of_ble_eq_true rfl | omega | (dsimp only [Rm]; omega)) (by first | exact Nat.le_of_ble_eq_true rfl | omega | (dsimp only [Rm]; omega)) dX1_creditAt_19
set_option maxHeartbeats 4000000 in
theorem c_presAt (l : Launch) (D : va_G) (k : Nat → ClassId) (g : Nat → Nat) (o bb dq : Nat) (bl eo : Int32) (z : Nat → Nat) (hf d : Nat → Int32) (hz : dkN g z hf d) (x : Int32) (htr : l.stackTraces = false) : oM l D k yX1_presentationAt cX1_presentationAt 2 (some (.object "DocumentaryCreditDesk$Presentation")) 7 121 1 6 [.ref o, .int x] (hKX (fun HH => va_P D clA [(o, .inr (1, [.ref bb, .ref dq, .ref (z 0), .int bl, .int eo]))] HH ∧ dk D k z hf d HH) g) (hasP d x) (some (.ref (z (32 + ci x)))) (fun E => ¬ hasP d x ∧ E = "java/lang/IndexOutOfBoundsException") := by
  refine oM_of (by decide) (Nat.le_of_ble_eq_true rfl) ?_
  intro p e s m below meth c ls C hnt hK ⟨⟨hO, hdk⟩, hX⟩ hS hl
  have hP : va_P D clA [] s.heap := va_nil
  have hD : va_D (fun q => s.heap.size ≤ q) [] := va_D_nod.mpr ⟨List.nodup_nil, fun q h => by cases h⟩
  have hA : ∀ q, s.heap.size ≤ q → s.heap.size ≤ q := fun _ h => h
  have hAN : ∀ q, s.heap.size ≤ q → g 0 ≤ q := fun q h => Nat.le_trans hX.le h
  have hN : NW s := hX.nw
  obtain ⟨hx, hb, hr, hml, hown, hts, hlk⟩ := id C
  have hl : lv_has ls 2 [(0, .ref o), (1, .int x)] := hl
  have hF : va_P D clA [(o, .inr (1, [.ref bb, .ref dq, .ref (z 0), .int bl, .int eo])), (z 0, .inr (2, [.ref (z 1), .ref (z 3), .ref (z 6), .ref (z 9), .int (d 3)])), (z 1, .inr (3, [.ref (z 2), .int (d 2)])), (z 2, .inl (k 0, 16, .inl hf)), (z 3, .inr (4, [.ref (z 4), .int 12])), (z 4, .inr (12, [.int (nI (z 12)), .ref (z 5), .int (nI (dN d 0))])), (z 6, .inr (4, [.ref (z 7), .int 24])), (z 7, .inr (12, [.int (nI (z 13)), .ref (z 8), .int (nI (dN d 1))]))] s.heap := va_cons (hO 0 _ rfl) hdk.1
  have hd := hz.1
  have hh := hz.2.1
  have h10 := hz.2.2
  obtain ⟨h10, h10b, h11, h11b, -⟩ := h10
  have hd0 := hd.1.1.2
  have hd1 := hd.1.2.1.2
  refine lv_iload_n hx hb dX1_presentationAt_0 rfl (lv_at hl 1 rfl) ?_
  refine lv_aload_n hx hb dX1_presentationAt_1 rfl (lv_at hl 0 rfl) ?_
  refine va_get hx hb hts in_X1 hown hK (frzF hF hS) 0 rfl rfl 2 (by decide) (hts _ q221) (fun _ h => h) rfl dX1_presentationAt_2 ?_
  refine va_getN hx hb hts in_X2 hown hK (frzF hF hS) 1 rfl rfl 2 (by decide) ((hN _ q202 rfl).use rfl) (fun _ h => h) rfl dX1_presentationAt_5 ?_
  refine r_after (va_runV (As := []) (rest := [.int x]) (g := F0 m 8 ls [.ref (z 6), .int x]) C.fix (c_bookSize l D k g (z 6) (z 7) (z 8) (nI (z 13)) 24 (nI (dN d 1))) (cwV 0 hts (lw_V q251 q252 q253 q73 q254) rfl rfl rfl (by decide +kernel) ⟨Nat.le_of_ble_eq_true rfl, Nat.le_of_ble_eq_true rfl⟩) (preV mv2_hKX hK (va_recv hK (frzF hF hS) (ci := 4) (q0 := 6) rfl rfl) (fun U hU hW => (hKX_at hX hS hAN (va_cons ((frzF hF hS) 6 _ rfl) (va_cons ((frzF hF hS) 7 _ rfl) va_nil)) hU hW))) rfl rfl hl.1 rfl (lv_room (Nat.le_of_ble_eq_true rfl)) dX1_presentationAt_8 ⟨(by first | exact Nat.le_of_ble_eq_true rfl | omega | (dsimp only [Rm]; omega)), (by first | exact Nat.le_of_ble_eq_true rfl | omega | (dsimp only [Rm]; omega))⟩) ?_
  refine o_after (vy_runS (As := [.int x, .int (nI (dN d 1))]) (rest := []) (g := F0 m 11 ls [.int (nI (dN d 1)), .int x]) C.fix (c_reqIndex l D k g x (nI (dN d 1)) htr) (va_cwS 2 hts (lw_S q1329 q1330 q68 q1331) rfl rfl rfl (by decide +kernel) ⟨Nat.le_of_ble_eq_true rfl, Nat.le_of_ble_eq_true rfl⟩) (preS mv2_hKX hK (fun U hU hW => (hKX_at hX hS hAN trivial hU hW))) rfl rfl hl.1 rfl (lv_room (Nat.le_of_ble_eq_true rfl)) dX1_presentationAt_11 ⟨(by first | exact Nat.le_of_ble_eq_true rfl | omega | (dsimp only [Rm]; omega)), (by first | exact Nat.le_of_ble_eq_true rfl | omega | (dsimp only [Rm]; omega))⟩) hS (fun E ce q9 H hth hS hk hce hcv hcl => o_out hnt hlk ((by rw [hasP_e hd] at hth; exact hth)) hS hce hcv hcl (by first | exact Nat.le_of_ble_eq_true rfl | omega | (dsimp only [Rm]; omega)) (by first | exact Nat.le_of_ble_eq_true rfl | omega | (dsimp only [Rm]; omega))) (fun H hp11 hS hsz hk => ?_)
  have hP : va_P D clA [] H := hP.kept (fun i q hi => hk q.1 ((hP i q hi).lt))
  have hD : va_D (fun q => s.heap.size ≤ q) [] := hD
  refine lv_aload_n hx hb dX1_presentationAt_14 rfl (lv_at hl 0 rfl) ?_
  refine va_get hx hb hts in_X1 hown hK (frzF hF hS) 0 rfl rfl 2 (by decide) (hts _ q221) (fun _ h => h) rfl dX1_presentationAt_15 ?_
  refine va_getN hx hb hts in_X2 hown hK (frzF hF hS) 1 rfl rfl 2 (by decide) ((hN _ q202 rfl).use rfl) (fun _ h => h) rfl dX1_presentationAt_18 ?_
  refine lv_iload_n hx hb dX1_presentationAt_21 rfl (lv_at hl 1 rfl) ?_
  have hpx : hasP d x := hasP_e hd ▸ hp11
  obtain ⟨hcx, ecx⟩ := hasP_ci hd hpx
  refine w_topi (y := nI (ci x)) ecx ?_
  refine r_after (va_runV (As := [.int (nI (ci x))]) (rest := []) (g := F0 m 22 ls [.int (nI (ci x)), .ref (z 6)]) C.fix (c_bookGet l D k g (z 6) 24 (z 7) (z 8) (nI (z 13)) (dN d 1) (z 11) (ci x) (z (32 + (ci x))) _ (by omega) (by omega) (by omega) (rfs_at (by omega))) (cwV 1 hts (lw_V q277 q278 q279 q73 q280) rfl rfl rfl (by decide +kernel) ⟨Nat.le_of_ble_eq_true rfl, Nat.le_of_ble_eq_true rfl⟩) (preV mv2_hKX hK (va_recv hK (frzF hF hS) (ci := 4) (q0 := 6) rfl rfl) (fun U hU hW => (hKX_at hX hS hAN (va_cons ((frzF hF hS) 6 _ rfl) (va_cons ((frzF hF hS) 7 _ rfl) (va_cons ((frzF (hdk.2.2.1 (by omega)) hS) 0 _ rfl) va_nil))) hU hW))) rfl rfl hl.1 rfl (lv_room (Nat.le_of_ble_eq_true rfl)) dX1_presentationAt_22 ⟨(by first | exact Nat.le_of_ble_eq_true rfl | omega | (dsimp only [Rm]; omega)), (by first | exact Nat.le_of_ble_eq_true rfl | omega | (dsimp only [Rm]; omega))⟩) ?_
  refine va_castY hx hb hown (hts _ q300) (cast_self (hK.1 10 _ rfl)) (va_recv hK (frzF (hdk.2.2.2.2 (ci x) (by omega)) hS) (ci := 10) (q0 := 0) rfl rfl) dX1_presentationAt_25 ?_
  exact o_aret C (Or.inl ⟨_, rfl⟩) hpx rfl hS (by first | exact Nat.le_of_ble_eq_true rfl | omega | (dsimp only [Rm]; omega)) (by first | exact Nat.le_of_ble_eq_true rfl | omega | (dsimp only [Rm]; omega)) dX1_presentationAt_28
set_option maxHeartbeats 4000000 in
theorem c_errorOffset (l : Launch) (D : va_G) (k : Nat → ClassId) (g : Nat → Nat) (o bb dq : Nat) (bl eo : Int32) (z : Nat → Nat) (hf d : Nat → Int32) (hz : dkN g z hf d)  : sM l D k yX1_errorOffset cX1_errorOffset 1 (some .int) 0 0 [.ref o] (hKX (fun HH => va_P D clA [(o, .inr (1, [.ref bb, .ref dq, .ref (z 0), .int bl, .int eo]))] HH ∧ dk D k z hf d HH) g) (some (.int eo)) := by
  refine sM_of (by decide) (Nat.le_of_ble_eq_true rfl) ?_
  intro p e s m below meth c ls C hK ⟨⟨hO, hdk⟩, hX⟩ hl
  have hS : va_S (G0 g) s.heap s.heap [] := va_S.rf
  have hAN : ∀ q, G0 g q → g 0 ≤ q := fun _ h => h
  have hN : NW s := hX.nw
  obtain ⟨hx, hb, hr, hml, hown, hts, hlk⟩ := id C
  have hl : lv_has ls 1 [(0, .ref o)] := hl
  have hF : va_P D clA [(o, .inr (1, [.ref bb, .ref dq, .ref (z 0), .int bl, .int eo])), (z 0, .inr (2, [.ref (z 1), .ref (z 3), .ref (z 6), .ref (z 9), .int (d 3)])), (z 1, .inr (3, [.ref (z 2), .int (d 2)])), (z 2, .inl (k 0, 16, .inl hf)), (z 3, .inr (4, [.ref (z 4), .int 12])), (z 4, .inr (12, [.int (nI (z 12)), .ref (z 5), .int (nI (dN d 0))])), (z 6, .inr (4, [.ref (z 7), .int 24])), (z 7, .inr (12, [.int (nI (z 13)), .ref (z 8), .int (nI (dN d 1))]))] s.heap := va_cons (hO 0 _ rfl) hdk.1
  have hd := hz.1
  have hh := hz.2.1
  have h10 := hz.2.2
  obtain ⟨h10, h10b, h11, h11b, -⟩ := h10
  have hd0 := hd.1.1.2
  have hd1 := hd.1.2.1.2
  refine lv_aload_n hx hb dX1_errorOffset_0 rfl (lv_at hl 0 rfl) ?_
  refine va_get hx hb hts in_X1 hown hK hF 0 rfl rfl 4 (by decide) (hts _ q223) (fun _ h => h) rfl dX1_errorOffset_1 ?_
  exact r_iret C rfl dX1_errorOffset_4
set_option maxHeartbeats 4000000 in
theorem c_creditCount (l : Launch) (D : va_G) (k : Nat → ClassId) (g : Nat → Nat) (o bb dq : Nat) (bl eo : Int32) (z : Nat → Nat) (hf d : Nat → Int32) (hz : dkN g z hf d)  : sM l D k yX1_creditCount cX1_creditCount 1 (some .int) 2 40 [.ref o] (hKX (fun HH => va_P D clA [(o, .inr (1, [.ref bb, .ref dq, .ref (z 0), .int bl, .int eo]))] HH ∧ dk D k z hf d HH) g) (some (.int (nI (dN d 0)))) := by
  refine sM_of (by decide) (Nat.le_of_ble_eq_true rfl) ?_
  intro p e s m below meth c ls C hK ⟨⟨hO, hdk⟩, hX⟩ hl
  have hS : va_S (G0 g) s.heap s.heap [] := va_S.rf
  have hAN : ∀ q, G0 g q → g 0 ≤ q := fun _ h => h
  have hN : NW s := hX.nw
  obtain ⟨hx, hb, hr, hml, hown, hts, hlk⟩ := id C
  have hl : lv_has ls 1 [(0, .ref o)] := hl
  have hF : va_P D clA [(o, .inr (1, [.ref bb, .ref dq, .ref (z 0), .int bl, .int eo])), (z 0, .inr (2, [.ref (z 1), .ref (z 3), .ref (z 6), .ref (z 9), .int (d 3)])), (z 1, .inr (3, [.ref (z 2), .int (d 2)])), (z 2, .inl (k 0, 16, .inl hf)), (z 3, .inr (4, [.ref (z 4), .int 12])), (z 4, .inr (12, [.int (nI (z 12)), .ref (z 5), .int (nI (dN d 0))])), (z 6, .inr (4, [.ref (z 7), .int 24])), (z 7, .inr (12, [.int (nI (z 13)), .ref (z 8), .int (nI (dN d 1))]))] s.heap := va_cons (hO 0 _ rfl) hdk.1
  have hd := hz.1
  have hh := hz.2.1
  have h10 := hz.2.2
  obtain ⟨h10, h10b, h11, h11b, -⟩ := h10
  have hd0 := hd.1.1.2
  have hd1 := hd.1.2.1.2
  refine lv_aload_n hx hb dX1_creditCount_0 rfl (lv_at hl 0 rfl) ?_
  refine va_get hx hb hts in_X1 hown hK hF 0 rfl rfl 2 (by decide) (hts _ q221) (fun _ h => h) rfl dX1_creditCount_1 ?_
  refine va_getN hx hb hts in_X2 hown hK hF 1 rfl rfl 1 (by decide) ((hN _ q199 rfl).use rfl) (fun _ h => h) rfl dX1_creditCount_4 ?_
  refine r_after (va_runV (As := []) (rest := []) (g := F0 m 7 ls [.ref (z 3)]) C.fix (c_bookSize l D k g (z 3) (z 4) (z 5) (nI (z 12)) 12 (nI (dN d 0))) (cwV 0 hts (lw_V q251 q252 q253 q73 q254) rfl rfl rfl (by decide +kernel) ⟨Nat.le_of_ble_eq_true rfl, Nat.le_of_ble_eq_true rfl⟩) (preV mv2_hKX hK (va_recv hK hF (ci := 4) (q0 := 4) rfl rfl) (fun U hU hW => (hKX_at hX hS hAN (va_cons (hF 4 _ rfl) (va_cons (hF 5 _ rfl) va_nil)) hU hW))) rfl rfl hl.1 rfl (lv_room (Nat.le_of_ble_eq_true rfl)) dX1_creditCount_7 ⟨(by first | exact Nat.le_of_ble_eq_true rfl | omega | (dsimp only [Rm]; omega)), (by first | exact Nat.le_of_ble_eq_true rfl | omega | (dsimp only [Rm]; omega))⟩) ?_
  exact r_iret C rfl dX1_creditCount_10
set_option maxHeartbeats 4000000 in
theorem c_presentationCount (l : Launch) (D : va_G) (k : Nat → ClassId) (g : Nat → Nat) (o bb dq : Nat) (bl eo : Int32) (z : Nat → Nat) (hf d : Nat → Int32) (hz : dkN g z hf d)  : sM l D k yX1_presentationCount cX1_presentationCount 1 (some .int) 2 40 [.ref o] (hKX (fun HH => va_P D clA [(o, .inr (1, [.ref bb, .ref dq, .ref (z 0), .int bl, .int eo]))] HH ∧ dk D k z hf d HH) g) (some (.int (nI (dN d 1)))) := by
  refine sM_of (by decide) (Nat.le_of_ble_eq_true rfl) ?_
  intro p e s m below meth c ls C hK ⟨⟨hO, hdk⟩, hX⟩ hl
  have hS : va_S (G0 g) s.heap s.heap [] := va_S.rf
  have hAN : ∀ q, G0 g q → g 0 ≤ q := fun _ h => h
  have hN : NW s := hX.nw
  obtain ⟨hx, hb, hr, hml, hown, hts, hlk⟩ := id C
  have hl : lv_has ls 1 [(0, .ref o)] := hl
  have hF : va_P D clA [(o, .inr (1, [.ref bb, .ref dq, .ref (z 0), .int bl, .int eo])), (z 0, .inr (2, [.ref (z 1), .ref (z 3), .ref (z 6), .ref (z 9), .int (d 3)])), (z 1, .inr (3, [.ref (z 2), .int (d 2)])), (z 2, .inl (k 0, 16, .inl hf)), (z 3, .inr (4, [.ref (z 4), .int 12])), (z 4, .inr (12, [.int (nI (z 12)), .ref (z 5), .int (nI (dN d 0))])), (z 6, .inr (4, [.ref (z 7), .int 24])), (z 7, .inr (12, [.int (nI (z 13)), .ref (z 8), .int (nI (dN d 1))]))] s.heap := va_cons (hO 0 _ rfl) hdk.1
  have hd := hz.1
  have hh := hz.2.1
  have h10 := hz.2.2
  obtain ⟨h10, h10b, h11, h11b, -⟩ := h10
  have hd0 := hd.1.1.2
  have hd1 := hd.1.2.1.2
  refine lv_aload_n hx hb dX1_presentationCount_0 rfl (lv_at hl 0 rfl) ?_
  refine va_get hx hb hts in_X1 hown hK hF 0 rfl rfl 2 (by decide) (hts _ q221) (fun _ h => h) rfl dX1_presentationCount_1 ?_
  refine va_getN hx hb hts in_X2 hown hK hF 1 rfl rfl 2 (by decide) ((hN _ q202 rfl).use rfl) (fun _ h => h) rfl dX1_presentationCount_4 ?_
  refine r_after (va_runV (As := []) (rest := []) (g := F0 m 7 ls [.ref (z 6)]) C.fix (c_bookSize l D k g (z 6) (z 7) (z 8) (nI (z 13)) 24 (nI (dN d 1))) (cwV 0 hts (lw_V q251 q252 q253 q73 q254) rfl rfl rfl (by decide +kernel) ⟨Nat.le_of_ble_eq_true rfl, Nat.le_of_ble_eq_true rfl⟩) (preV mv2_hKX hK (va_recv hK hF (ci := 4) (q0 := 6) rfl rfl) (fun U hU hW => (hKX_at hX hS hAN (va_cons (hF 6 _ rfl) (va_cons (hF 7 _ rfl) va_nil)) hU hW))) rfl rfl hl.1 rfl (lv_room (Nat.le_of_ble_eq_true rfl)) dX1_presentationCount_7 ⟨(by first | exact Nat.le_of_ble_eq_true rfl | omega | (dsimp only [Rm]; omega)), (by first | exact Nat.le_of_ble_eq_true rfl | omega | (dsimp only [Rm]; omega))⟩) ?_
  exact r_iret C rfl dX1_presentationCount_10
set_option maxHeartbeats 4000000 in
theorem c_today (l : Launch) (D : va_G) (k : Nat → ClassId) (g : Nat → Nat) (o bb dq : Nat) (bl eo : Int32) (z : Nat → Nat) (hf d : Nat → Int32) (hz : dkN g z hf d)  : sM l D k yX1_today cX1_today 1 (some .int) 0 0 [.ref o] (hKX (fun HH => va_P D clA [(o, .inr (1, [.ref bb, .ref dq, .ref (z 0), .int bl, .int eo]))] HH ∧ dk D k z hf d HH) g) (some (.int (d 3))) := by
  refine sM_of (by decide) (Nat.le_of_ble_eq_true rfl) ?_
  intro p e s m below meth c ls C hK ⟨⟨hO, hdk⟩, hX⟩ hl
  have hS : va_S (G0 g) s.heap s.heap [] := va_S.rf
  have hAN : ∀ q, G0 g q → g 0 ≤ q := fun _ h => h
  have hN : NW s := hX.nw
  obtain ⟨hx, hb, hr, hml, hown, hts, hlk⟩ := id C
  have hl : lv_has ls 1 [(0, .ref o)] := hl
  have hF : va_P D clA [(o, .inr (1, [.ref bb, .ref dq, .ref (z 0), .int bl, .int eo])), (z 0, .inr (2, [.ref (z 1), .ref (z 3), .ref (z 6), .ref (z 9), .int (d 3)])), (z 1, .inr (3, [.ref (z 2), .int (d 2)])), (z 2, .inl (k 0, 16, .inl hf)), (z 3, .inr (4, [.ref (z 4), .int 12])), (z 4, .inr (12, [.int (nI (z 12)), .ref (z 5), .int (nI (dN d 0))])), (z 6, .inr (4, [.ref (z 7), .int 24])), (z 7, .inr (12, [.int (nI (z 13)), .ref (z 8), .int (nI (dN d 1))]))] s.heap := va_cons (hO 0 _ rfl) hdk.1
  have hd := hz.1
  have hh := hz.2.1
  have h10 := hz.2.2
  obtain ⟨h10, h10b, h11, h11b, -⟩ := h10
  have hd0 := hd.1.1.2
  have hd1 := hd.1.2.1.2
  refine lv_aload_n hx hb dX1_today_0 rfl (lv_at hl 0 rfl) ?_
  refine va_get hx hb hts in_X1 hown hK hF 0 rfl rfl 2 (by decide) (hts _ q221) (fun _ h => h) rfl dX1_today_1 ?_
  refine va_getN hx hb hts in_X2 hown hK hF 1 rfl rfl 4 (by decide) ((hN _ q206 rfl).use rfl) (fun _ h => h) rfl dX1_today_4 ?_
  exact r_iret C rfl dX1_today_7
set_option maxHeartbeats 4000000 in
theorem c_parent (l : Launch) (D : va_G) (k : Nat → ClassId) (g : Nat → Nat) (o bb dq : Nat) (bl eo : Int32) (z : Nat → Nat) (hf d : Nat → Int32) (hz : dkN g z hf d) (x : Int32) (htr : l.stackTraces = false) : oM l D k yX1_parent cX1_parent 2 (some .int) 9 163 1 6 [.ref o, .int x] (hKX (fun HH => va_P D clA [(o, .inr (1, [.ref bb, .ref dq, .ref (z 0), .int bl, .int eo]))] HH ∧ dk D k z hf d HH) g) (hasC d x) (some (.int (cf d (ci x) 10))) (fun E => ¬ hasC d x ∧ E = "java/lang/IndexOutOfBoundsException") := by
  refine oM_of (by decide) (Nat.le_of_ble_eq_true rfl) ?_
  intro p e s m below meth c ls C hnt hK ⟨⟨hO, hdk⟩, hX⟩ hS hl
  have hP : va_P D clA [] s.heap := va_nil
  have hD : va_D (fun q => s.heap.size ≤ q) [] := va_D_nod.mpr ⟨List.nodup_nil, fun q h => by cases h⟩
  have hA : ∀ q, s.heap.size ≤ q → s.heap.size ≤ q := fun _ h => h
  have hAN : ∀ q, s.heap.size ≤ q → g 0 ≤ q := fun q h => Nat.le_trans hX.le h
  have hN : NW s := hX.nw
  obtain ⟨hx, hb, hr, hml, hown, hts, hlk⟩ := id C
  have hl : lv_has ls 2 [(0, .ref o), (1, .int x)] := hl
  have hF : va_P D clA [(o, .inr (1, [.ref bb, .ref dq, .ref (z 0), .int bl, .int eo])), (z 0, .inr (2, [.ref (z 1), .ref (z 3), .ref (z 6), .ref (z 9), .int (d 3)])), (z 1, .inr (3, [.ref (z 2), .int (d 2)])), (z 2, .inl (k 0, 16, .inl hf)), (z 3, .inr (4, [.ref (z 4), .int 12])), (z 4, .inr (12, [.int (nI (z 12)), .ref (z 5), .int (nI (dN d 0))])), (z 6, .inr (4, [.ref (z 7), .int 24])), (z 7, .inr (12, [.int (nI (z 13)), .ref (z 8), .int (nI (dN d 1))]))] s.heap := va_cons (hO 0 _ rfl) hdk.1
  have hd := hz.1
  have hh := hz.2.1
  have h10 := hz.2.2
  obtain ⟨h10, h10b, h11, h11b, -⟩ := h10
  have hd0 := hd.1.1.2
  have hd1 := hd.1.2.1.2
  refine lv_aload_n hx hb dX1_parent_0 rfl (lv_at hl 0 rfl) ?_
  refine lv_iload_n hx hb dX1_parent_1 rfl (lv_at hl 1 rfl) ?_
  refine o_after (vy_runV (As := [.int x]) (rest := []) (g := F0 m 2 ls [.int x, .ref o]) C.fix (c_creditAt l D k g o bb dq bl eo z hf d hz x htr) (cwV 1 hts (lw_V q1321 q1323 qs24 q68 q1324) rfl rfl rfl (by decide +kernel) ⟨Nat.le_of_ble_eq_true rfl, Nat.le_of_ble_eq_true rfl⟩) (preV mv2_hKX hK (va_recv hK (frzF hF hS) (ci := 1) (q0 := 0) rfl rfl) (fun U hU hW => (hKX_at hX hS hAN (⟨(frzF hO hS), (dk_frF hdk hS)⟩) hU hW))) rfl rfl hl.1 rfl (lv_room (Nat.le_of_ble_eq_true rfl)) dX1_parent_2 ⟨(by first | exact Nat.le_of_ble_eq_true rfl | omega | (dsimp only [Rm]; omega)), (by first | exact Nat.le_of_ble_eq_true rfl | omega | (dsimp only [Rm]; omega))⟩) hS (fun E ce q9 H hth hS hk hce hcv hcl => o_out hnt hlk (hth) hS hce hcv hcl (by first | exact Nat.le_of_ble_eq_true rfl | omega | (dsimp only [Rm]; omega)) (by first | exact Nat.le_of_ble_eq_true rfl | omega | (dsimp only [Rm]; omega))) (fun H hp2 hS hsz hk => ?_)
  have hP : va_P D clA [] H := hP.kept (fun i q hi => hk q.1 ((hP i q hi).lt))
  have hD : va_D (fun q => s.heap.size ≤ q) [] := hD
  obtain ⟨hcx, ecx⟩ := hasC_ci hd hp2
  refine va_getN hx hb hts in_X10 hown hK (frzF (hdk.2.2.2.1 (ci x) (by omega)) hS) 0 rfl rfl 0 (by decide) ((hN _ q964 rfl).use rfl) (fun _ h => h) rfl dX1_parent_5 ?_
  exact o_iret C hp2 rfl hS (by first | exact Nat.le_of_ble_eq_true rfl | omega | (dsimp only [Rm]; omega)) (by first | exact Nat.le_of_ble_eq_true rfl | omega | (dsimp only [Rm]; omega)) dX1_parent_8
set_option maxHeartbeats 4000000 in
theorem c_expiry (l : Launch) (D : va_G) (k : Nat → ClassId) (g : Nat → Nat) (o bb dq : Nat) (bl eo : Int32) (z : Nat → Nat) (hf d : Nat → Int32) (hz : dkN g z hf d) (x : Int32) (htr : l.stackTraces = false) : oM l D k yX1_expiry cX1_expiry 2 (some .int) 9 163 1 6 [.ref o, .int x] (hKX (fun HH => va_P D clA [(o, .inr (1, [.ref bb, .ref dq, .ref (z 0), .int bl, .int eo]))] HH ∧ dk D k z hf d HH) g) (hasC d x) (some (.int (cf d (ci x) 3))) (fun E => ¬ hasC d x ∧ E = "java/lang/IndexOutOfBoundsException") := by
  refine oM_of (by decide) (Nat.le_of_ble_eq_true rfl) ?_
  intro p e s m below meth c ls C hnt hK ⟨⟨hO, hdk⟩, hX⟩ hS hl
  have hP : va_P D clA [] s.heap := va_nil
  have hD : va_D (fun q => s.heap.size ≤ q) [] := va_D_nod.mpr ⟨List.nodup_nil, fun q h => by cases h⟩
  have hA : ∀ q, s.heap.size ≤ q → s.heap.size ≤ q := fun _ h => h
  have hAN : ∀ q, s.heap.size ≤ q → g 0 ≤ q := fun q h => Nat.le_trans hX.le h
  have hN : NW s := hX.nw
  obtain ⟨hx, hb, hr, hml, hown, hts, hlk⟩ := id C
  have hl : lv_has ls 2 [(0, .ref o), (1, .int x)] := hl
  have hF : va_P D clA [(o, .inr (1, [.ref bb, .ref dq, .ref (z 0), .int bl, .int eo])), (z 0, .inr (2, [.ref (z 1), .ref (z 3), .ref (z 6), .ref (z 9), .int (d 3)])), (z 1, .inr (3, [.ref (z 2), .int (d 2)])), (z 2, .inl (k 0, 16, .inl hf)), (z 3, .inr (4, [.ref (z 4), .int 12])), (z 4, .inr (12, [.int (nI (z 12)), .ref (z 5), .int (nI (dN d 0))])), (z 6, .inr (4, [.ref (z 7), .int 24])), (z 7, .inr (12, [.int (nI (z 13)), .ref (z 8), .int (nI (dN d 1))]))] s.heap := va_cons (hO 0 _ rfl) hdk.1
  have hd := hz.1
  have hh := hz.2.1
  have h10 := hz.2.2
  obtain ⟨h10, h10b, h11, h11b, -⟩ := h10
  have hd0 := hd.1.1.2
  have hd1 := hd.1.2.1.2
  refine lv_aload_n hx hb dX1_expiry_0 rfl (lv_at hl 0 rfl) ?_
  refine lv_iload_n hx hb dX1_expiry_1 rfl (lv_at hl 1 rfl) ?_
  refine o_after (vy_runV (As := [.int x]) (rest := []) (g := F0 m 2 ls [.int x, .ref o]) C.fix (c_creditAt l D k g o bb dq bl eo z hf d hz x htr) (cwV 1 hts (lw_V q1321 q1323 qs24 q68 q1324) rfl rfl rfl (by decide +kernel) ⟨Nat.le_of_ble_eq_true rfl, Nat.le_of_ble_eq_true rfl⟩) (preV mv2_hKX hK (va_recv hK (frzF hF hS) (ci := 1) (q0 := 0) rfl rfl) (fun U hU hW => (hKX_at hX hS hAN (⟨(frzF hO hS), (dk_frF hdk hS)⟩) hU hW))) rfl rfl hl.1 rfl (lv_room (Nat.le_of_ble_eq_true rfl)) dX1_expiry_2 ⟨(by first | exact Nat.le_of_ble_eq_true rfl | omega | (dsimp only [Rm]; omega)), (by first | exact Nat.le_of_ble_eq_true rfl | omega | (dsimp only [Rm]; omega))⟩) hS (fun E ce q9 H hth hS hk hce hcv hcl => o_out hnt hlk (hth) hS hce hcv hcl (by first | exact Nat.le_of_ble_eq_true rfl | omega | (dsimp only [Rm]; omega)) (by first | exact Nat.le_of_ble_eq_true rfl | omega | (dsimp only [Rm]; omega))) (fun H hp2 hS hsz hk => ?_)
  have hP : va_P D clA [] H := hP.kept (fun i q hi => hk q.1 ((hP i q hi).lt))
  have hD : va_D (fun q => s.heap.size ≤ q) [] := hD
  obtain ⟨hcx, ecx⟩ := hasC_ci hd hp2
  refine va_getN hx hb hts in_X10 hown hK (frzF (hdk.2.2.2.1 (ci x) (by omega)) hS) 0 rfl rfl 4 (by decide) ((hN _ q971 rfl).use rfl) (fun _ h => h) rfl dX1_expiry_5 ?_
  exact o_iret C hp2 rfl hS (by first | exact Nat.le_of_ble_eq_true rfl | omega | (dsimp only [Rm]; omega)) (by first | exact Nat.le_of_ble_eq_true rfl | omega | (dsimp only [Rm]; omega)) dX1_expiry_8
set_option maxHeartbeats 4000000 in
theorem c_creditOf (l : Launch) (D : va_G) (k : Nat → ClassId) (g : Nat → Nat) (o bb dq : Nat) (bl eo : Int32) (z : Nat → Nat) (hf d : Nat → Int32) (hz : dkN g z hf d) (x : Int32) (htr : l.stackTraces = false) : oM l D k yX1_creditOf cX1_creditOf 2 (some .int) 8 142 1 6 [.ref o, .int x] (hKX (fun HH => va_P D clA [(o, .inr (1, [.ref bb, .ref dq, .ref (z 0), .int bl, .int eo]))] HH ∧ dk D k z hf d HH) g) (hasP d x) (some (.int (pf d (ci x) 0))) (fun E => ¬ hasP d x ∧ E = "java/lang/IndexOutOfBoundsException") := by
  refine oM_of (by decide) (Nat.le_of_ble_eq_true rfl) ?_
  intro p e s m below meth c ls C hnt hK ⟨⟨hO, hdk⟩, hX⟩ hS hl
  have hP : va_P D clA [] s.heap := va_nil
  have hD : va_D (fun q => s.heap.size ≤ q) [] := va_D_nod.mpr ⟨List.nodup_nil, fun q h => by cases h⟩
  have hA : ∀ q, s.heap.size ≤ q → s.heap.size ≤ q := fun _ h => h
  have hAN : ∀ q, s.heap.size ≤ q → g 0 ≤ q := fun q h => Nat.le_trans hX.le h
  have hN : NW s := hX.nw
  obtain ⟨hx, hb, hr, hml, hown, hts, hlk⟩ := id C
  have hl : lv_has ls 2 [(0, .ref o), (1, .int x)] := hl
  have hF : va_P D clA [(o, .inr (1, [.ref bb, .ref dq, .ref (z 0), .int bl, .int eo])), (z 0, .inr (2, [.ref (z 1), .ref (z 3), .ref (z 6), .ref (z 9), .int (d 3)])), (z 1, .inr (3, [.ref (z 2), .int (d 2)])), (z 2, .inl (k 0, 16, .inl hf)), (z 3, .inr (4, [.ref (z 4), .int 12])), (z 4, .inr (12, [.int (nI (z 12)), .ref (z 5), .int (nI (dN d 0))])), (z 6, .inr (4, [.ref (z 7), .int 24])), (z 7, .inr (12, [.int (nI (z 13)), .ref (z 8), .int (nI (dN d 1))]))] s.heap := va_cons (hO 0 _ rfl) hdk.1
  have hd := hz.1
  have hh := hz.2.1
  have h10 := hz.2.2
  obtain ⟨h10, h10b, h11, h11b, -⟩ := h10
  have hd0 := hd.1.1.2
  have hd1 := hd.1.2.1.2
  refine lv_aload_n hx hb dX1_creditOf_0 rfl (lv_at hl 0 rfl) ?_
  refine lv_iload_n hx hb dX1_creditOf_1 rfl (lv_at hl 1 rfl) ?_
  refine o_after (vy_runV (As := [.int x]) (rest := []) (g := F0 m 2 ls [.int x, .ref o]) C.fix (c_presAt l D k g o bb dq bl eo z hf d hz x htr) (cwV 1 hts (lw_V q1395 q1397 qs26 q68 q1398) rfl rfl rfl (by decide +kernel) ⟨Nat.le_of_ble_eq_true rfl, Nat.le_of_ble_eq_true rfl⟩) (preV mv2_hKX hK (va_recv hK (frzF hF hS) (ci := 1) (q0 := 0) rfl rfl) (fun U hU hW => (hKX_at hX hS hAN (⟨(frzF hO hS), (dk_frF hdk hS)⟩) hU hW))) rfl rfl hl.1 rfl (lv_room (Nat.le_of_ble_eq_true rfl)) dX1_creditOf_2 ⟨(by first | exact Nat.le_of_ble_eq_true rfl | omega | (dsimp only [Rm]; omega)), (by first | exact Nat.le_of_ble_eq_true rfl | omega | (dsimp only [Rm]; omega))⟩) hS (fun E ce q9 H hth hS hk hce hcv hcl => o_out hnt hlk (hth) hS hce hcv hcl (by first | exact Nat.le_of_ble_eq_true rfl | omega | (dsimp only [Rm]; omega)) (by first | exact Nat.le_of_ble_eq_true rfl | omega | (dsimp only [Rm]; omega))) (fun H hp2 hS hsz hk => ?_)
  have hP : va_P D clA [] H := hP.kept (fun i q hi => hk q.1 ((hP i q hi).lt))
  have hD : va_D (fun q => s.heap.size ≤ q) [] := hD
  obtain ⟨hcx, ecx⟩ := hasP_ci hd hp2
  refine va_getN hx hb hts in_X12 hown hK (frzF (hdk.2.2.2.2 (ci x) (by omega)) hS) 0 rfl rfl 0 (by decide) ((hN _ q1545 rfl).use rfl) (fun _ h => h) rfl dX1_creditOf_5 ?_
  exact o_iret C hp2 rfl hS (by first | exact Nat.le_of_ble_eq_true rfl | omega | (dsimp only [Rm]; omega)) (by first | exact Nat.le_of_ble_eq_true rfl | omega | (dsimp only [Rm]; omega)) dX1_creditOf_8
set_option maxHeartbeats 4000000 in
theorem c_state (l : Launch) (D : va_G) (k : Nat → ClassId) (g : Nat → Nat) (o bb dq : Nat) (bl eo : Int32) (z : Nat → Nat) (hf d : Nat → Int32) (hz : dkN g z hf d) (x : Int32) (htr : l.stackTraces = false) : oM l D k yX1_state cX1_state 2 (some .int) 8 142 1 6 [.ref o, .int x] (hKX (fun HH => va_P D clA [(o, .inr (1, [.ref bb, .ref dq, .ref (z 0), .int bl, .int eo]))] HH ∧ dk D k z hf d HH) g) (hasP d x) (some (.int (pf d (ci x) 4))) (fun E => ¬ hasP d x ∧ E = "java/lang/IndexOutOfBoundsException") := by
  refine oM_of (by decide) (Nat.le_of_ble_eq_true rfl) ?_
  intro p e s m below meth c ls C hnt hK ⟨⟨hO, hdk⟩, hX⟩ hS hl
  have hP : va_P D clA [] s.heap := va_nil
  have hD : va_D (fun q => s.heap.size ≤ q) [] := va_D_nod.mpr ⟨List.nodup_nil, fun q h => by cases h⟩
  have hA : ∀ q, s.heap.size ≤ q → s.heap.size ≤ q := fun _ h => h
  have hAN : ∀ q, s.heap.size ≤ q → g 0 ≤ q := fun q h => Nat.le_trans hX.le h
  have hN : NW s := hX.nw
  obtain ⟨hx, hb, hr, hml, hown, hts, hlk⟩ := id C
  have hl : lv_has ls 2 [(0, .ref o), (1, .int x)] := hl
  have hF : va_P D clA [(o, .inr (1, [.ref bb, .ref dq, .ref (z 0), .int bl, .int eo])), (z 0, .inr (2, [.ref (z 1), .ref (z 3), .ref (z 6), .ref (z 9), .int (d 3)])), (z 1, .inr (3, [.ref (z 2), .int (d 2)])), (z 2, .inl (k 0, 16, .inl hf)), (z 3, .inr (4, [.ref (z 4), .int 12])), (z 4, .inr (12, [.int (nI (z 12)), .ref (z 5), .int (nI (dN d 0))])), (z 6, .inr (4, [.ref (z 7), .int 24])), (z 7, .inr (12, [.int (nI (z 13)), .ref (z 8), .int (nI (dN d 1))]))] s.heap := va_cons (hO 0 _ rfl) hdk.1
  have hd := hz.1
  have hh := hz.2.1
  have h10 := hz.2.2
  obtain ⟨h10, h10b, h11, h11b, -⟩ := h10
  have hd0 := hd.1.1.2
  have hd1 := hd.1.2.1.2
  refine lv_aload_n hx hb dX1_state_0 rfl (lv_at hl 0 rfl) ?_
  refine lv_iload_n hx hb dX1_state_1 rfl (lv_at hl 1 rfl) ?_
  refine o_after (vy_runV (As := [.int x]) (rest := []) (g := F0 m 2 ls [.int x, .ref o]) C.fix (c_presAt l D k g o bb dq bl eo z hf d hz x htr) (cwV 1 hts (lw_V q1395 q1397 qs26 q68 q1398) rfl rfl rfl (by decide +kernel) ⟨Nat.le_of_ble_eq_true rfl, Nat.le_of_ble_eq_true rfl⟩) (preV mv2_hKX hK (va_recv hK (frzF hF hS) (ci := 1) (q0 := 0) rfl rfl) (fun U hU hW => (hKX_at hX hS hAN (⟨(frzF hO hS), (dk_frF hdk hS)⟩) hU hW))) rfl rfl hl.1 rfl (lv_room (Nat.le_of_ble_eq_true rfl)) dX1_state_2 ⟨(by first | exact Nat.le_of_ble_eq_true rfl | omega | (dsimp only [Rm]; omega)), (by first | exact Nat.le_of_ble_eq_true rfl | omega | (dsimp only [Rm]; omega))⟩) hS (fun E ce q9 H hth hS hk hce hcv hcl => o_out hnt hlk (hth) hS hce hcv hcl (by first | exact Nat.le_of_ble_eq_true rfl | omega | (dsimp only [Rm]; omega)) (by first | exact Nat.le_of_ble_eq_true rfl | omega | (dsimp only [Rm]; omega))) (fun H hp2 hS hsz hk => ?_)
  have hP : va_P D clA [] H := hP.kept (fun i q hi => hk q.1 ((hP i q hi).lt))
  have hD : va_D (fun q => s.heap.size ≤ q) [] := hD
  obtain ⟨hcx, ecx⟩ := hasP_ci hd hp2
  refine va_getN hx hb hts in_X12 hown hK (frzF (hdk.2.2.2.2 (ci x) (by omega)) hS) 0 rfl rfl 4 (by decide) ((hN _ q1556 rfl).use rfl) (fun _ h => h) rfl dX1_state_5 ?_
  exact o_iret C hp2 rfl hS (by first | exact Nat.le_of_ble_eq_true rfl | omega | (dsimp only [Rm]; omega)) (by first | exact Nat.le_of_ble_eq_true rfl | omega | (dsimp only [Rm]; omega)) dX1_state_8
set_option maxHeartbeats 4000000 in
theorem c_discrepancies (l : Launch) (D : va_G) (k : Nat → ClassId) (g : Nat → Nat) (o bb dq : Nat) (bl eo : Int32) (z : Nat → Nat) (hf d : Nat → Int32) (hz : dkN g z hf d) (x : Int32) (htr : l.stackTraces = false) : oM l D k yX1_discrepancies cX1_discrepancies 2 (some .int) 8 142 1 6 [.ref o, .int x] (hKX (fun HH => va_P D clA [(o, .inr (1, [.ref bb, .ref dq, .ref (z 0), .int bl, .int eo]))] HH ∧ dk D k z hf d HH) g) (hasP d x) (some (.int (pf d (ci x) 3))) (fun E => ¬ hasP d x ∧ E = "java/lang/IndexOutOfBoundsException") := by
  refine oM_of (by decide) (Nat.le_of_ble_eq_true rfl) ?_
  intro p e s m below meth c ls C hnt hK ⟨⟨hO, hdk⟩, hX⟩ hS hl
  have hP : va_P D clA [] s.heap := va_nil
  have hD : va_D (fun q => s.heap.size ≤ q) [] := va_D_nod.mpr ⟨List.nodup_nil, fun q h => by cases h⟩
  have hA : ∀ q, s.heap.size ≤ q → s.heap.size ≤ q := fun _ h => h
  have hAN : ∀ q, s.heap.size ≤ q → g 0 ≤ q := fun q h => Nat.le_trans hX.le h
  have hN : NW s := hX.nw
  obtain ⟨hx, hb, hr, hml, hown, hts, hlk⟩ := id C
  have hl : lv_has ls 2 [(0, .ref o), (1, .int x)] := hl
  have hF : va_P D clA [(o, .inr (1, [.ref bb, .ref dq, .ref (z 0), .int bl, .int eo])), (z 0, .inr (2, [.ref (z 1), .ref (z 3), .ref (z 6), .ref (z 9), .int (d 3)])), (z 1, .inr (3, [.ref (z 2), .int (d 2)])), (z 2, .inl (k 0, 16, .inl hf)), (z 3, .inr (4, [.ref (z 4), .int 12])), (z 4, .inr (12, [.int (nI (z 12)), .ref (z 5), .int (nI (dN d 0))])), (z 6, .inr (4, [.ref (z 7), .int 24])), (z 7, .inr (12, [.int (nI (z 13)), .ref (z 8), .int (nI (dN d 1))]))] s.heap := va_cons (hO 0 _ rfl) hdk.1
  have hd := hz.1
  have hh := hz.2.1
  have h10 := hz.2.2
  obtain ⟨h10, h10b, h11, h11b, -⟩ := h10
  have hd0 := hd.1.1.2
  have hd1 := hd.1.2.1.2
  refine lv_aload_n hx hb dX1_discrepancies_0 rfl (lv_at hl 0 rfl) ?_
  refine lv_iload_n hx hb dX1_discrepancies_1 rfl (lv_at hl 1 rfl) ?_
  refine o_after (vy_runV (As := [.int x]) (rest := []) (g := F0 m 2 ls [.int x, .ref o]) C.fix (c_presAt l D k g o bb dq bl eo z hf d hz x htr) (cwV 1 hts (lw_V q1395 q1397 qs26 q68 q1398) rfl rfl rfl (by decide +kernel) ⟨Nat.le_of_ble_eq_true rfl, Nat.le_of_ble_eq_true rfl⟩) (preV mv2_hKX hK (va_recv hK (frzF hF hS) (ci := 1) (q0 := 0) rfl rfl) (fun U hU hW => (hKX_at hX hS hAN (⟨(frzF hO hS), (dk_frF hdk hS)⟩) hU hW))) rfl rfl hl.1 rfl (lv_room (Nat.le_of_ble_eq_true rfl)) dX1_discrepancies_2 ⟨(by first | exact Nat.le_of_ble_eq_true rfl | omega | (dsimp only [Rm]; omega)), (by first | exact Nat.le_of_ble_eq_true rfl | omega | (dsimp only [Rm]; omega))⟩) hS (fun E ce q9 H hth hS hk hce hcv hcl => o_out hnt hlk (hth) hS hce hcv hcl (by first | exact Nat.le_of_ble_eq_true rfl | omega | (dsimp only [Rm]; omega)) (by first | exact Nat.le_of_ble_eq_true rfl | omega | (dsimp only [Rm]; omega))) (fun H hp2 hS hsz hk => ?_)
  have hP : va_P D clA [] H := hP.kept (fun i q hi => hk q.1 ((hP i q hi).lt))
  have hD : va_D (fun q => s.heap.size ≤ q) [] := hD
  obtain ⟨hcx, ecx⟩ := hasP_ci hd hp2
  refine va_getN hx hb hts in_X12 hown hK (frzF (hdk.2.2.2.2 (ci x) (by omega)) hS) 0 rfl rfl 3 (by decide) ((hN _ q1553 rfl).use rfl) (fun _ h => h) rfl dX1_discrepancies_5 ?_
  exact o_iret C hp2 rfl hS (by first | exact Nat.le_of_ble_eq_true rfl | omega | (dsimp only [Rm]; omega)) (by first | exact Nat.le_of_ble_eq_true rfl | omega | (dsimp only [Rm]; omega)) dX1_discrepancies_8
set_option maxHeartbeats 4000000 in
theorem c_dueDay (l : Launch) (D : va_G) (k : Nat → ClassId) (g : Nat → Nat) (o bb dq : Nat) (bl eo : Int32) (z : Nat → Nat) (hf d : Nat → Int32) (hz : dkN g z hf d) (x : Int32) (htr : l.stackTraces = false) : oM l D k yX1_dueDay cX1_dueDay 2 (some .int) 8 142 1 6 [.ref o, .int x] (hKX (fun HH => va_P D clA [(o, .inr (1, [.ref bb, .ref dq, .ref (z 0), .int bl, .int eo]))] HH ∧ dk D k z hf d HH) g) (hasP d x) (some (.int (due d (ci x)))) (fun E => ¬ hasP d x ∧ E = "java/lang/IndexOutOfBoundsException") := by
  refine oM_of (by decide) (Nat.le_of_ble_eq_true rfl) ?_
  intro p e s m below meth c ls C hnt hK ⟨⟨hO, hdk⟩, hX⟩ hS hl
  have hP : va_P D clA [] s.heap := va_nil
  have hD : va_D (fun q => s.heap.size ≤ q) [] := va_D_nod.mpr ⟨List.nodup_nil, fun q h => by cases h⟩
  have hA : ∀ q, s.heap.size ≤ q → s.heap.size ≤ q := fun _ h => h
  have hAN : ∀ q, s.heap.size ≤ q → g 0 ≤ q := fun q h => Nat.le_trans hX.le h
  have hN : NW s := hX.nw
  obtain ⟨hx, hb, hr, hml, hown, hts, hlk⟩ := id C
  have hl : lv_has ls 2 [(0, .ref o), (1, .int x)] := hl
  have hF : va_P D clA [(o, .inr (1, [.ref bb, .ref dq, .ref (z 0), .int bl, .int eo])), (z 0, .inr (2, [.ref (z 1), .ref (z 3), .ref (z 6), .ref (z 9), .int (d 3)])), (z 1, .inr (3, [.ref (z 2), .int (d 2)])), (z 2, .inl (k 0, 16, .inl hf)), (z 3, .inr (4, [.ref (z 4), .int 12])), (z 4, .inr (12, [.int (nI (z 12)), .ref (z 5), .int (nI (dN d 0))])), (z 6, .inr (4, [.ref (z 7), .int 24])), (z 7, .inr (12, [.int (nI (z 13)), .ref (z 8), .int (nI (dN d 1))]))] s.heap := va_cons (hO 0 _ rfl) hdk.1
  have hd := hz.1
  have hh := hz.2.1
  have h10 := hz.2.2
  obtain ⟨h10, h10b, h11, h11b, -⟩ := h10
  have hd0 := hd.1.1.2
  have hd1 := hd.1.2.1.2
  refine lv_aload_n hx hb dX1_dueDay_0 rfl (lv_at hl 0 rfl) ?_
  refine lv_iload_n hx hb dX1_dueDay_1 rfl (lv_at hl 1 rfl) ?_
  refine o_after (vy_runV (As := [.int x]) (rest := []) (g := F0 m 2 ls [.int x, .ref o]) C.fix (c_presAt l D k g o bb dq bl eo z hf d hz x htr) (cwV 1 hts (lw_V q1395 q1397 qs26 q68 q1398) rfl rfl rfl (by decide +kernel) ⟨Nat.le_of_ble_eq_true rfl, Nat.le_of_ble_eq_true rfl⟩) (preV mv2_hKX hK (va_recv hK (frzF hF hS) (ci := 1) (q0 := 0) rfl rfl) (fun U hU hW => (hKX_at hX hS hAN (⟨(frzF hO hS), (dk_frF hdk hS)⟩) hU hW))) rfl rfl hl.1 rfl (lv_room (Nat.le_of_ble_eq_true rfl)) dX1_dueDay_2 ⟨(by first | exact Nat.le_of_ble_eq_true rfl | omega | (dsimp only [Rm]; omega)), (by first | exact Nat.le_of_ble_eq_true rfl | omega | (dsimp only [Rm]; omega))⟩) hS (fun E ce q9 H hth hS hk hce hcv hcl => o_out hnt hlk (hth) hS hce hcv hcl (by first | exact Nat.le_of_ble_eq_true rfl | omega | (dsimp only [Rm]; omega)) (by first | exact Nat.le_of_ble_eq_true rfl | omega | (dsimp only [Rm]; omega))) (fun H hp2 hS hsz hk => ?_)
  have hP : va_P D clA [] H := hP.kept (fun i q hi => hk q.1 ((hP i q hi).lt))
  have hD : va_D (fun q => s.heap.size ≤ q) [] := hD
  obtain ⟨hcx, ecx⟩ := hasP_ci hd hp2
  refine va_getN hx hb hts in_X12 hown hK (frzF (hdk.2.2.2.2 (ci x) (by omega)) hS) 0 rfl rfl 5 (by decide) ((hN _ q1558 rfl).use rfl) (fun _ h => h) rfl dX1_dueDay_5 ?_
  exact o_iret C hp2 rfl hS (by first | exact Nat.le_of_ble_eq_true rfl | omega | (dsimp only [Rm]; omega)) (by first | exact Nat.le_of_ble_eq_true rfl | omega | (dsimp only [Rm]; omega)) dX1_dueDay_8
set_option maxHeartbeats 4000000 in
theorem c_Pdrawn (l : Launch) (D : va_G) (k : Nat → ClassId) (g : Nat → Nat) (o bb dq : Nat) (bl eo : Int32) (z : Nat → Nat) (hf d : Nat → Int32) (hz : dkN g z hf d) (x : Int32) (htr : l.stackTraces = false) : oM l D k yX1_drawn cX1_drawn 2 (some .int) 8 142 1 6 [.ref o, .int x] (hKX (fun HH => va_P D clA [(o, .inr (1, [.ref bb, .ref dq, .ref (z 0), .int bl, .int eo]))] HH ∧ dk D k z hf d HH) g) (hasC d x) (some (.int (drawn d x))) (fun E => ¬ hasC d x ∧ E = "java/lang/IndexOutOfBoundsException") := by
  refine oM_of (by decide) (Nat.le_of_ble_eq_true rfl) ?_
  intro p e s m below meth c ls C hnt hK ⟨⟨hO, hdk⟩, hX⟩ hS hl
  have hP : va_P D clA [] s.heap := va_nil
  have hD : va_D (fun q => s.heap.size ≤ q) [] := va_D_nod.mpr ⟨List.nodup_nil, fun q h => by cases h⟩
  have hA : ∀ q, s.heap.size ≤ q → s.heap.size ≤ q := fun _ h => h
  have hAN : ∀ q, s.heap.size ≤ q → g 0 ≤ q := fun q h => Nat.le_trans hX.le h
  have hN : NW s := hX.nw
  obtain ⟨hx, hb, hr, hml, hown, hts, hlk⟩ := id C
  have hl : lv_has ls 2 [(0, .ref o), (1, .int x)] := hl
  have hF : va_P D clA [(o, .inr (1, [.ref bb, .ref dq, .ref (z 0), .int bl, .int eo])), (z 0, .inr (2, [.ref (z 1), .ref (z 3), .ref (z 6), .ref (z 9), .int (d 3)])), (z 1, .inr (3, [.ref (z 2), .int (d 2)])), (z 2, .inl (k 0, 16, .inl hf)), (z 3, .inr (4, [.ref (z 4), .int 12])), (z 4, .inr (12, [.int (nI (z 12)), .ref (z 5), .int (nI (dN d 0))])), (z 6, .inr (4, [.ref (z 7), .int 24])), (z 7, .inr (12, [.int (nI (z 13)), .ref (z 8), .int (nI (dN d 1))]))] s.heap := va_cons (hO 0 _ rfl) hdk.1
  have hd := hz.1
  have hh := hz.2.1
  have h10 := hz.2.2
  obtain ⟨h10, h10b, h11, h11b, -⟩ := h10
  have hd0 := hd.1.1.2
  have hd1 := hd.1.2.1.2
  refine lv_aload_n hx hb dX1_drawn_0 rfl (lv_at hl 0 rfl) ?_
  refine lv_iload_n hx hb dX1_drawn_1 rfl (lv_at hl 1 rfl) ?_
  refine o_after (vy_runV (As := [.int x]) (rest := []) (g := F0 m 2 ls [.int x, .ref o]) C.fix (c_reqCredit l D k g o bb dq bl eo z hf d hz x htr) (cwV 1 hts (lw_V q1325 q1327 qs25 q68 q1328) rfl rfl rfl (by decide +kernel) ⟨Nat.le_of_ble_eq_true rfl, Nat.le_of_ble_eq_true rfl⟩) (preV mv2_hKX hK (va_recv hK (frzF hF hS) (ci := 1) (q0 := 0) rfl rfl) (fun U hU hW => (hKX_at hX hS hAN (⟨(frzF hO hS), (dk_frF hdk hS)⟩) hU hW))) rfl rfl hl.1 rfl (lv_room (Nat.le_of_ble_eq_true rfl)) dX1_drawn_2 ⟨(by first | exact Nat.le_of_ble_eq_true rfl | omega | (dsimp only [Rm]; omega)), (by first | exact Nat.le_of_ble_eq_true rfl | omega | (dsimp only [Rm]; omega))⟩) hS (fun E ce q9 H hth hS hk hce hcv hcl => o_out hnt hlk (hth) hS hce hcv hcl (by first | exact Nat.le_of_ble_eq_true rfl | omega | (dsimp only [Rm]; omega)) (by first | exact Nat.le_of_ble_eq_true rfl | omega | (dsimp only [Rm]; omega))) (fun H hp2 hS hsz hk => ?_)
  have hP : va_P D clA [] H := hP.kept (fun i q hi => hk q.1 ((hP i q hi).lt))
  have hD : va_D (fun q => s.heap.size ≤ q) [] := hD
  refine lv_aload_n hx hb dX1_drawn_5 rfl (lv_at hl 0 rfl) ?_
  refine va_get hx hb hts in_X1 hown hK (frzF hF hS) 0 rfl rfl 2 (by decide) (hts _ q221) (fun _ h => h) rfl dX1_drawn_6 ?_
  refine lv_iload_n hx hb dX1_drawn_9 rfl (lv_at hl 1 rfl) ?_
  refine r_after (va_runV (As := [.int x]) (rest := []) (g := F0 m 10 ls [.int x, .ref (z 0)]) C.fix (c_drawn l D k g z hf d hz x) (cwV 1 hts (lw_V q342 q343 q344 q71 q345) rfl rfl rfl (by decide +kernel) ⟨Nat.le_of_ble_eq_true rfl, Nat.le_of_ble_eq_true rfl⟩) (preV mv2_hKX hK (va_recv hK (frzF hF hS) (ci := 2) (q0 := 1) rfl rfl) (fun U hU hW => (hKX_at hX hS hAN (dk_frF hdk hS) hU hW))) rfl rfl hl.1 rfl (lv_room (Nat.le_of_ble_eq_true rfl)) dX1_drawn_10 ⟨(by first | exact Nat.le_of_ble_eq_true rfl | omega | (dsimp only [Rm]; omega)), (by first | exact Nat.le_of_ble_eq_true rfl | omega | (dsimp only [Rm]; omega))⟩) ?_
  exact o_iret C hp2 rfl hS (by first | exact Nat.le_of_ble_eq_true rfl | omega | (dsimp only [Rm]; omega)) (by first | exact Nat.le_of_ble_eq_true rfl | omega | (dsimp only [Rm]; omega)) dX1_drawn_13
set_option maxHeartbeats 4000000 in
theorem c_Ptransferred (l : Launch) (D : va_G) (k : Nat → ClassId) (g : Nat → Nat) (o bb dq : Nat) (bl eo : Int32) (z : Nat → Nat) (hf d : Nat → Int32) (hz : dkN g z hf d) (x : Int32) (htr : l.stackTraces = false) : oM l D k yX1_transferred cX1_transferred 2 (some .int) 8 142 1 6 [.ref o, .int x] (hKX (fun HH => va_P D clA [(o, .inr (1, [.ref bb, .ref dq, .ref (z 0), .int bl, .int eo]))] HH ∧ dk D k z hf d HH) g) (hasC d x) (some (.int (transf d x))) (fun E => ¬ hasC d x ∧ E = "java/lang/IndexOutOfBoundsException") := by
  refine oM_of (by decide) (Nat.le_of_ble_eq_true rfl) ?_
  intro p e s m below meth c ls C hnt hK ⟨⟨hO, hdk⟩, hX⟩ hS hl
  have hP : va_P D clA [] s.heap := va_nil
  have hD : va_D (fun q => s.heap.size ≤ q) [] := va_D_nod.mpr ⟨List.nodup_nil, fun q h => by cases h⟩
  have hA : ∀ q, s.heap.size ≤ q → s.heap.size ≤ q := fun _ h => h
  have hAN : ∀ q, s.heap.size ≤ q → g 0 ≤ q := fun q h => Nat.le_trans hX.le h
  have hN : NW s := hX.nw
  obtain ⟨hx, hb, hr, hml, hown, hts, hlk⟩ := id C
  have hl : lv_has ls 2 [(0, .ref o), (1, .int x)] := hl
  have hF : va_P D clA [(o, .inr (1, [.ref bb, .ref dq, .ref (z 0), .int bl, .int eo])), (z 0, .inr (2, [.ref (z 1), .ref (z 3), .ref (z 6), .ref (z 9), .int (d 3)])), (z 1, .inr (3, [.ref (z 2), .int (d 2)])), (z 2, .inl (k 0, 16, .inl hf)), (z 3, .inr (4, [.ref (z 4), .int 12])), (z 4, .inr (12, [.int (nI (z 12)), .ref (z 5), .int (nI (dN d 0))])), (z 6, .inr (4, [.ref (z 7), .int 24])), (z 7, .inr (12, [.int (nI (z 13)), .ref (z 8), .int (nI (dN d 1))]))] s.heap := va_cons (hO 0 _ rfl) hdk.1
  have hd := hz.1
  have hh := hz.2.1
  have h10 := hz.2.2
  obtain ⟨h10, h10b, h11, h11b, -⟩ := h10
  have hd0 := hd.1.1.2
  have hd1 := hd.1.2.1.2
  refine lv_aload_n hx hb dX1_transferred_0 rfl (lv_at hl 0 rfl) ?_
  refine lv_iload_n hx hb dX1_transferred_1 rfl (lv_at hl 1 rfl) ?_
  refine o_after (vy_runV (As := [.int x]) (rest := []) (g := F0 m 2 ls [.int x, .ref o]) C.fix (c_reqCredit l D k g o bb dq bl eo z hf d hz x htr) (cwV 1 hts (lw_V q1325 q1327 qs25 q68 q1328) rfl rfl rfl (by decide +kernel) ⟨Nat.le_of_ble_eq_true rfl, Nat.le_of_ble_eq_true rfl⟩) (preV mv2_hKX hK (va_recv hK (frzF hF hS) (ci := 1) (q0 := 0) rfl rfl) (fun U hU hW => (hKX_at hX hS hAN (⟨(frzF hO hS), (dk_frF hdk hS)⟩) hU hW))) rfl rfl hl.1 rfl (lv_room (Nat.le_of_ble_eq_true rfl)) dX1_transferred_2 ⟨(by first | exact Nat.le_of_ble_eq_true rfl | omega | (dsimp only [Rm]; omega)), (by first | exact Nat.le_of_ble_eq_true rfl | omega | (dsimp only [Rm]; omega))⟩) hS (fun E ce q9 H hth hS hk hce hcv hcl => o_out hnt hlk (hth) hS hce hcv hcl (by first | exact Nat.le_of_ble_eq_true rfl | omega | (dsimp only [Rm]; omega)) (by first | exact Nat.le_of_ble_eq_true rfl | omega | (dsimp only [Rm]; omega))) (fun H hp2 hS hsz hk => ?_)
  have hP : va_P D clA [] H := hP.kept (fun i q hi => hk q.1 ((hP i q hi).lt))
  have hD : va_D (fun q => s.heap.size ≤ q) [] := hD
  refine lv_aload_n hx hb dX1_transferred_5 rfl (lv_at hl 0 rfl) ?_
  refine va_get hx hb hts in_X1 hown hK (frzF hF hS) 0 rfl rfl 2 (by decide) (hts _ q221) (fun _ h => h) rfl dX1_transferred_6 ?_
  refine lv_iload_n hx hb dX1_transferred_9 rfl (lv_at hl 1 rfl) ?_
  refine r_after (va_runV (As := [.int x]) (rest := []) (g := F0 m 10 ls [.int x, .ref (z 0)]) C.fix (c_transferred l D k g z hf d hz x) (cwV 1 hts (lw_V q1380 q368 q369 q71 q370) rfl rfl rfl (by decide +kernel) ⟨Nat.le_of_ble_eq_true rfl, Nat.le_of_ble_eq_true rfl⟩) (preV mv2_hKX hK (va_recv hK (frzF hF hS) (ci := 2) (q0 := 1) rfl rfl) (fun U hU hW => (hKX_at hX hS hAN (dk_frF hdk hS) hU hW))) rfl rfl hl.1 rfl (lv_room (Nat.le_of_ble_eq_true rfl)) dX1_transferred_10 ⟨(by first | exact Nat.le_of_ble_eq_true rfl | omega | (dsimp only [Rm]; omega)), (by first | exact Nat.le_of_ble_eq_true rfl | omega | (dsimp only [Rm]; omega))⟩) ?_
  exact o_iret C hp2 rfl hS (by first | exact Nat.le_of_ble_eq_true rfl | omega | (dsimp only [Rm]; omega)) (by first | exact Nat.le_of_ble_eq_true rfl | omega | (dsimp only [Rm]; omega)) dX1_transferred_13
