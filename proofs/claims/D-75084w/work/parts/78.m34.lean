/-! the component: what the lambdas do (printed by gen/m34.py) -/
set_option maxRecDepth 100000
/-- the fee's trees -/
def oprS (o : Int32) (x y : Int64) : Int64 := mxL (-100000000) (mnL 100000000 (if o = 43 then x + y else if o = 45 then x - y else if o = 42 then x * y else if y = 0 then 0 else x / y))
abbrev FeF : Type := Int64 → Int64 → Int64 → Int64
def feL (g : Nat → Nat) (F : FeF) (z : Nat) (H : Heap) : Prop :=
  (z = g 4 ∧ F = fun a _ _ => a / 1000) ∨ (z = g 7 ∧ F = fun a _ _ => a) ∨ (z = g 9 ∧ F = fun _ b _ => b) ∨ (z = g 11 ∧ F = fun _ _ d => d) ∨ ∃ (cell : Cell) (v : Int64), H[z]? = some cell ∧ cell.cls = g 5 ∧ cell.vm = .none ∧ cell.slots = #[.long v] ∧ F = fun _ _ _ => v
def feO (g : Nat → Nat) (F : FeF) (z : Nat) (H : Heap) (Pn : FeF → Nat → Heap → Prop) : Prop :=
  ∃ (cell : Cell) (zl zr : Nat) (o : Int32) (Fl Fr : FeF), H[z]? = some cell ∧ cell.cls = g 12 ∧ cell.vm = .none ∧ cell.slots = #[.ref zl, .ref zr, .int o] ∧ Pn Fl zl H ∧ Pn Fr zr H ∧ F = fun a b d => oprS o (Fl a b d) (Fr a b d)
/-- the object z is the fee F, a tree of height n at the most -/
def feT (g : Nat → Nat) : Nat → FeF → Nat → Heap → Prop
  | 0, F, z, H => feL g F z H
  | n + 1, F, z, H => feL g F z H ∨ feO g F z H (feT g n)
theorem feL_at {g : Nat → Nat} {H H1 : Heap} {F : FeF} {z : Nat} (hk : H1[z]? = H[z]?) (h : feL g F z H) : feL g F z H1 := by
  rcases h with h | h | h | h | ⟨cell, v, h1, h2⟩
  · exact Or.inl h
  · exact Or.inr (Or.inl h)
  · exact Or.inr (Or.inr (Or.inl h))
  · exact Or.inr (Or.inr (Or.inr (Or.inl h)))
  · exact Or.inr (Or.inr (Or.inr (Or.inr ⟨cell, v, by rw [hk]; exact h1, h2⟩)))
theorem feT_kept {g : Nat → Nat} {H H1 : Heap} (hk : ∀ q : Nat, q < H.size → H1[q]? = H[q]?) : ∀ {n : Nat} {F : FeF} {z : Nat}, feT g n F z H → feT g n F z H1 := by
  have lt : ∀ {z : Nat} {cell : Cell}, H[z]? = some cell → z < H.size := fun h => (Array.getElem?_eq_some_iff.mp h).1
  have hL : ∀ {F : FeF} {z : Nat}, feL g F z H → feL g F z H1 := by
    intro F z h
    rcases h with h | h | h | h | ⟨cell, v, h1, h2⟩
    · exact Or.inl h
    · exact Or.inr (Or.inl h)
    · exact Or.inr (Or.inr (Or.inl h))
    · exact Or.inr (Or.inr (Or.inr (Or.inl h)))
    · exact Or.inr (Or.inr (Or.inr (Or.inr ⟨cell, v, by rw [hk z (lt h1)]; exact h1, h2⟩)))
  intro n
  induction n with
  | zero => intro F z h; exact hL h
  | succ n ih =>
    intro F z h
    rcases h with h | ⟨cell, zl, zr, o, Fl, Fr, h1, h2, h3, h4, h5, h6, h7⟩
    · exact Or.inl (hL h)
    · exact Or.inr ⟨cell, zl, zr, o, Fl, Fr, by rw [hk z (lt h1)]; exact h1, h2, h3, h4, ih h5, ih h6, h7⟩
/-- a call of a fee -/
def feeR (l : Launch) (D : va_G) (k : Nat → ClassId) (g : Nat → Nat) (fr lo : Nat) (a b c0 : Int64) (n : Nat) (F : FeF) (z : Nat) : Prop :=
  ∀ (p : Program) (e : Env) (R : Room) (s : State) (m : MethodId) (args : Array Value) (below : List Frame) (meth : Method) (c : Code) (H : Heap) (locs : List Loc) (cells slots : Nat) (cc : ByteArray) (pc : Nat) (ls : Array Slot) (rest : List Value) (own : String) (index count : Nat),
    p.tables.exec = Jvm.exec → c.code = cc → c.maxLocals = ls.size → s.vm.findClass own = some m.cls → (∀ w ∈ lw_all, w.before args s = true) → KA D k s → KX g s → (∀ U : State, U.heap = H → s.WarmedH U.vm → hKX (feT g n F z) g U) →
    (Cond.methodLink own index yFee).before args s = true → fr + 1 ≤ R.frames → 26 + lo ≤ R.locals → (rest.map fun v => v.category).sum ≤ 8 → cells ≤ R.cells ∧ slots ≤ R.slots → decode cc pc = .ok (.invokeinterface index count, 5) →
    va_Run5 p l e R s m args below meth c H locs cells slots 0 0 (F0 m pc ls (.long c0 :: .long b :: .long a :: .ref z :: rest)) rest (gQ (some (.long (F a b c0))) #[.ref z, .long a, .long b, .long c0]) (fun _ => False)
set_option maxHeartbeats 4000000 in
theorem c_lam0 (l : Launch) (D : va_G) (k : Nat → ClassId) (g : Nat → Nat) (x0 a b c0 : Int64) : gM l D k yX6_lambda_factor_0 cX6_lambda_factor_0 8 (some .long) 0 0 0 0 [.long x0, .long a, .long b, .long c0] (hKX (fun HH => True) g) (some (.long x0)) := by
  refine gM_of (by decide) (Nat.le_of_ble_eq_true rfl) ?_
  intro p e s m below meth c ls C hK ⟨_, hX⟩ hS hl
  have hP : va_P D clA [] s.heap := va_nil
  have hD : va_D (fun q => s.heap.size ≤ q) [] := va_D_nod.mpr ⟨List.nodup_nil, fun q h => by cases h⟩
  have hA : ∀ q, s.heap.size ≤ q → s.heap.size ≤ q := fun _ h => h
  have hAN : ∀ q, s.heap.size ≤ q → g 0 ≤ q := fun q h => Nat.le_trans hX.le h
  have hN : NW s := hX.nw
  obtain ⟨hx, hb, hr, hml, hown, hts, hlk⟩ := id C
  have hl : lv_has ls 8 [(0, .long x0), (2, .long a), (4, .long b), (6, .long c0)] := hl
  refine lv_lload_n hx hb dX6_lambda_factor_0_0 rfl (lv_at hl 0 rfl) ?_
  exact g_lret C rfl hS (by first | exact Nat.le_of_ble_eq_true rfl | omega | (dsimp only [Rm]; omega)) (by first | exact Nat.le_of_ble_eq_true rfl | omega | (dsimp only [Rm]; omega)) dX6_lambda_factor_0_1
set_option maxHeartbeats 4000000 in
theorem c_lam1 (l : Launch) (D : va_G) (k : Nat → ClassId) (g : Nat → Nat) (a b c0 : Int64) : gM l D k yX6_lambda_factor_1 cX6_lambda_factor_1 6 (some .long) 0 0 0 0 [.long a, .long b, .long c0] (hKX (fun HH => True) g) (some (.long a)) := by
  refine gM_of (by decide) (Nat.le_of_ble_eq_true rfl) ?_
  intro p e s m below meth c ls C hK ⟨_, hX⟩ hS hl
  have hP : va_P D clA [] s.heap := va_nil
  have hD : va_D (fun q => s.heap.size ≤ q) [] := va_D_nod.mpr ⟨List.nodup_nil, fun q h => by cases h⟩
  have hA : ∀ q, s.heap.size ≤ q → s.heap.size ≤ q := fun _ h => h
  have hAN : ∀ q, s.heap.size ≤ q → g 0 ≤ q := fun q h => Nat.le_trans hX.le h
  have hN : NW s := hX.nw
  obtain ⟨hx, hb, hr, hml, hown, hts, hlk⟩ := id C
  have hl : lv_has ls 6 [(0, .long a), (2, .long b), (4, .long c0)] := hl
  refine lv_lload_n hx hb dX6_lambda_factor_1_0 rfl (lv_at hl 0 rfl) ?_
  exact g_lret C rfl hS (by first | exact Nat.le_of_ble_eq_true rfl | omega | (dsimp only [Rm]; omega)) (by first | exact Nat.le_of_ble_eq_true rfl | omega | (dsimp only [Rm]; omega)) dX6_lambda_factor_1_1
set_option maxHeartbeats 4000000 in
theorem c_lam2 (l : Launch) (D : va_G) (k : Nat → ClassId) (g : Nat → Nat) (a b c0 : Int64) : gM l D k yX6_lambda_factor_2 cX6_lambda_factor_2 6 (some .long) 0 0 0 0 [.long a, .long b, .long c0] (hKX (fun HH => True) g) (some (.long b)) := by
  refine gM_of (by decide) (Nat.le_of_ble_eq_true rfl) ?_
  intro p e s m below meth c ls C hK ⟨_, hX⟩ hS hl
  have hP : va_P D clA [] s.heap := va_nil
  have hD : va_D (fun q => s.heap.size ≤ q) [] := va_D_nod.mpr ⟨List.nodup_nil, fun q h => by cases h⟩
  have hA : ∀ q, s.heap.size ≤ q → s.heap.size ≤ q := fun _ h => h
  have hAN : ∀ q, s.heap.size ≤ q → g 0 ≤ q := fun q h => Nat.le_trans hX.le h
  have hN : NW s := hX.nw
  obtain ⟨hx, hb, hr, hml, hown, hts, hlk⟩ := id C
  have hl : lv_has ls 6 [(0, .long a), (2, .long b), (4, .long c0)] := hl
  refine lv_lload_n hx hb dX6_lambda_factor_2_0 rfl (lv_at hl 1 rfl) ?_
  exact g_lret C rfl hS (by first | exact Nat.le_of_ble_eq_true rfl | omega | (dsimp only [Rm]; omega)) (by first | exact Nat.le_of_ble_eq_true rfl | omega | (dsimp only [Rm]; omega)) dX6_lambda_factor_2_1
set_option maxHeartbeats 4000000 in
theorem c_lam3 (l : Launch) (D : va_G) (k : Nat → ClassId) (g : Nat → Nat) (a b c0 : Int64) : gM l D k yX6_lambda_factor_3 cX6_lambda_factor_3 6 (some .long) 0 0 0 0 [.long a, .long b, .long c0] (hKX (fun HH => True) g) (some (.long c0)) := by
  refine gM_of (by decide) (Nat.le_of_ble_eq_true rfl) ?_
  intro p e s m below meth c ls C hK ⟨_, hX⟩ hS hl
  have hP : va_P D clA [] s.heap := va_nil
  have hD : va_D (fun q => s.heap.size ≤ q) [] := va_D_nod.mpr ⟨List.nodup_nil, fun q h => by cases h⟩
  have hA : ∀ q, s.heap.size ≤ q → s.heap.size ≤ q := fun _ h => h
  have hAN : ∀ q, s.heap.size ≤ q → g 0 ≤ q := fun q h => Nat.le_trans hX.le h
  have hN : NW s := hX.nw
  obtain ⟨hx, hb, hr, hml, hown, hts, hlk⟩ := id C
  have hl : lv_has ls 6 [(0, .long a), (2, .long b), (4, .long c0)] := hl
  refine lv_lload hx hb dX6_lambda_factor_3_0 (lv_at hl 2 rfl) ?_
  exact g_lret C rfl hS (by first | exact Nat.le_of_ble_eq_true rfl | omega | (dsimp only [Rm]; omega)) (by first | exact Nat.le_of_ble_eq_true rfl | omega | (dsimp only [Rm]; omega)) dX6_lambda_factor_3_2
set_option maxHeartbeats 4000000 in
theorem c_lamD (l : Launch) (D : va_G) (k : Nat → ClassId) (g : Nat → Nat) (a b c0 : Int64) : gM l D k yX2_lambda_new_0 cX2_lambda_new_0 6 (some .long) 0 0 0 0 [.long a, .long b, .long c0] (hKX (fun HH => True) g) (some (.long (a / 1000))) := by
  refine gM_of (by decide) (Nat.le_of_ble_eq_true rfl) ?_
  intro p e s m below meth c ls C hK ⟨_, hX⟩ hS hl
  have hP : va_P D clA [] s.heap := va_nil
  have hD : va_D (fun q => s.heap.size ≤ q) [] := va_D_nod.mpr ⟨List.nodup_nil, fun q h => by cases h⟩
  have hA : ∀ q, s.heap.size ≤ q → s.heap.size ≤ q := fun _ h => h
  have hAN : ∀ q, s.heap.size ≤ q → g 0 ≤ q := fun q h => Nat.le_trans hX.le h
  have hN : NW s := hX.nw
  obtain ⟨hx, hb, hr, hml, hown, hts, hlk⟩ := id C
  have hl : lv_has ls 6 [(0, .long a), (2, .long b), (4, .long c0)] := hl
  refine lv_lload_n hx hb dX2_lambda_new_0_0 rfl (lv_at hl 0 rfl) ?_
  refine lv_ldc2 (v := 1000) hx hb hown (hts _ q195) dX2_lambda_new_0_1 ?_
  refine lv_ldiv hx hb dX2_lambda_new_0_4 (by decide) ?_
  exact g_lret C rfl hS (by first | exact Nat.le_of_ble_eq_true rfl | omega | (dsimp only [Rm]; omega)) (by first | exact Nat.le_of_ble_eq_true rfl | omega | (dsimp only [Rm]; omega)) dX2_lambda_new_0_5
set_option maxHeartbeats 4000000 in
theorem c_lamO (l : Launch) (D : va_G) (k : Nat → ClassId) (g : Nat → Nat) (fr lo n : Nat) (fx fy : FeF) (a b c0 : Int64) (zl zr : Nat) (o : Int32) (h_fx : feeR l D k g fr lo a b c0 n fx zl) (h_fy : feeR l D k g fr lo a b c0 n fy zr) : gM l D k yX1_lambda_operation_0 cX1_lambda_operation_0 15 (some .long) (fr + 1) (26 + lo) 0 0 [.ref zl, .ref zr, .int o, .long a, .long b, .long c0] (hKX (fun HH => feT g n fx zl HH ∧ feT g n fy zr HH) g) (some (.long (oprS o (fx a b c0) (fy a b c0)))) := by
  refine gM_of (by decide) (Nat.le_of_ble_eq_true rfl) ?_
  intro p e s m below meth c ls C hK ⟨⟨hFx, hFy⟩, hX⟩ hS hl
  have hP : va_P D clA [] s.heap := va_nil
  have hD : va_D (fun q => s.heap.size ≤ q) [] := va_D_nod.mpr ⟨List.nodup_nil, fun q h => by cases h⟩
  have hA : ∀ q, s.heap.size ≤ q → s.heap.size ≤ q := fun _ h => h
  have hAN : ∀ q, s.heap.size ≤ q → g 0 ≤ q := fun q h => Nat.le_trans hX.le h
  have hN : NW s := hX.nw
  obtain ⟨hx, hb, hr, hml, hown, hts, hlk⟩ := id C
  have hl : lv_has ls 15 [(0, .ref zl), (1, .ref zr), (2, .int o), (3, .long a), (5, .long b), (7, .long c0)] := hl
  refine lv_aload_n hx hb dX1_lambda_operation_0_0 rfl (lv_at hl 0 rfl) ?_
  refine lv_lload_n hx hb dX1_lambda_operation_0_1 rfl (lv_at hl 3 rfl) ?_
  refine lv_lload hx hb dX1_lambda_operation_0_2 (lv_at hl 4 rfl) ?_
  refine lv_lload hx hb dX1_lambda_operation_0_4 (lv_at hl 5 rfl) ?_
  refine g_after5 (h_fx p e _ s m _ below meth c s.heap [] (0) (0) _ 6 ls [] _ _ _ hx hb (hml.trans hl.1.symm) hown hts hK hX (fun U hU hW => hKX_at hX hS hAN hFx hU hW) (hts _ q1103) (by dsimp only [Rm]; omega) (by dsimp only [Rm]; omega) (Nat.le_of_ble_eq_true rfl) ⟨by dsimp only [Rm]; omega, by dsimp only [Rm]; omega⟩ dX1_lambda_operation_0_6) hS (fun H hS hsz hk => ?_)
  have hP : va_P D clA [] H := hP.kept (fun i q hi => hk q.1 ((hP i q hi).lt))
  have hFx := feT_kept hk hFx
  have hFy := feT_kept hk hFy
  refine lv_lstore (lv' := [(9, .long (fx a b c0)), (0, .ref zl), (1, .ref zr), (2, .int o), (3, .long a), (5, .long b), (7, .long c0)]) hx hb dX1_lambda_operation_0_11 hl (by decide) rfl (fun ls hl => ?_)
  refine lv_aload_n hx hb dX1_lambda_operation_0_13 rfl (lv_at hl 2 rfl) ?_
  refine lv_lload_n hx hb dX1_lambda_operation_0_14 rfl (lv_at hl 4 rfl) ?_
  refine lv_lload hx hb dX1_lambda_operation_0_15 (lv_at hl 5 rfl) ?_
  refine lv_lload hx hb dX1_lambda_operation_0_17 (lv_at hl 6 rfl) ?_
  refine g_after5 (h_fy p e _ s m _ below meth c H [] (0 + 0) (0 + 0) _ 19 ls [] _ _ _ hx hb (hml.trans hl.1.symm) hown hts hK hX (fun U hU hW => hKX_at hX hS hAN hFy hU hW) (hts _ q1103) (by dsimp only [Rm]; omega) (by dsimp only [Rm]; omega) (Nat.le_of_ble_eq_true rfl) ⟨by dsimp only [Rm]; omega, by dsimp only [Rm]; omega⟩ dX1_lambda_operation_0_19) hS (fun H hS hsz hk => ?_)
  have hP : va_P D clA [] H := hP.kept (fun i q hi => hk q.1 ((hP i q hi).lt))
  have hFx := feT_kept hk hFx
  have hFy := feT_kept hk hFy
  refine lv_lstore (lv' := [(11, .long (fy a b c0)), (9, .long (fx a b c0)), (0, .ref zl), (1, .ref zr), (2, .int o), (3, .long a), (5, .long b), (7, .long c0)]) hx hb dX1_lambda_operation_0_24 hl (by decide) rfl (fun ls hl => ?_)
  refine lv_iload_n hx hb dX1_lambda_operation_0_26 rfl (lv_at hl 4 rfl) ?_
  refine lv_bipush (v := 43) hx hb dX1_lambda_operation_0_27 rfl ?_
  refine lv_icmp_ne (tgt := 40) hx hb dX1_lambda_operation_0_29 (by decide) (fun c_29 => ?_) (fun c_29 => ?_)
  · refine lv_iload_n hx hb dX1_lambda_operation_0_40 rfl (lv_at hl 4 rfl) ?_
    refine lv_bipush (v := 45) hx hb dX1_lambda_operation_0_41 rfl ?_
    refine lv_icmp_ne (tgt := 54) hx hb dX1_lambda_operation_0_43 (by decide) (fun c_43 => ?_) (fun c_43 => ?_)
    · refine lv_iload_n hx hb dX1_lambda_operation_0_54 rfl (lv_at hl 4 rfl) ?_
      refine lv_bipush (v := 42) hx hb dX1_lambda_operation_0_55 rfl ?_
      refine lv_icmp_ne (tgt := 68) hx hb dX1_lambda_operation_0_57 (by decide) (fun c_57 => ?_) (fun c_57 => ?_)
      · refine lv_lload hx hb dX1_lambda_operation_0_68 (lv_at hl 0 rfl) ?_
        refine lv_lconst (v := 0) hx hb dX1_lambda_operation_0_70 rfl ?_
        refine W.lcmp hx hb dX1_lambda_operation_0_71 ?_
        refine lv_if_ne (tgt := 79) hx hb dX1_lambda_operation_0_72 (by decide) (fun c_72 => ?_) (fun c_72 => ?_)
        · refine lv_lload hx hb dX1_lambda_operation_0_79 (lv_at hl 1 rfl) ?_
          refine lv_lload hx hb dX1_lambda_operation_0_81 (lv_at hl 0 rfl) ?_
          refine lv_ldiv hx hb dX1_lambda_operation_0_83 (fun h => c_72 ((lg_cmp_eq _ _).mpr h)) ?_
          refine lv_lstore (lv' := [(13, .long ((fx a b c0) / (fy a b c0))), (11, .long (fy a b c0)), (9, .long (fx a b c0)), (0, .ref zl), (1, .ref zr), (2, .int o), (3, .long a), (5, .long b), (7, .long c0)]) hx hb dX1_lambda_operation_0_84 hl (by decide) rfl (fun ls hl => ?_)
          refine lv_ldc2 (v := (-100000000)) hx hb hown (hts _ q1106) dX1_lambda_operation_0_86 ?_
          refine lv_ldc2 (v := 100000000) hx hb hown (hts _ q1107) dX1_lambda_operation_0_89 ?_
          refine lv_lload hx hb dX1_lambda_operation_0_92 (lv_at hl 0 rfl) ?_
          refine va_mmin_long hx hb (hml.trans hl.1.symm) hown (hts _ q1108) (hts _ q1109) (hts _ q87) (hts _ q1110) (Nat.le_of_ble_eq_true rfl) (Nat.le_trans (Nat.le_of_ble_eq_true rfl : _ ≤ 26) (Nat.le_add_right 26 lo)) (by first | exact Nat.le_of_ble_eq_true rfl | omega | (dsimp only [Rm]; omega)) (by first | exact Nat.le_of_ble_eq_true rfl | omega | (dsimp only [Rm]; omega)) dX1_lambda_operation_0_94 ?_
          refine w_topl (y := mnL 100000000 ((fx a b c0) / (fy a b c0))) rfl ?_
          refine va_mmax_long hx hb (hml.trans hl.1.symm) hown (hts _ q1111) (hts _ q1112) (hts _ q87) (hts _ q1113) (Nat.le_of_ble_eq_true rfl) (Nat.le_trans (Nat.le_of_ble_eq_true rfl : _ ≤ 26) (Nat.le_add_right 26 lo)) (by first | exact Nat.le_of_ble_eq_true rfl | omega | (dsimp only [Rm]; omega)) (by first | exact Nat.le_of_ble_eq_true rfl | omega | (dsimp only [Rm]; omega)) dX1_lambda_operation_0_97 ?_
          refine w_topl (y := mxL (-100000000) (mnL 100000000 ((fx a b c0) / (fy a b c0)))) rfl ?_
          exact g_lret C (by simp_all [oprS, lg_cmp_eq]) hS (by first | exact Nat.le_of_ble_eq_true rfl | omega | (dsimp only [Rm]; omega)) (by first | exact Nat.le_of_ble_eq_true rfl | omega | (dsimp only [Rm]; omega)) dX1_lambda_operation_0_100
        · refine lv_lconst (v := 0) hx hb dX1_lambda_operation_0_75 rfl ?_
          refine lv_goto (tgt := 84) hx hb dX1_lambda_operation_0_76 (by decide) ?_
          refine lv_lstore (lv' := [(13, .long 0), (11, .long (fy a b c0)), (9, .long (fx a b c0)), (0, .ref zl), (1, .ref zr), (2, .int o), (3, .long a), (5, .long b), (7, .long c0)]) hx hb dX1_lambda_operation_0_84 hl (by decide) rfl (fun ls hl => ?_)
          refine lv_ldc2 (v := (-100000000)) hx hb hown (hts _ q1106) dX1_lambda_operation_0_86 ?_
          refine lv_ldc2 (v := 100000000) hx hb hown (hts _ q1107) dX1_lambda_operation_0_89 ?_
          refine lv_lload hx hb dX1_lambda_operation_0_92 (lv_at hl 0 rfl) ?_
          refine va_mmin_long hx hb (hml.trans hl.1.symm) hown (hts _ q1108) (hts _ q1109) (hts _ q87) (hts _ q1110) (Nat.le_of_ble_eq_true rfl) (Nat.le_trans (Nat.le_of_ble_eq_true rfl : _ ≤ 26) (Nat.le_add_right 26 lo)) (by first | exact Nat.le_of_ble_eq_true rfl | omega | (dsimp only [Rm]; omega)) (by first | exact Nat.le_of_ble_eq_true rfl | omega | (dsimp only [Rm]; omega)) dX1_lambda_operation_0_94 ?_
          refine w_topl (y := mnL 100000000 0) rfl ?_
          refine va_mmax_long hx hb (hml.trans hl.1.symm) hown (hts _ q1111) (hts _ q1112) (hts _ q87) (hts _ q1113) (Nat.le_of_ble_eq_true rfl) (Nat.le_trans (Nat.le_of_ble_eq_true rfl : _ ≤ 26) (Nat.le_add_right 26 lo)) (by first | exact Nat.le_of_ble_eq_true rfl | omega | (dsimp only [Rm]; omega)) (by first | exact Nat.le_of_ble_eq_true rfl | omega | (dsimp only [Rm]; omega)) dX1_lambda_operation_0_97 ?_
          refine w_topl (y := mxL (-100000000) (mnL 100000000 0)) rfl ?_
          exact g_lret C (by simp_all [oprS, lg_cmp_eq]) hS (by first | exact Nat.le_of_ble_eq_true rfl | omega | (dsimp only [Rm]; omega)) (by first | exact Nat.le_of_ble_eq_true rfl | omega | (dsimp only [Rm]; omega)) dX1_lambda_operation_0_100
      · refine lv_lload hx hb dX1_lambda_operation_0_60 (lv_at hl 1 rfl) ?_
        refine lv_lload hx hb dX1_lambda_operation_0_62 (lv_at hl 0 rfl) ?_
        refine lv_lmul hx hb dX1_lambda_operation_0_64 ?_
        refine lv_goto (tgt := 84) hx hb dX1_lambda_operation_0_65 (by decide) ?_
        refine lv_lstore (lv' := [(13, .long ((fx a b c0) * (fy a b c0))), (11, .long (fy a b c0)), (9, .long (fx a b c0)), (0, .ref zl), (1, .ref zr), (2, .int o), (3, .long a), (5, .long b), (7, .long c0)]) hx hb dX1_lambda_operation_0_84 hl (by decide) rfl (fun ls hl => ?_)
        refine lv_ldc2 (v := (-100000000)) hx hb hown (hts _ q1106) dX1_lambda_operation_0_86 ?_
        refine lv_ldc2 (v := 100000000) hx hb hown (hts _ q1107) dX1_lambda_operation_0_89 ?_
        refine lv_lload hx hb dX1_lambda_operation_0_92 (lv_at hl 0 rfl) ?_
        refine va_mmin_long hx hb (hml.trans hl.1.symm) hown (hts _ q1108) (hts _ q1109) (hts _ q87) (hts _ q1110) (Nat.le_of_ble_eq_true rfl) (Nat.le_trans (Nat.le_of_ble_eq_true rfl : _ ≤ 26) (Nat.le_add_right 26 lo)) (by first | exact Nat.le_of_ble_eq_true rfl | omega | (dsimp only [Rm]; omega)) (by first | exact Nat.le_of_ble_eq_true rfl | omega | (dsimp only [Rm]; omega)) dX1_lambda_operation_0_94 ?_
        refine w_topl (y := mnL 100000000 ((fx a b c0) * (fy a b c0))) rfl ?_
        refine va_mmax_long hx hb (hml.trans hl.1.symm) hown (hts _ q1111) (hts _ q1112) (hts _ q87) (hts _ q1113) (Nat.le_of_ble_eq_true rfl) (Nat.le_trans (Nat.le_of_ble_eq_true rfl : _ ≤ 26) (Nat.le_add_right 26 lo)) (by first | exact Nat.le_of_ble_eq_true rfl | omega | (dsimp only [Rm]; omega)) (by first | exact Nat.le_of_ble_eq_true rfl | omega | (dsimp only [Rm]; omega)) dX1_lambda_operation_0_97 ?_
        refine w_topl (y := mxL (-100000000) (mnL 100000000 ((fx a b c0) * (fy a b c0)))) rfl ?_
        exact g_lret C (by simp_all [oprS, lg_cmp_eq]) hS (by first | exact Nat.le_of_ble_eq_true rfl | omega | (dsimp only [Rm]; omega)) (by first | exact Nat.le_of_ble_eq_true rfl | omega | (dsimp only [Rm]; omega)) dX1_lambda_operation_0_100
    · refine lv_lload hx hb dX1_lambda_operation_0_46 (lv_at hl 1 rfl) ?_
      refine lv_lload hx hb dX1_lambda_operation_0_48 (lv_at hl 0 rfl) ?_
      refine lv_lsub hx hb dX1_lambda_operation_0_50 ?_
      refine lv_goto (tgt := 84) hx hb dX1_lambda_operation_0_51 (by decide) ?_
      refine lv_lstore (lv' := [(13, .long ((fx a b c0) - (fy a b c0))), (11, .long (fy a b c0)), (9, .long (fx a b c0)), (0, .ref zl), (1, .ref zr), (2, .int o), (3, .long a), (5, .long b), (7, .long c0)]) hx hb dX1_lambda_operation_0_84 hl (by decide) rfl (fun ls hl => ?_)
      refine lv_ldc2 (v := (-100000000)) hx hb hown (hts _ q1106) dX1_lambda_operation_0_86 ?_
      refine lv_ldc2 (v := 100000000) hx hb hown (hts _ q1107) dX1_lambda_operation_0_89 ?_
      refine lv_lload hx hb dX1_lambda_operation_0_92 (lv_at hl 0 rfl) ?_
      refine va_mmin_long hx hb (hml.trans hl.1.symm) hown (hts _ q1108) (hts _ q1109) (hts _ q87) (hts _ q1110) (Nat.le_of_ble_eq_true rfl) (Nat.le_trans (Nat.le_of_ble_eq_true rfl : _ ≤ 26) (Nat.le_add_right 26 lo)) (by first | exact Nat.le_of_ble_eq_true rfl | omega | (dsimp only [Rm]; omega)) (by first | exact Nat.le_of_ble_eq_true rfl | omega | (dsimp only [Rm]; omega)) dX1_lambda_operation_0_94 ?_
      refine w_topl (y := mnL 100000000 ((fx a b c0) - (fy a b c0))) rfl ?_
      refine va_mmax_long hx hb (hml.trans hl.1.symm) hown (hts _ q1111) (hts _ q1112) (hts _ q87) (hts _ q1113) (Nat.le_of_ble_eq_true rfl) (Nat.le_trans (Nat.le_of_ble_eq_true rfl : _ ≤ 26) (Nat.le_add_right 26 lo)) (by first | exact Nat.le_of_ble_eq_true rfl | omega | (dsimp only [Rm]; omega)) (by first | exact Nat.le_of_ble_eq_true rfl | omega | (dsimp only [Rm]; omega)) dX1_lambda_operation_0_97 ?_
      refine w_topl (y := mxL (-100000000) (mnL 100000000 ((fx a b c0) - (fy a b c0)))) rfl ?_
      exact g_lret C (by simp_all [oprS, lg_cmp_eq]) hS (by first | exact Nat.le_of_ble_eq_true rfl | omega | (dsimp only [Rm]; omega)) (by first | exact Nat.le_of_ble_eq_true rfl | omega | (dsimp only [Rm]; omega)) dX1_lambda_operation_0_100
  · refine lv_lload hx hb dX1_lambda_operation_0_32 (lv_at hl 1 rfl) ?_
    refine lv_lload hx hb dX1_lambda_operation_0_34 (lv_at hl 0 rfl) ?_
    refine lv_ladd hx hb dX1_lambda_operation_0_36 ?_
    refine lv_goto (tgt := 84) hx hb dX1_lambda_operation_0_37 (by decide) ?_
    refine lv_lstore (lv' := [(13, .long ((fx a b c0) + (fy a b c0))), (11, .long (fy a b c0)), (9, .long (fx a b c0)), (0, .ref zl), (1, .ref zr), (2, .int o), (3, .long a), (5, .long b), (7, .long c0)]) hx hb dX1_lambda_operation_0_84 hl (by decide) rfl (fun ls hl => ?_)
    refine lv_ldc2 (v := (-100000000)) hx hb hown (hts _ q1106) dX1_lambda_operation_0_86 ?_
    refine lv_ldc2 (v := 100000000) hx hb hown (hts _ q1107) dX1_lambda_operation_0_89 ?_
    refine lv_lload hx hb dX1_lambda_operation_0_92 (lv_at hl 0 rfl) ?_
    refine va_mmin_long hx hb (hml.trans hl.1.symm) hown (hts _ q1108) (hts _ q1109) (hts _ q87) (hts _ q1110) (Nat.le_of_ble_eq_true rfl) (Nat.le_trans (Nat.le_of_ble_eq_true rfl : _ ≤ 26) (Nat.le_add_right 26 lo)) (by first | exact Nat.le_of_ble_eq_true rfl | omega | (dsimp only [Rm]; omega)) (by first | exact Nat.le_of_ble_eq_true rfl | omega | (dsimp only [Rm]; omega)) dX1_lambda_operation_0_94 ?_
    refine w_topl (y := mnL 100000000 ((fx a b c0) + (fy a b c0))) rfl ?_
    refine va_mmax_long hx hb (hml.trans hl.1.symm) hown (hts _ q1111) (hts _ q1112) (hts _ q87) (hts _ q1113) (Nat.le_of_ble_eq_true rfl) (Nat.le_trans (Nat.le_of_ble_eq_true rfl : _ ≤ 26) (Nat.le_add_right 26 lo)) (by first | exact Nat.le_of_ble_eq_true rfl | omega | (dsimp only [Rm]; omega)) (by first | exact Nat.le_of_ble_eq_true rfl | omega | (dsimp only [Rm]; omega)) dX1_lambda_operation_0_97 ?_
    refine w_topl (y := mxL (-100000000) (mnL 100000000 ((fx a b c0) + (fy a b c0)))) rfl ?_
    exact g_lret C (by simp_all [oprS, lg_cmp_eq]) hS (by first | exact Nat.le_of_ble_eq_true rfl | omega | (dsimp only [Rm]; omega)) (by first | exact Nat.le_of_ble_eq_true rfl | omega | (dsimp only [Rm]; omega)) dX1_lambda_operation_0_100
