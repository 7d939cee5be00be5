/-! the component: an operation of the fee (printed by gen/m46.py) -/
set_option maxRecDepth 100000
/-- a fee's tree, all of whose made cells lie at lo or above -/
def feWL (g : Nat → Nat) (lo : Nat) (F : FeF) (z : Nat) (H : Heap) : Prop :=
  (z = g 4 ∧ F = fun a _ _ => a / 1000) ∨ (z = g 7 ∧ F = fun a _ _ => a) ∨ (z = g 9 ∧ F = fun _ b _ => b) ∨ (z = g 11 ∧ F = fun _ _ d => d) ∨ (lo ≤ z ∧ ∃ (cell : Cell) (v : Int64), H[z]? = some cell ∧ cell.cls = g 5 ∧ cell.vm = .none ∧ cell.slots = #[.long v] ∧ F = fun _ _ _ => v)
def feW (g : Nat → Nat) (lo : Nat) : Nat → FeF → Nat → Heap → Prop
  | 0, F, z, H => feWL g lo F z H
  | n + 1, F, z, H => feWL g lo F z H ∨ (lo ≤ z ∧ feO g F z H (feW g lo n))
theorem feWL_T {g : Nat → Nat} {lo : Nat} {F : FeF} {z : Nat} {H : Heap} (h : feWL g lo F z H) : feL g F z H := by
  rcases h with h | h | h | h | ⟨-, h⟩
  · exact Or.inl h
  · exact Or.inr (Or.inl h)
  · exact Or.inr (Or.inr (Or.inl h))
  · exact Or.inr (Or.inr (Or.inr (Or.inl h)))
  · exact Or.inr (Or.inr (Or.inr (Or.inr h)))
theorem feW_T {g : Nat → Nat} {lo : Nat} {H : Heap} : ∀ {n : Nat} {F : FeF} {z : Nat}, feW g lo n F z H → feT g n F z H := by
  intro n
  induction n with
  | zero => intro F z h; exact feWL_T h
  | succ n ih =>
    intro F z h
    rcases h with h | ⟨-, cell, zl, zr, o, Fl, Fr, h1, h2, h3, h4, h5, h6, h7⟩
    · exact Or.inl (feWL_T h)
    · exact Or.inr ⟨cell, zl, zr, o, Fl, Fr, h1, h2, h3, h4, ih h5, ih h6, h7⟩
theorem feW_up {g : Nat → Nat} {lo : Nat} {H : Heap} : ∀ {n : Nat} {F : FeF} {z : Nat}, feW g lo n F z H → feW g lo (n + 1) F z H := by
  intro n
  induction n with
  | zero => intro F z h; exact Or.inl h
  | succ n ih =>
    intro F z h
    rcases h with h | ⟨hz, cell, zl, zr, o, Fl, Fr, h1, h2, h3, h4, h5, h6, h7⟩
    · exact Or.inl h
    · exact Or.inr ⟨hz, cell, zl, zr, o, Fl, Fr, h1, h2, h3, h4, ih h5, ih h6, h7⟩
theorem feW_kept {g : Nat → Nat} {lo : Nat} {H H1 : Heap} (hk : ∀ q : Nat, lo ≤ q → q < H.size → H1[q]? = H[q]?) : ∀ {n : Nat} {F : FeF} {z : Nat}, feW g lo n F z H → feW g lo n F z H1 := by
  have lt : ∀ {z : Nat} {cell : Cell}, H[z]? = some cell → z < H.size := fun h => (Array.getElem?_eq_some_iff.mp h).1
  have hL : ∀ {F : FeF} {z : Nat}, feWL g lo F z H → feWL g lo F z H1 := by
    intro F z h
    rcases h with h | h | h | h | ⟨hz, cell, v, h1, h2⟩
    · exact Or.inl h
    · exact Or.inr (Or.inl h)
    · exact Or.inr (Or.inr (Or.inl h))
    · exact Or.inr (Or.inr (Or.inr (Or.inl h)))
    · exact Or.inr (Or.inr (Or.inr (Or.inr ⟨hz, cell, v, by rw [hk z hz (lt h1)]; exact h1, h2⟩)))
  intro n
  induction n with
  | zero => intro F z h; exact hL h
  | succ n ih =>
    intro F z h
    rcases h with h | ⟨hz, cell, zl, zr, o, Fl, Fr, h1, h2, h3, h4, h5, h6, h7⟩
    · exact Or.inl (hL h)
    · exact Or.inr ⟨hz, cell, zl, zr, o, Fl, Fr, by rw [hk z hz (lt h1)]; exact h1, h2, h3, h4, ih h5, ih h6, h7⟩
theorem fit6 {zl zr : Nat} {o : Int32} : ∀ (i : Nat) (v : Value), ([.ref zl, .ref zr, .int o] : List Value)[i]? = some v → ∃ t, (lmL sg6 "DocumentaryCreditDesk").2.1[i]? = some t ∧ fits t v = true := by
  intro i v h
  rw [fld6.2.2.2]
  match i with
  | 0 => cases h; exact ⟨_, rfl, rfl⟩
  | 1 => cases h; exact ⟨_, rfl, rfl⟩
  | 2 => cases h; exact ⟨_, rfl, rfl⟩
  | j + 3 => cases h
theorem fit2 {v0 : Int64} : ∀ (i : Nat) (v : Value), ([.long v0] : List Value)[i]? = some v → ∃ t, (lmL sg2 "DocumentaryCreditDesk$Parser").2.1[i]? = some t ∧ fits t v = true := by
  intro i v h
  rw [fld2.2]
  match i with
  | 0 => cases h; exact ⟨_, rfl, rfl⟩
  | j + 1 => cases h
set_option maxHeartbeats 4000000 in
theorem c_operation (l : Launch) (D : va_G) (k : Nat → ClassId) (g : Nat → Nat) (o : Int32) (zl zr lo n : Nat) (fx fy : FeF) : jM l D k yX1_operation cX1_operation 3 (some (.object "DocumentaryCreditDesk$Fee")) 0 3090 1 3 [.int o, .ref zl, .ref zr] g [] (fun HH => feW g lo n fx zl HH ∧ feW g lo n fy zr HH ∧ lo ≤ HH.size) (fun xx : Nat => some (.ref xx)) (fun (xx : Nat) HH => feW g lo (n + 1) (fun a b d => oprS o (fx a b d) (fy a b d)) xx HH) (fun xx : Nat => []) := by
  refine jM_of (by decide) (Nat.le_of_ble_eq_true rfl) ?_
  intro p e s m below meth c ls A hAe C hnm hmn hK hP hD hA hAN ⟨hFx, hFy, hlo⟩ hX hS hl
  have hN : NW s := hX.nw
  obtain ⟨hx, hb, hr, hml, hown, hts, hlk⟩ := id C
  have hl : lv_has ls 3 [(0, .int o), (1, .ref zl), (2, .ref zr)] := hl
  refine lv_aload_n hx hb dX1_operation_0 rfl (lv_at hl 1 rfl) ?_
  refine lv_aload_n hx hb dX1_operation_1 rfl (lv_at hl 2 rfl) ?_
  refine lv_iload_n hx hb dX1_operation_2 rfl (lv_at hl 0 rfl) ?_
  refine w_lamM (caller := "DocumentaryCreditDesk") (vals := [.ref zl, .ref zr, .int o]) (rest := []) hx hb (hml.trans hl.1.symm) hts hmn hX.ls.2.2.2.2.2.2.1 rfl ok6 rfl (by rw [fld6.2.2.2]; rfl) (by rw [fld6.2.2.2]; rfl) fit6 hS (Nat.le_of_ble_eq_true rfl) (by first | exact Nat.le_of_ble_eq_true rfl | omega | (dsimp only [Rm]; omega)) (by first | exact Nat.le_of_ble_eq_true rfl | omega | (dsimp only [Rm]; omega)) dX1_operation_3 (fun H9 hS hsz9 hk9 hnew9 => ?_)
  have hP : va_P D clA [] H9 := hP.kept (fun i q hi => hk9 q.1 ((hP i q hi).lt))
  exact j_aret hAe C (Or.inl ⟨_, rfl⟩) s.heap.size rfl (Or.inr ⟨hlo, _, zl, zr, o, fx, fy, hnew9, rfl, rfl, rfl, feW_kept (fun q _ h => hk9 q h) hFx, feW_kept (fun q _ h => hk9 q h) hFy, rfl⟩) hP (va_D_of hD rfl) hS (by first | exact Nat.le_of_ble_eq_true rfl | omega | (dsimp only [Rm]; omega)) (by first | exact Nat.le_of_ble_eq_true rfl | omega | (dsimp only [Rm]; omega)) dX1_operation_8
