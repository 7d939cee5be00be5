/-! SPEC, part 16: a fee's codes denote its tree -/
set_option maxRecDepth 100000
def bd (x : Int64) : Prop := -100000000 ≤ x ∧ x ≤ 100000000
def vr (d : Nat → Int32) (q : Nat) (v : Int32) : Int64 := (var d q v).toInt64
theorem bd_i {x : Int64} : bd x ↔ -100000000 ≤ x.toInt ∧ x.toInt ≤ 100000000 := by
  have e1 : (100000000 : Int64).toInt = 100000000 := by decide
  have e2 : (-100000000 : Int64).toInt = -100000000 := by decide
  unfold bd
  rw [Int64.le_iff_toInt_le, Int64.le_iff_toInt_le, e1, e2]
theorem clamp_lim (x : Int64) : mxL (-100000000) (mnL 100000000 x) = lim x := by
  unfold mxL mnL lim
  have e1 : (100000000 : Int64).toInt = 100000000 := by decide
  by_cases h1 : x < 100000000
  · rw [if_pos h1, if_neg (show ¬ (100000000 : Int64) < x by rw [Int64.lt_iff_toInt_lt] at h1 ⊢; omega)]
  · rw [if_neg h1, if_neg (show ¬ (100000000 : Int64) < -100000000 by decide)]
    by_cases h2 : 100000000 < x
    · rw [if_pos h2]
    · rw [if_neg h2]
      have h3 : x = 100000000 := Int64.toInt_inj.mp (by rw [Int64.lt_iff_toInt_lt] at h1 h2; omega)
      rw [h3, if_neg (by decide)]
theorem lim_bd {x : Int64} (h : bd x) : lim x = x := by
  have h := bd_i.mp h
  have e1 : (100000000 : Int64).toInt = 100000000 := by decide
  have e2 : (-100000000 : Int64).toInt = -100000000 := by decide
  unfold lim
  rw [if_neg (by rw [Int64.lt_iff_toInt_lt]; omega), if_neg (by rw [Int64.lt_iff_toInt_lt]; omega)]
theorem bd_lim (x : Int64) : bd (lim x) := by
  have e1 : (100000000 : Int64).toInt = 100000000 := by decide
  have e2 : (-100000000 : Int64).toInt = -100000000 := by decide
  unfold lim
  by_cases h1 : 100000000 < x
  · rw [if_pos h1]; exact ⟨by decide, by decide⟩
  · rw [if_neg h1]
    by_cases h2 : x < -100000000
    · rw [if_pos h2]; exact ⟨by decide, by decide⟩
    · rw [if_neg h2]
      rw [Int64.lt_iff_toInt_lt] at h1 h2
      exact bd_i.mpr ⟨by omega, by omega⟩
theorem bd_div {x y : Int64} (h : bd x) : bd (x / y) := by
  have h := bd_i.mp h
  have h2 := Int.natAbs_tdiv_le_natAbs x.toInt y.toInt
  have h3 : (x / y).toInt = (x.toInt.tdiv y.toInt).bmod (2 ^ 64) := Int64.toInt_div x y
  rw [Int.bmod_eq_of_le (by omega) (by omega)] at h3
  exact bd_i.mpr ⟨by omega, by omega⟩
theorem opr_S {o c : Int32} {x y : Int64} (hc : (o = 43 ∧ c = 2) ∨ (o = 45 ∧ c = 3) ∨ (o = 42 ∧ c = 4) ∨ (o = 47 ∧ c = 5)) (hx : bd x) : opr c x y = oprS o x y ∧ bd (oprS o x y) := by
  unfold opr oprS
  rw [clamp_lim]
  refine ⟨?_, bd_lim _⟩
  rcases hc with ⟨rfl, rfl⟩ | ⟨rfl, rfl⟩ | ⟨rfl, rfl⟩ | ⟨rfl, rfl⟩
  · rw [if_neg (by decide), if_pos rfl, if_pos rfl]
  · rw [if_neg (by decide), if_neg (by decide), if_pos rfl, if_neg (by decide), if_pos rfl]
  · rw [if_neg (by decide), if_neg (by decide), if_neg (by decide), if_neg (by decide), if_neg (by decide), if_pos rfl]
  · rw [if_pos rfl, if_neg (show ¬ (47 : Int32) = 43 by decide), if_neg (show ¬ (47 : Int32) = 45 by decide), if_neg (show ¬ (47 : Int32) = 42 by decide)]
    by_cases h0 : y = 0
    · rw [if_pos h0]; exact (lim_bd ⟨by decide, by decide⟩).symm
    · rw [if_neg h0]; exact (lim_bd (bd_div hx)).symm
/-- the codes cs compute F -/
def dnt (cs : List Int32) (F : FeF) : Prop := (∀ (t : List Int32) (h : Nat), okC t (h + 1) → okC (cs ++ t) h) ∧ ∀ (d : Nat → Int32) (q : Nat), bd (vr d q 0) → bd (vr d q 1) → bd (vr d q 2) → bd (F (vr d q 0) (vr d q 1) (vr d q 2)) ∧ ∀ (t : List Int32) (s : List Int64), evC d q (cs ++ t) s = evC d q t (F (vr d q 0) (vr d q 1) (vr d q 2) :: s)
theorem ev_2 (d : Nat → Int32) (q : Nat) (c v : Int32) (t : List Int32) (s : List Int64) : evC d q (c :: v :: t) s = if c = 0 then evC d q t (v.toInt64 :: s) else if c = 1 then evC d q t ((var d q v).toInt64 :: s) else evC d q (v :: t) (opC c s) := by simp only [evC]
theorem bd_lit {v : Int32} (h : inR v 0 9999) : bd v.toInt64 := by
  obtain ⟨h1, h2⟩ := h
  rw [Int32.le_iff_toInt_le] at h1 h2
  have e1 : (0 : Int32).toInt = 0 := by decide
  have e2 : (9999 : Int32).toInt = 9999 := by decide
  exact bd_i.mpr ⟨by rw [Int32.toInt_toInt64]; omega, by rw [Int32.toInt_toInt64]; omega⟩
theorem dnt_lit {v : Int32} (hv : inR v 0 9999) : dnt [0, v] (fun _ _ _ => v.toInt64) := by
  refine ⟨fun t h ht => Or.inl ⟨Or.inl rfl, ht⟩, fun d q _ _ _ => ⟨bd_lit hv, fun t s => ?_⟩⟩
  show evC d q (0 :: v :: t) s = _
  rw [ev_2, if_pos rfl]
theorem dnt_v {v : Int32} {F : FeF} (hv : ∀ (d : Nat → Int32) (q : Nat), F (vr d q 0) (vr d q 1) (vr d q 2) = vr d q v) (hb : v = 0 ∨ v = 1 ∨ v = 2) : dnt [1, v] F := by
  refine ⟨fun t h ht => Or.inl ⟨Or.inr rfl, ht⟩, fun d q b0 b1 b2 => ⟨?_, fun t s => ?_⟩⟩
  · rw [hv]
    rcases hb with rfl | rfl | rfl
    · exact b0
    · exact b1
    · exact b2
  · show evC d q (1 :: v :: t) s = _
    rw [ev_2, if_neg (by decide), if_pos rfl, hv]
    rfl
theorem dnt_op {o c : Int32} {c1 c2 : List Int32} {F1 F2 : FeF} (hc : (o = 43 ∧ c = 2) ∨ (o = 45 ∧ c = 3) ∨ (o = 42 ∧ c = 4) ∨ (o = 47 ∧ c = 5)) (h1 : dnt c1 F1) (h2 : dnt c2 F2) : dnt (c1 ++ (c2 ++ [c])) (fun a b d => oprS o (F1 a b d) (F2 a b d)) := by
  have hc2 : 2 ≤ c ∧ c ≤ 5 := by rcases hc with ⟨-, rfl⟩ | ⟨-, rfl⟩ | ⟨-, rfl⟩ | ⟨-, rfl⟩ <;> decide
  have hc0 : ¬ c = 0 := by rcases hc with ⟨-, rfl⟩ | ⟨-, rfl⟩ | ⟨-, rfl⟩ | ⟨-, rfl⟩ <;> decide
  have hc1 : ¬ c = 1 := by rcases hc with ⟨-, rfl⟩ | ⟨-, rfl⟩ | ⟨-, rfl⟩ | ⟨-, rfl⟩ <;> decide
  refine ⟨fun t h ht => ?_, fun d q b0 b1 b2 => ?_⟩
  · rw [List.append_assoc, List.append_assoc]
    refine h1.1 _ _ (h2.1 _ _ ?_)
    show okC (c :: t) (h + 1 + 1)
    cases t with
    | nil => exact ⟨hc2, by have : h + 1 = 1 := ht; omega⟩
    | cons v t => exact Or.inr ⟨hc2, by omega, ht⟩
  · obtain ⟨g1, e1⟩ := h1.2 d q b0 b1 b2
    obtain ⟨g2, e2⟩ := h2.2 d q b0 b1 b2
    obtain ⟨e3, e4⟩ := opr_S (y := F2 (vr d q 0) (vr d q 1) (vr d q 2)) hc g1
    refine ⟨e4, fun t s => ?_⟩
    rw [List.append_assoc, List.append_assoc, e1, e2]
    show evC d q (c :: t) _ = _
    rw [evC_op hc0 hc1]
    show evC d q t (opr c _ _ :: s) = _
    rw [e3]
/-- what a reading costs, in signs: those that it took, or all that are left (and two) where it fails -/
noncomputable def cst (L : Nat) (σ τ : PS) : Nat := ifp (τ.2.1 = 0) (τ.1 - σ.1) (L + 2 - σ.1)
theorem cst_g {L : Nat} {σ τ : PS} (h : τ.2.1 = 0) : cst L σ τ = τ.1 - σ.1 := ifp_t h
theorem cst_b {L : Nat} {σ τ : PS} (h : ¬ τ.2.1 = 0) : cst L σ τ = L + 2 - σ.1 := ifp_f h
