/-! SPEC, part 3: what the changing calls do to the array -/
set_option maxRecDepth 100000
noncomputable def ifp {α : Type} (P : Prop) (a b : α) : α := @ite _ P (Classical.propDecidable P) a b
theorem ifp_t {α : Type} {P : Prop} {a b : α} (h : P) : ifp P a b = a := by simp [ifp, h]
theorem ifp_f {α : Type} {P : Prop} {a b : α} (h : ¬ P) : ifp P a b = b := by simp [ifp, h]
noncomputable def thr3 (P Q R : Prop) : Int32 := ifp P 1 (ifp Q 2 (pick R 3))
theorem thr3_a {P Q R : Prop} (h : P) : thr3 P Q R = 1 := ifp_t h
theorem thr3_b {P Q R : Prop} (h : ¬ P) (h2 : Q) : thr3 P Q R = 2 := (ifp_f h).trans (ifp_t h2)
theorem thr3_c {P Q R : Prop} (h : ¬ P) (h2 : ¬ Q) (h3 : R) : thr3 P Q R = 3 := (ifp_f h).trans ((ifp_f h2).trans (pick_t h3))
theorem thr3_d {P Q R : Prop} (h : ¬ P) (h2 : ¬ Q) (h3 : ¬ R) : thr3 P Q R = 0 := (ifp_f h).trans ((ifp_f h2).trans (pick_f h3))
theorem dN_un {d : Nat → Int32} {i j : Nat} {v : Int32} (h : j ≠ i) : dN (upd d i v) j = dN d j := by unfold dN; rw [pk_un h]
theorem dN_us {d : Nat → Int32} {i : Nat} {v : Int32} : dN (upd d i v) i = v.toNatClampNeg := by unfold dN; rw [pk_us]
theorem isN_un {d : Nat → Int32} {i j b : Nat} {v : Int32} (h : j ≠ i) (hd : isN d j b) : isN (upd d i v) j b := by unfold isN; rw [dN_un h, pk_un h]; exact hd
theorem isN_us {d : Nat → Int32} {i j b : Nat} (hd : isN d j b) : isN (upd d i (d j)) i b := by unfold isN; rw [dN_us, pk_us]; exact hd
theorem isN_nI {d : Nat → Int32} {i n b : Nat} (h : n ≤ b) (hb : b < 2 ^ 31) : isN (upd d i (nI n)) i b := by unfold isN; rw [dN_us, pk_us, nI_clamp (by omega)]; exact ⟨rfl, h⟩
theorem dN_nI {d : Nat → Int32} {i n : Nat} (h : n < 2 ^ 31) : dN (upd d i (nI n)) i = n := by rw [dN_us, nI_clamp h]
/-- a change of a presentation's state keeps the desk -/
theorem okD_st {d : Nat → Int32} (hd : okD d) {q : Nat} (v : Int32) (hq : q < dN d 1) : okD (upd d (154 + 6 * q + 4) v) := by
  obtain ⟨⟨a0, a1, a2, a3, a5⟩, b, c, e⟩ := hd
  have n0 := a0.2; have n1 := a1.2; have n2 := a2.2
  refine ⟨⟨isN_un (by omega) a0, isN_un (by omega) a1, isN_un (by omega) a2, isN_un (by omega) a3, isN_un (by omega) a5⟩, ?_, ?_, ?_⟩
  · intro j hj
    rw [dN_un (by omega)] at hj
    exact isN_un (by omega) (b j hj)
  · intro j hj
    rw [dN_un (by omega)] at hj
    exact ⟨isN_un (by omega) (c j hj).1, isN_un (by omega) (c j hj).2.1, isN_un (by omega) (c j hj).2.2⟩
  · intro j hj
    rw [dN_un (by omega)] at hj
    obtain ⟨e1, e2, e3, e4, e5⟩ := e j hj
    refine ⟨?_, ?_, isN_un (by omega) e3, isN_un (by omega) e4, isN_un (by omega) e5⟩
    · rw [pk_un (by omega), dN_un (by omega)]; exact e1
    · rw [dN_un (by omega), dN_un (by omega)]; exact e2
theorem okD_si {d : Nat → Int32} (hd : okD d) {q : Nat} (hq : q < dN d 1) : okD (upd d (154 + 6 * q + 5) (d 3)) := by
  obtain ⟨⟨a0, a1, a2, a3, a5⟩, b, c, e⟩ := hd
  have n0 := a0.2; have n1 := a1.2; have n2 := a2.2
  refine ⟨⟨isN_un (by omega) a0, isN_un (by omega) a1, isN_un (by omega) a2, isN_un (by omega) a3, isN_un (by omega) a5⟩, ?_, ?_, ?_⟩
  · intro j hj
    rw [dN_un (by omega)] at hj
    exact isN_un (by omega) (b j hj)
  · intro j hj
    rw [dN_un (by omega)] at hj
    exact ⟨isN_un (by omega) (c j hj).1, isN_un (by omega) (c j hj).2.1, isN_un (by omega) (c j hj).2.2⟩
  · intro j hj
    rw [dN_un (by omega)] at hj
    obtain ⟨e1, e2, e3, e4, e5⟩ := e j hj
    refine ⟨?_, ?_, isN_un (by omega) e3, isN_un (by omega) e4, ?_⟩
    · rw [pk_un (by omega), dN_un (by omega)]; exact e1
    · rw [dN_un (by omega), dN_un (by omega)]; exact e2
    · by_cases h : j = q
      · subst h; exact isN_us a3
      · exact isN_un (by omega) e5
def honD (d : Nat → Int32) (q : Nat) : Nat → Int32 := upd (upd d (154 + 6 * q + 4) 2) (154 + 6 * q + 5) (d 3)
theorem okD_hon {d : Nat → Int32} (hd : okD d) {q : Nat} (hq : q < dN d 1) : okD (honD d q) := by
  have h := okD_si (okD_st hd 2 hq) (q := q) (by rw [dN_un (by omega)]; exact hq)
  rw [pk_un (by omega)] at h
  exact h
def honP (d : Nat → Int32) (q : Nat) : Prop := pf d q 3 = 0 ∨ (pf d q 3 &&& 4 = 0 ∧ nI (dead d q) < d 3)
noncomputable def exaD (d : Nat → Int32) (q : Nat) : Nat → Int32 := ifp (honP d q) (honD d q) (upd d (154 + 6 * q + 4) 1)
def refD (d : Nat → Int32) (q : Nat) : Nat → Int32 := upd d (154 + 6 * q + 4) 3
def preD (d : Nat → Int32) (c : Nat) (am fl : Int32) : Nat → Int32 :=
  upd (upd (upd (upd (upd (upd (upd d 1 (nI (dN d 1 + 1))) (154 + 6 * dN d 1) (nI c)) (154 + 6 * dN d 1 + 1) (d 3)) (154 + 6 * dN d 1 + 2) am) (154 + 6 * dN d 1 + 3) fl) (154 + 6 * dN d 1 + 4) 0) (154 + 6 * dN d 1 + 5) 0
