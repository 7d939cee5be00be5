/-! SPEC, part 2 -/
set_option maxRecDepth 100000
noncomputable def cntB (d : Nat → Int32) (x : Nat) : Nat → Int32
  | 0 => 0
  | j + 1 => cntB d x j + bI (isBus d (x + j))
noncomputable def thr2 (P Q : Prop) : Int32 := @ite _ P (Classical.propDecidable P) 1 (pick Q 2)
theorem thr2_a {P Q : Prop} (h : P) : thr2 P Q = 1 := by simp [thr2, h]
theorem thr2_b {P Q : Prop} (h : ¬ P) (h2 : Q) : thr2 P Q = 2 := by simp [thr2, h, pick, h2]
theorem thr2_c {P Q : Prop} (h : ¬ P) (h2 : ¬ Q) : thr2 P Q = 0 := by simp [thr2, h, pick, h2]
noncomputable def pickL (P : Prop) (x : Int64) : Int64 := @ite _ P (Classical.propDecidable P) x 0
theorem pickL_t {P : Prop} {x : Int64} (h : P) : pickL P x = x := by simp [pickL, h]
theorem pickL_f {P : Prop} {x : Int64} (h : ¬ P) : pickL P x = 0 := by simp [pickL, h]
def sumL (f : Nat → Int64) : Nat → Int64
  | 0 => 0
  | n + 1 => sumL f n + f n
theorem sumL_skip {f : Nat → Int64} {n : Nat} (h : f n = 0) : sumL f n = sumL f (n + 1) := by simp [sumL, h]
noncomputable def dueB (d : Nat → Int32) (x y : Int32) : Int64 := sumL (fun q => pickL (¬ due d q = -1 ∧ x ≤ due d q ∧ due d q ≤ y) (pf d q 2).toInt64) (dN d 1)
noncomputable def ck1 (d : Nat → Int32) : Nat → Int64
  | 0 => (d 3).toInt64
  | j + 1 => 31 * (31 * (31 * ck1 d j + (cf d j 10).toInt64) + (drawn d (nI j)).toInt64) + (avail d j).toInt64
noncomputable def ck2 (d : Nat → Int32) : Nat → Int64
  | 0 => ck1 d (dN d 0)
  | j + 1 => 31 * (31 * (31 * (31 * ck2 d j + (pf d j 0).toInt64) + (pf d j 4).toInt64) + (pf d j 3).toInt64) + (due d j).toInt64
