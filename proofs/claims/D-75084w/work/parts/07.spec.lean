/-! SPEC: what both sides answer, over the reference's own array d (Nat → Int32) -/
set_option maxRecDepth 100000
def lim (v : Int64) : Int64 := if 100000000 < v then 100000000 else if v < -100000000 then -100000000 else v
def opr (op : Int32) (a b : Int64) : Int64 := if op = 5 then (if b = 0 then 0 else a / b) else lim (if op = 2 then a + b else if op = 3 then a - b else a * b)
def dN (d : Nat → Int32) (j : Nat) : Nat := (d j).toNatClampNeg
def isN (d : Nat → Int32) (j b : Nat) : Prop := d j = nI (dN d j) ∧ dN d j ≤ b
def mn (a b : Int32) : Int32 := if a < b then a else b
def inR (v lo hi : Int32) : Prop := lo ≤ v ∧ v ≤ hi
/-- the array holds a desk -/
def okD (d : Nat → Int32) : Prop :=
  (isN d 0 12 ∧ isN d 1 24 ∧ isN d 2 16 ∧ isN d 3 9000 ∧ isN d 5 1500) ∧ (∀ j, j < dN d 2 → isN d (6 + j) 999) ∧
  (∀ c, c < dN d 0 → isN d (22 + 11 * c + 3) 999 ∧ isN d (22 + 11 * c + 5) 60 ∧ isN d (22 + 11 * c + 6) 180) ∧
  (∀ q, q < dN d 1 → d (154 + 6 * q) = nI (dN d (154 + 6 * q)) ∧ dN d (154 + 6 * q) < dN d 0 ∧ isN d (154 + 6 * q + 1) 9000 ∧ isN d (154 + 6 * q + 3) 127 ∧ isN d (154 + 6 * q + 5) 9000)
def isBus (d : Nat → Int32) (n : Nat) : Prop := n % 7 ≤ 4 ∧ ∀ j, j < dN d 2 → d (6 + j) ≠ nI n
theorem nI_le' {a b : Nat} (h : nI a ≤ nI b) (ha : a < 2 ^ 31) (hb : b < 2 ^ 31) : a ≤ b := (nI_leI ha hb).mp h
theorem nI_nle' {a b : Nat} (h : ¬ nI a ≤ nI b) (ha : a < 2 ^ 31) (hb : b < 2 ^ 31) : b < a := Nat.not_le.mp fun q => h ((nI_leI ha hb).mpr q)
theorem nI_lt' {a b : Nat} (h : nI a < nI b) (ha : a < 2 ^ 31) (hb : b < 2 ^ 31) : a < b := (nI_ltI ha hb).mp h
theorem nI_nlt' {a b : Nat} (h : ¬ nI a < nI b) (ha : a < 2 ^ 31) (hb : b < 2 ^ 31) : b ≤ a := Nat.not_lt.mp fun q => h ((nI_ltI ha hb).mpr q)
theorem nI_eq' {a b : Nat} (h : nI a = nI b) (ha : a < 2 ^ 31) (hb : b < 2 ^ 31) : a = b := (nI_eq ha hb).mp h
theorem bI_nz {P : Prop} (h : ¬ bI P = 0) : P := Classical.not_not.mp fun q => h (bI_0.mpr q)
/-- the first business day from n on -/
noncomputable def ext (d : Nat → Int32) (n : Nat) : Nat := Classical.epsilon (fun m => n ≤ m ∧ isBus d m ∧ ∀ j, n ≤ j → j < m → ¬ isBus d j)
theorem bus_far {d : Nat → Int32} (hd : okD d) (n : Nat) (h : n < 2 ^ 30) : ∃ m, n ≤ m ∧ m < n + 1010 ∧ isBus d m := by
  refine ⟨7 * ((if n < 1000 then 1000 else n) / 7 + 1), ?_, ?_, ?_, ?_⟩
  · split <;> omega
  · split <;> omega
  · omega
  · intro j hj e
    obtain ⟨h1, h2⟩ := hd.2.1 j hj
    rw [h1] at e
    have := nI_eq' e (by omega) (by split <;> omega)
    split at this <;> omega
theorem ext_spec {d : Nat → Int32} (hd : okD d) {n : Nat} (h : n < 2 ^ 30) : n ≤ ext d n ∧ isBus d (ext d n) ∧ (∀ j, n ≤ j → j < ext d n → ¬ isBus d j) ∧ ext d n < n + 1010 := by
  obtain ⟨m, h1, h2, h3⟩ := bus_far hd n h
  have hex : ∃ m, n ≤ m ∧ isBus d m ∧ ∀ j, n ≤ j → j < m → ¬ isBus d j := by
    obtain ⟨k, hk, hm⟩ := pk_least (fun m => n ≤ m ∧ isBus d m) ⟨m, h1, h3⟩
    exact ⟨k, hk.1, hk.2, fun j h1 h2 h3 => hm j h2 ⟨h1, h3⟩⟩
  have hs : n ≤ ext d n ∧ isBus d (ext d n) ∧ ∀ j, n ≤ j → j < ext d n → ¬ isBus d j := Classical.epsilon_spec hex
  refine ⟨hs.1, hs.2.1, hs.2.2, ?_⟩
  rcases Nat.lt_or_ge (ext d n) (n + 1010) with q | q
  · exact q
  · exact absurd h3 (hs.2.2 m h1 (by omega))
noncomputable def addB (d : Nat → Int32) (x : Nat) : Nat → Nat
  | 0 => x
  | c + 1 => ext d (addB d x c + 1)
theorem addB_le {d : Nat → Int32} (hd : okD d) {x : Nat} (hx : x < 2 ^ 20) : ∀ c, c ≤ 1000 → addB d x c ≤ x + 1011 * c
  | 0, _ => by simp [addB]
  | c + 1, h => by
    have h1 := addB_le hd hx c (by omega)
    have h2 := (ext_spec hd (n := addB d x c + 1) (by omega)).2.2.2
    simp only [addB]
    omega
def cf (d : Nat → Int32) (c j : Nat) : Int32 := d (22 + 11 * c + j)
def pf (d : Nat → Int32) (q j : Nat) : Int32 := d (154 + 6 * q + j)
def most (d : Nat → Int32) (c : Nat) : Int32 := cf d c 0 + cf d c 0 * cf d c 1 / 100
def least (d : Nat → Int32) (c : Nat) : Int32 := cf d c 0 - cf d c 0 * cf d c 2 / 100
def stands (d : Nat → Int32) (q : Nat) (c : Int32) : Prop := pf d q 0 = c ∧ pf d q 4 ≠ 3
/-- f 0 + .. + f (n - 1) -/
def sumI (f : Nat → Int32) : Nat → Int32
  | 0 => 0
  | n + 1 => sumI f n + f n
noncomputable def pick (P : Prop) (x : Int32) : Int32 := @ite _ P (Classical.propDecidable P) x 0
theorem pick_t {P : Prop} {x : Int32} (h : P) : pick P x = x := by simp [pick, h]
theorem pick_f {P : Prop} {x : Int32} (h : ¬ P) : pick P x = 0 := by simp [pick, h]
noncomputable def drawn (d : Nat → Int32) (c : Int32) : Int32 := sumI (fun q => pick (stands d q c ∧ pf d q 3 &&& 4 = 0) (pf d q 2)) (dN d 1)
noncomputable def transf (d : Nat → Int32) (c : Int32) : Int32 := sumI (fun o => pick (cf d o 10 = c) (cf d o 0)) (dN d 0)
noncomputable def avail (d : Nat → Int32) (c : Nat) : Int32 := most d c - drawn d (nI c) - transf d (nI c)
noncomputable def lastD (d : Nat → Int32) (c x : Nat) : Int32 := mn (nI (ext d (dN d (22 + 11 * c + 3)))) (nI (ext d (x + dN d (22 + 11 * c + 5))))
noncomputable def dead (d : Nat → Int32) (q : Nat) : Nat := addB d (dN d (154 + 6 * q + 1)) 5
noncomputable def due (d : Nat → Int32) (q : Nat) : Int32 := if pf d q 4 = 2 then nI (ext d (dN d (154 + 6 * q + 5) + dN d (22 + 11 * dN d (154 + 6 * q) + 6))) else -1
def bcF : Nat → Nat → Nat
  | 0, _ => 0
  | f + 1, n => n % 2 + bcF f (n / 2)
def var (d : Nat → Int32) (q : Nat) (v : Int32) : Int32 := if v = 0 then pf d q 2 else if v = 1 then d 3 - pf d q 1 else nI (bcF 7 (dN d (154 + 6 * q + 3)))
def others (d : Nat → Int32) (c : Int32) : Prop := ∃ q, q < dN d 1 ∧ stands d q c
noncomputable def faults (d : Nat → Int32) (c x : Nat) (am dc ins : Int32) : Int32 :=
  0 ||| pick (cf d c 4 < nI x) 1 ||| pick (lastD d c x < d 3) 2 ||| pick (avail d c < am) 4 ||| pick (cf d c 7 = 0 ∧ (am < least d c ∨ others d (nI c))) 8 |||
    pick (¬ cf d c 9 &&& (dc ^^^ (-1)) = 0) 16 ||| pick ((cf d c 9 >>> ((7 : Int32) &&& 31)) &&& 1 = 1 ∧ ins < am + am / 10) 32 ||| pick (d 3 < nI x) 64
theorem n22 (c : Nat) : (22 : Int32) + 11 * nI c = nI (22 + 11 * c) := by
  show nI 22 + nI 11 * nI c = _
  rw [pk_mul, nI_add]
theorem n154 (c : Nat) : (154 : Int32) + 6 * nI c = nI (154 + 6 * c) := by
  show nI 154 + nI 6 * nI c = _
  rw [pk_mul, nI_add]
def wrong (x am dc ins : Int32) : Prop := ¬ inR x 0 9999 ∨ ¬ inR am 1 1999999 ∨ ¬ inR dc 0 255 ∨ ins < 0
def hasC (d : Nat → Int32) (c : Int32) : Prop := inR c 0 (d 0 - 1)
def hasP (d : Nat → Int32) (c : Int32) : Prop := inR c 0 (d 1 - 1)
theorem in_cnt {x y : Int32} {n : Nat} (h : inR x 0 (y - 1)) (e : y = nI n) (hn : n ≤ 1000) : ∃ j, j < n ∧ x = nI j := by
  obtain ⟨h1, h2⟩ := h
  subst e
  obtain ⟨j, hj, rfl⟩ := nI_of (Int32.not_lt.mpr h1)
  refine ⟨j, ?_, rfl⟩
  rw [Int32.le_iff_toInt_le, nI_toInt hj, show (nI n - 1).toInt = (n : Int) - 1 from pk_sub_toInt (b := 1) (by omega) (by decide)] at h2
  omega
theorem hasC_n {d : Nat → Int32} {c : Int32} (hd : okD d) (h : hasC d c) : ∃ j, j < dN d 0 ∧ c = nI j := in_cnt h hd.1.1.1 (by have := hd.1.1.2; omega)
theorem hasP_n {d : Nat → Int32} {c : Int32} (hd : okD d) (h : hasP d c) : ∃ j, j < dN d 1 ∧ c = nI j := in_cnt h hd.1.2.1.1 (by have := hd.1.2.1.2; omega)
theorem day_n {x : Int32} (h : inR x 0 9999) : ∃ j, j ≤ 9999 ∧ x = nI j := nI_of2 (n := 9999) rfl (Int32.not_lt.mpr h.1) h.2
def ci (c : Int32) : Nat := c.toNatClampNeg
theorem ci_n {j : Nat} (h : j < 2 ^ 31) : ci (nI j) = j := nI_clamp h
