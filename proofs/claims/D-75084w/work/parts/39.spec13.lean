/-! SPEC, part 13: subsets of a list of places, as masks; the next subset -/
set_option maxRecDepth 100000
def qd : Nat → List Nat → Nat → Nat
  | _, [], _ => 0
  | b, p :: R, s => 2 ^ (p - b) * (2 * qd (p + 1) R (s / 2) + s % 2)
def mkR : Nat → List Nat → Nat
  | _, [] => 0
  | b, p :: R => 2 ^ (p - b) * (2 * mkR (p + 1) R + 1)
/-- ascending, from b on, below c -/
def asc : Nat → List Nat → Nat → Prop
  | b, [], c => b ≤ c
  | b, p :: R, c => b ≤ p ∧ asc (p + 1) R c
def nkR (c : Nat) : Nat → List Nat → Nat
  | b, [] => 2 ^ (c - b) - 1
  | b, p :: R => 2 ^ (p - b) * (2 * nkR c (p + 1) R) + (2 ^ (p - b) - 1)
theorem land_L {g a r b t : Nat} (hr : r < 2 ^ g) (ht : t < 2 ^ g) : (2 ^ g * a + r) &&& (2 ^ g * b + t) = 2 ^ g * (a &&& b) + (r &&& t) := by
  have hrt : r &&& t < 2 ^ g := Nat.lt_of_le_of_lt Nat.and_le_left hr
  apply Nat.eq_of_testBit_eq
  intro i
  rw [Nat.testBit_and, Nat.testBit_two_pow_mul_add _ hr, Nat.testBit_two_pow_mul_add _ ht, Nat.testBit_two_pow_mul_add _ hrt]
  split
  · rw [Nat.testBit_and]
  · rw [Nat.testBit_and]
theorem asc_le : ∀ {b : Nat} {R : List Nat} {c : Nat}, asc b R c → b ≤ c
  | b, [], c, h => h
  | b, p :: R, c, h => by have := asc_le h.2; have := h.1; omega
theorem pw2 {b p c : Nat} (h1 : b ≤ p) (h2 : p + 1 ≤ c) : 2 ^ (c - b) = 2 ^ (p - b) * (2 * 2 ^ (c - (p + 1))) := by
  rw [← Nat.pow_succ', ← Nat.pow_add]
  congr 1
  omega
theorem mk_nk : ∀ {b : Nat} {R : List Nat} {c : Nat}, asc b R c → mkR b R + nkR c b R + 1 = 2 ^ (c - b)
  | b, [], c, h => by
    have : 0 < 2 ^ (c - b) := Nat.two_pow_pos _
    simp only [mkR, nkR]; omega
  | b, p :: R, c, h => by
    have ih := mk_nk h.2
    have hp := pw2 h.1 (asc_le h.2)
    have : 0 < 2 ^ (p - b) := Nat.two_pow_pos _
    rw [hp, ← ih]
    simp only [mkR, nkR]
    generalize 2 ^ (p - b) = a at *
    simp only [Nat.mul_add, Nat.mul_one]
    omega
theorem qd_le : ∀ {b : Nat} {R : List Nat} {s : Nat}, qd b R s ≤ mkR b R
  | b, [], s => Nat.le_refl _
  | b, p :: R, s => by
    have ih := qd_le (b := p + 1) (R := R) (s := s / 2)
    exact Nat.mul_le_mul_left _ (by have := Nat.mod_lt s (show 0 < 2 by decide); omega)
theorem sub2 : ∀ {b : Nat} {R : List Nat} {c s : Nat}, asc b R c → (qd b R s + nkR c b R) &&& mkR b R = qd b R s
  | b, [], c, s, h => by simp [qd, mkR]
  | b, p :: R, c, s, h => by
    have ih := sub2 (s := s / 2) h.2
    have ha : 0 < 2 ^ (p - b) := Nat.two_pow_pos _
    have he : s % 2 < 2 := Nat.mod_lt _ (by decide)
    have e1 : qd b (p :: R) s + nkR c b (p :: R) = 2 ^ (p - b) * (2 ^ 1 * (qd (p + 1) R (s / 2) + nkR c (p + 1) R) + s % 2) + (2 ^ (p - b) - 1) := by
      simp only [qd, nkR, Nat.mul_add, Nat.pow_one]
      omega
    have e2 : mkR b (p :: R) = 2 ^ (p - b) * (2 ^ 1 * mkR (p + 1) R + 1) + 0 := by simp only [mkR, Nat.pow_one, Nat.add_zero]
    rw [e1, e2, land_L (by omega) ha, land_L (by omega) (by decide), ih]
    simp only [qd, Nat.and_zero, Nat.add_zero, Nat.pow_one]
    congr 2
    rcases (show s % 2 = 0 ∨ s % 2 = 1 by omega) with h | h <;> rw [h] <;> decide
theorem nxt : ∀ {b : Nat} {R : List Nat} {c s : Nat}, asc b R c → s < 2 ^ R.length → ((qd b R s + nkR c b R + 1) % 2 ^ (c - b)) &&& mkR b R = qd b R ((s + 1) % 2 ^ R.length)
  | b, [], c, s, h, hs => by simp [qd, mkR]
  | b, p :: R, c, s, h, hs => by
    have ha : 0 < 2 ^ (p - b) := Nat.two_pow_pos _
    have hK := pw2 h.1 (asc_le h.2)
    have hmk := mk_nk h.2
    have hq := qd_le (b := p + 1) (R := R) (s := s / 2)
    have e2 : mkR b (p :: R) = 2 ^ (p - b) * (2 ^ 1 * mkR (p + 1) R + 1) + 0 := by simp only [mkR, Nat.pow_one, Nat.add_zero]
    have hpl : 2 ^ (p :: R).length = 2 * 2 ^ R.length := by rw [List.length_cons, Nat.pow_succ']
    rw [hpl] at hs ⊢
    have e1 : qd b (p :: R) s + nkR c b (p :: R) + 1 = 2 ^ (p - b) * (2 * (qd (p + 1) R (s / 2) + nkR c (p + 1) R) + s % 2 + 1) := by
      simp only [qd, nkR, Nat.mul_add, Nat.mul_one]
      omega
    rw [e1, hK, Nat.mul_mod_mul_left]
    rcases (show s % 2 = 0 ∨ s % 2 = 1 by omega) with he | he
    · have hlt : (s + 1) % (2 * 2 ^ R.length) = s + 1 := Nat.mod_eq_of_lt (by omega)
      have hm : (2 * (qd (p + 1) R (s / 2) + nkR c (p + 1) R) + s % 2 + 1) % (2 * 2 ^ (c - (p + 1))) = 2 ^ 1 * (qd (p + 1) R (s / 2) + nkR c (p + 1) R) + 1 := by
        rw [he, Nat.mod_eq_of_lt (by omega), Nat.pow_one]
      rw [hm, hlt, e2]
      have := land_L (g := p - b) (a := 2 ^ 1 * (qd (p + 1) R (s / 2) + nkR c (p + 1) R) + 1) (r := 0) (b := 2 ^ 1 * mkR (p + 1) R + 1) (t := 0) ha ha
      rw [Nat.add_zero] at this
      rw [this, land_L (by decide) (by decide), sub2 h.2]
      simp only [qd, Nat.pow_one, Nat.and_zero, Nat.add_zero]
      rw [show (s + 1) / 2 = s / 2 by omega, show (s + 1) % 2 = 1 by omega]
      rfl
    · have ih := nxt (s := s / 2) h.2 (by omega)
      have hm : (2 * (qd (p + 1) R (s / 2) + nkR c (p + 1) R) + s % 2 + 1) % (2 * 2 ^ (c - (p + 1))) = 2 ^ 1 * ((qd (p + 1) R (s / 2) + nkR c (p + 1) R + 1) % 2 ^ (c - (p + 1))) + 0 := by
        rw [he, show 2 * (qd (p + 1) R (s / 2) + nkR c (p + 1) R) + 1 + 1 = 2 * (qd (p + 1) R (s / 2) + nkR c (p + 1) R + 1) by omega, Nat.mul_mod_mul_left, Nat.pow_one]; rfl
      rw [hm, e2]
      have := land_L (g := p - b) (a := 2 ^ 1 * ((qd (p + 1) R (s / 2) + nkR c (p + 1) R + 1) % 2 ^ (c - (p + 1))) + 0) (r := 0) (b := 2 ^ 1 * mkR (p + 1) R + 1) (t := 0) ha ha
      rw [Nat.add_zero] at this
      rw [this, land_L (by decide) (by decide), ih]
      have h1 : (s + 1) % (2 * 2 ^ R.length) % 2 = 0 := by
        rw [Nat.mod_mul_right_mod]; omega
      have h2 : (s + 1) % (2 * 2 ^ R.length) / 2 = (s / 2 + 1) % 2 ^ R.length := by
        rw [show s + 1 = 2 * (s / 2 + 1) by omega, Nat.mul_mod_mul_left, Nat.mul_div_cancel_left _ (by decide)]
      simp only [qd, Nat.pow_one, Nat.and_zero, Nat.zero_and, Nat.add_zero, h1, h2]
theorem nI_mod (n : Nat) : nI (n % 2 ^ 32) = nI n := by
  unfold nI
  apply Int32.toBitVec_inj.mp
  show BitVec.ofNat 32 (n % 2 ^ 32) = BitVec.ofNat 32 n
  apply BitVec.eq_of_toNat_eq
  simp
theorem nI_and {a b : Nat} (ha : a < 2 ^ 32) (hb : b < 2 ^ 32) : nI a &&& nI b = nI (a &&& b) := by
  apply Int32.toBitVec_inj.mp
  apply BitVec.eq_of_toNat_eq
  rw [Int32.toBitVec_and, BitVec.toNat_and, pk_tn ha, pk_tn hb, pk_tn (Nat.lt_of_le_of_lt Nat.and_le_left ha)]
/-- the reference's step from a subset to the next -/
theorem nxt_I {R : List Nat} {s : Nat} (h : asc 0 R 32) (hs : s < 2 ^ R.length) : (nI (qd 0 R s) - nI (mkR 0 R)) &&& nI (mkR 0 R) = nI (qd 0 R ((s + 1) % 2 ^ R.length)) := by
  have hm := mk_nk h
  have hq := qd_le (b := 0) (R := R) (s := s)
  have e : nI (qd 0 R s) - nI (mkR 0 R) = nI ((qd 0 R s + nkR 32 0 R + 1) % 2 ^ 32) := by
    rw [nI_mod]
    have : nI (qd 0 R s + nkR 32 0 R + 1) = nI (qd 0 R s) - nI (mkR 0 R) := by
      have h2 : nI (qd 0 R s + nkR 32 0 R + 1) + nI (mkR 0 R) = nI (qd 0 R s) := by
        rw [nI_add, show qd 0 R s + nkR 32 0 R + 1 + mkR 0 R = qd 0 R s + 2 ^ 32 by omega, ← nI_mod, Nat.add_mod_right, nI_mod]
      rw [← h2]
      grind
    exact this.symm
  rw [e, nI_and (Nat.mod_lt _ (by decide)) (by omega), ← nxt h hs]
