/-! SPEC, part 14: what fits best -/
set_option maxRecDepth 100000
def rl (d : Nat → Int32) (x : Int32) : Nat → List Nat
  | 0 => []
  | p + 1 => if (rl d x p).length < 12 ∧ pf d p 0 = x ∧ pf d p 4 = 3 then rl d x p ++ [p] else rl d x p
theorem asc_mono : ∀ {b : Nat} {R : List Nat} {c c' : Nat}, asc b R c → c ≤ c' → asc b R c'
  | b, [], c, c', h, hc => Nat.le_trans h hc
  | b, p :: R, c, c', h, hc => ⟨h.1, asc_mono h.2 hc⟩
theorem asc_app : ∀ {b : Nat} {R : List Nat} {p : Nat}, asc b R p → asc b (R ++ [p]) (p + 1)
  | b, [], p, h => ⟨h, Nat.le_refl _⟩
  | b, q :: R, p, h => ⟨h.1, asc_app h.2⟩
theorem rl_asc {d : Nat → Int32} {x : Int32} : ∀ p, asc 0 (rl d x p) p
  | 0 => Nat.le_refl _
  | p + 1 => by
    simp only [rl]
    split
    · exact asc_app (rl_asc p)
    · exact asc_mono (rl_asc p) (by omega)
theorem rl_len {d : Nat → Int32} {x : Int32} : ∀ p, (rl d x p).length ≤ 12
  | 0 => by simp [rl]
  | p + 1 => by
    have := rl_len (d := d) (x := x) p
    simp only [rl]
    split
    · rename_i h; rw [List.length_append]; simp; omega
    · exact this
theorem rl_full {d : Nat → Int32} {x : Int32} {p : Nat} (h : (rl d x p).length = 12) : ∀ n, rl d x (p + n) = rl d x p
  | 0 => rfl
  | n + 1 => by
    have ih := rl_full h n
    show rl d x ((p + n) + 1) = _
    simp only [rl]
    rw [if_neg (by rw [ih, h]; omega), ih]
theorem mk_app : ∀ {b : Nat} {R : List Nat} {p : Nat}, asc b R p → mkR b (R ++ [p]) = mkR b R + 2 ^ (p - b)
  | b, [], p, h => by simp [mkR]
  | b, q :: R, p, h => by
    have ih := mk_app h.2
    have hp := pw2 h.1 (asc_le h.2)
    show 2 ^ (q - b) * (2 * mkR (q + 1) (R ++ [p]) + 1) = 2 ^ (q - b) * (2 * mkR (q + 1) R + 1) + 2 ^ (p - b)
    rw [ih, hp, ← Nat.mul_add]
    congr 1
    omega
theorem mk_lt {R : List Nat} {p : Nat} (h : asc 0 R p) : mkR 0 R < 2 ^ p := by have := mk_nk h; rw [Nat.sub_zero] at this; omega
theorem nI_or {a b : Nat} (ha : a < 2 ^ 32) (hb : b < 2 ^ 32) : nI a ||| nI b = nI (a ||| b) := by
  apply Int32.toBitVec_inj.mp
  apply BitVec.eq_of_toNat_eq
  rw [Int32.toBitVec_or, BitVec.toNat_or, pk_tn ha, pk_tn hb, pk_tn (Nat.or_lt_two_pow ha hb)]
theorem nI_bit : ∀ p, p < 24 → (1 : Int32) <<< (nI p &&& 31) = nI (2 ^ p) := by decide
theorem or_push {R : List Nat} {p : Nat} (h : asc 0 R p) (hp : p < 24) : nI (mkR 0 R) ||| ((1 : Int32) <<< (nI p &&& 31)) = nI (mkR 0 (R ++ [p])) := by
  have hm := mk_lt h
  have h2 : 2 ^ p < 2 ^ 24 := Nat.pow_lt_pow_right (by decide) hp
  rw [nI_bit p hp, nI_or (by omega) (by omega), mk_app h, Nat.sub_zero, Nat.add_comm]
  have := Nat.two_pow_add_eq_or_of_lt hm 1
  rw [Nat.mul_one] at this
  rw [this, Nat.or_comm]
theorem s_l32 : ∀ n, n < 32 → ((nI n &&& 31).toBitVec.smod 32).toNat = n := by decide
theorem bit_I {X p : Nat} (hX : X < 2 ^ 31) (hp : p < 32) : (nI X >>> (nI p &&& 31)) &&& 1 = nI (X / 2 ^ p % 2) := by
  rw [pk_shrN hX _ p (s_l32 p hp)]
  exact pk_andN (k := 1) (Nat.lt_of_le_of_lt (Nat.div_le_self _ _) (by omega)) (by decide)
theorem sumI_0 {f : Nat → Int32} : ∀ n, (∀ j, j < n → f j = 0) → sumI f n = 0
  | 0, _ => rfl
  | n + 1, h => by simp only [sumI]; rw [sumI_0 n (fun j hj => h j (by omega)), h n (by omega)]; rfl
theorem sumI_cg {f g : Nat → Int32} : ∀ n, (∀ j, j < n → f j = g j) → sumI f n = sumI g n
  | 0, _ => rfl
  | n + 1, h => by simp only [sumI]; rw [sumI_cg n (fun j hj => h j (by omega)), h n (by omega)]
theorem sumI_at {f : Nat → Int32} (a : Nat) : ∀ n, sumI f (a + n) = sumI f a + sumI (fun j => f (a + j)) n
  | 0 => by simp [sumI]
  | n + 1 => by
    show sumI f (a + n) + f (a + n) = sumI f a + (sumI (fun j => f (a + j)) n + f (a + n))
    rw [sumI_at a n, Int32.add_assoc]
def smS (A : Nat → Int32) (R : List Nat) (s : Nat) : Int32 := sumI (fun k => if s / 2 ^ k % 2 = 1 then A (R.getD k 0) else 0) R.length
theorem smS_c {A : Nat → Int32} {p : Nat} {R : List Nat} {s : Nat} : smS A (p :: R) s = (if s % 2 = 1 then A p else 0) + smS A R (s / 2) := by
  unfold smS
  rw [List.length_cons, Nat.add_comm, sumI_at 1]
  congr 1
  · simp [sumI]
  · apply sumI_cg
    intro j _
    rw [show s / 2 ^ (1 + j) = s / 2 / 2 ^ j by rw [Nat.div_div_eq_div_mul, Nat.pow_add, Nat.pow_one]]
    rw [show (p :: R).getD (1 + j) 0 = R.getD j 0 by rw [Nat.add_comm]; rfl]
theorem sm_eq {A : Nat → Int32} : ∀ {R : List Nat} {b m s : Nat}, asc b R (b + m) → sumI (fun j => if qd b R s / 2 ^ j % 2 = 1 then A (b + j) else 0) m = smS A R s
  | [], b, m, s, h => by
    rw [sumI_0 m (fun j _ => by simp [qd])]
    rfl
  | p :: R, b, m, s, h => by
    obtain ⟨h1, h2⟩ := h
    have hle := asc_le h2
    obtain ⟨m', rfl⟩ : ∃ m', m = (p - b) + (1 + m') := ⟨m - (p - b) - 1, by omega⟩
    have ih := sm_eq (A := A) (R := R) (b := p + 1) (m := m') (s := s / 2) (by rw [show p + 1 + m' = b + (p - b + (1 + m')) by omega]; exact h2)
    rw [smS_c, sumI_at (p - b), sumI_at 1]
    have e0 : sumI (fun j => if qd b (p :: R) s / 2 ^ j % 2 = 1 then A (b + j) else 0) (p - b) = 0 := sumI_0 _ (fun j hj => by
      rw [if_neg]
      simp only [qd]
      rw [show 2 ^ (p - b) = 2 ^ j * (2 * 2 ^ (p - b - 1 - j)) by rw [← Nat.pow_succ', ← Nat.pow_add]; congr 1; omega, Nat.mul_assoc, Nat.mul_div_cancel_left _ (Nat.two_pow_pos _), Nat.mul_assoc, Nat.mul_mod_right]
      decide)
    have hdv : ∀ j, qd b (p :: R) s / 2 ^ (p - b + j) = (2 * qd (p + 1) R (s / 2) + s % 2) / 2 ^ j := fun j => by
      simp only [qd]
      rw [Nat.pow_add, Nat.mul_div_mul_left _ _ (Nat.two_pow_pos _)]
    have e1 : sumI (fun j => (fun j => if qd b (p :: R) s / 2 ^ j % 2 = 1 then A (b + j) else 0) (p - b + j)) 1 = if s % 2 = 1 then A p else 0 := by
      show (0 : Int32) + (if qd b (p :: R) s / 2 ^ (p - b + 0) % 2 = 1 then A (b + (p - b + 0)) else 0) = _
      rw [hdv, Nat.pow_zero, Nat.div_one, show (2 * qd (p + 1) R (s / 2) + s % 2) % 2 = s % 2 by omega, show b + (p - b + 0) = p by omega, Int32.zero_add]
    have e2 : sumI (fun j => (fun j => (fun j => if qd b (p :: R) s / 2 ^ j % 2 = 1 then A (b + j) else 0) (p - b + j)) (1 + j)) m' = smS A R (s / 2) := by
      rw [← ih]
      apply sumI_cg
      intro j _
      show (if qd b (p :: R) s / 2 ^ (p - b + (1 + j)) % 2 = 1 then A (b + (p - b + (1 + j))) else 0) = _
      rw [hdv, Nat.pow_add, Nat.pow_one, ← Nat.div_div_eq_div_mul, show (2 * qd (p + 1) R (s / 2) + s % 2) / 2 = qd (p + 1) R (s / 2) by omega, show b + (p - b + (1 + j)) = p + 1 + j by omega]
    rw [e0, e1, e2, Int32.zero_add]
theorem qd_z : ∀ {b : Nat} {R : List Nat} {t : Nat}, t < 2 ^ R.length → qd b R t = 0 → t = 0
  | b, [], t, h, _ => by simp at h; exact h
  | b, p :: R, t, h, hz => by
    have ha : 0 < 2 ^ (p - b) := Nat.two_pow_pos _
    simp only [qd] at hz
    have h0 : 2 * qd (p + 1) R (t / 2) + t % 2 = 0 := by
      rcases Nat.mul_eq_zero.mp hz with q | q
      · omega
      · exact q
    rw [List.length_cons, Nat.pow_succ'] at h
    have := qd_z (b := p + 1) (R := R) (t := t / 2) (by omega) (by omega)
    omega
/-- best subset so far, and its sum, behind the subsets 0 .. s - 1 -/
def bfs (A : Nat → Int32) (lim : Int32) (R : List Nat) : Nat → Nat × Int32
  | 0 => (0, 0)
  | s + 1 => if smS A R s ≤ lim ∧ (bfs A lim R s).2 < smS A R s then (s, smS A R s) else bfs A lim R s
noncomputable def fitV (d : Nat → Int32) (x : Int32) : Int32 := nI (qd 0 (rl d x (dN d 1)) (bfs (fun p => pf d p 2) (avail d (ci x)) (rl d x (dN d 1)) (2 ^ (rl d x (dN d 1)).length)).1)
