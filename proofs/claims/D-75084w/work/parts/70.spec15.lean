/-! SPEC, part 15: what fits best, as the component counts it; the buffer's bytes -/
set_option maxRecDepth 100000
def smN (f : Nat → Nat) : Nat → Nat
  | 0 => 0
  | n + 1 => smN f n + f n
theorem smN_cg {f g : Nat → Nat} : ∀ n, (∀ j, j < n → f j = g j) → smN f n = smN g n
  | 0, _ => rfl
  | n + 1, h => by simp only [smN]; rw [smN_cg n (fun j hj => h j (by omega)), h n (by omega)]
theorem smN_at {f : Nat → Nat} (a : Nat) : ∀ n, smN f (a + n) = smN f a + smN (fun j => f (a + j)) n
  | 0 => by simp [smN]
  | n + 1 => by
    show smN f (a + n) + f (a + n) = smN f a + (smN (fun j => f (a + j)) n + f (a + n))
    rw [smN_at a n, Nat.add_assoc]
theorem smN_mul {f : Nat → Nat} (c : Nat) : ∀ n, smN (fun j => c * f j) n = c * smN f n
  | 0 => rfl
  | n + 1 => by simp only [smN]; rw [smN_mul c n, Nat.mul_add]
theorem asc_get : ∀ {b : Nat} {R : List Nat} {c k : Nat}, asc b R c → k < R.length → b ≤ R.getD k 0 ∧ R.getD k 0 < c
  | b, [], c, k, h, hk => absurd hk (by simp)
  | b, p :: R, c, 0, h, hk => ⟨h.1, asc_le h.2⟩
  | b, p :: R, c, k + 1, h, hk => by
    have := asc_get (k := k) h.2 (by simpa using hk)
    rw [show (p :: R).getD (k + 1) 0 = R.getD k 0 from rfl]
    have := h.1
    omega
/-- places so far, as a mask -/
def qsm (b : Nat) (R : List Nat) (s : Nat) (n : Nat) : Nat := smN (fun k => s / 2 ^ k % 2 * 2 ^ (R.getD k 0 - b)) n
theorem qsm_c {b p : Nat} {R : List Nat} {s c : Nat} (h : asc b (p :: R) c) : ∀ n, n ≤ R.length → qsm b (p :: R) s (1 + n) = s % 2 * 2 ^ (p - b) + 2 ^ (p - b) * 2 * qsm (p + 1) R (s / 2) n := by
  intro n hn
  unfold qsm
  rw [smN_at 1, ← smN_mul]
  congr 1
  · simp [smN]
  · apply smN_cg
    intro j hj
    have hg := asc_get (k := j) h.2 (by omega)
    have hp := h.1
    rw [show (p :: R).getD (1 + j) 0 = R.getD j 0 by rw [Nat.add_comm]; rfl, show s / 2 ^ (1 + j) = s / 2 / 2 ^ j by rw [Nat.div_div_eq_div_mul, Nat.pow_add, Nat.pow_one]]
    rw [show 2 ^ (R.getD j 0 - b) = 2 ^ (p - b) * 2 * 2 ^ (R.getD j 0 - (p + 1)) by rw [← Nat.pow_succ, ← Nat.pow_add]; congr 1; omega]
    rw [Nat.mul_left_comm]
theorem qsm_qd : ∀ {b : Nat} {R : List Nat} {s c : Nat}, asc b R c → qsm b R s R.length = qd b R s
  | b, [], s, c, h => rfl
  | b, p :: R, s, c, h => by
    rw [List.length_cons, Nat.add_comm, qsm_c h _ (Nat.le_refl _), qsm_qd h.2]
    simp only [qd, Nat.mul_add]
    rw [Nat.mul_comm (s % 2), ← Nat.mul_assoc, Nat.add_comm]
theorem qsm_lt : ∀ {b : Nat} {R : List Nat} {s c : Nat} (n : Nat), asc b R c → n < R.length → qsm b R s n < 2 ^ (R.getD n 0 - b)
  | b, [], s, c, n, h, hn => absurd hn (by simp)
  | b, p :: R, s, c, 0, h, hn => Nat.two_pow_pos _
  | b, p :: R, s, c, n + 1, h, hn => by
    have hn' : n < R.length := by simpa using hn
    have ih := qsm_lt (s := s / 2) n h.2 hn'
    have hg := asc_get (k := n) h.2 hn'
    have hp := h.1
    rw [Nat.add_comm n 1, qsm_c h n (by omega), show (p :: R).getD (1 + n) 0 = R.getD n 0 by rw [Nat.add_comm]; rfl]
    rw [show 2 ^ (R.getD n 0 - b) = 2 ^ (p - b) * 2 * 2 ^ (R.getD n 0 - (p + 1)) by rw [← Nat.pow_succ, ← Nat.pow_add]; congr 1; omega]
    have h2 : s % 2 < 2 := Nat.mod_lt _ (by decide)
    have hpp : 0 < 2 ^ (p - b) := Nat.two_pow_pos _
    generalize 2 ^ (p - b) = a at *
    generalize 2 ^ (R.getD n 0 - (p + 1)) = w at *
    generalize qsm (p + 1) R (s / 2) n = v at *
    have h3 : s % 2 * a ≤ a := by
      have : s % 2 * a ≤ 1 * a := Nat.mul_le_mul_right a (by omega)
      omega
    have h4 : a * 2 * v + a * 2 ≤ a * 2 * w := by
      have : a * 2 * (v + 1) ≤ a * 2 * w := Nat.mul_le_mul_left _ ih
      rw [Nat.mul_add, Nat.mul_one] at this
      exact this
    omega
theorem qsm_step {R : List Nat} {s c n : Nat} (h : asc 0 R c) (hc : c ≤ 24) (hn : n < R.length) : nI (qsm 0 R s n) ||| (nI (s / 2 ^ n % 2) <<< (nI (R.getD n 0) &&& 31)) = nI (qsm 0 R s (n + 1)) := by
  have hlt := qsm_lt (s := s) n h hn
  rw [Nat.sub_zero] at hlt
  have hg := asc_get h hn
  have h2 : 2 ^ R.getD n 0 < 2 ^ 24 := Nat.pow_lt_pow_right (by decide) (by omega)
  show _ = nI (qsm 0 R s n + s / 2 ^ n % 2 * 2 ^ (R.getD n 0 - 0))
  rw [Nat.sub_zero]
  rcases (show s / 2 ^ n % 2 = 0 ∨ s / 2 ^ n % 2 = 1 by omega) with e | e
  · rw [e, Nat.zero_mul, Nat.add_zero]
    have z : nI 0 <<< (nI (R.getD n 0) &&& 31) = 0 := Int32.zero_shiftLeft
    rw [z, Int32.or_zero]
  · rw [e, Nat.one_mul]
    have z : nI 1 <<< (nI (R.getD n 0) &&& 31) = nI (2 ^ R.getD n 0) := nI_bit _ (by omega)
    rw [z, nI_or (by omega) (by omega)]
    have := Nat.two_pow_add_eq_or_of_lt hlt 1
    rw [Nat.mul_one] at this
    rw [Nat.add_comm, this, Nat.or_comm]
theorem bfs_1 {A : Nat → Int32} {lim : Int32} {R : List Nat} : bfs A lim R 1 = (0, 0) := by
  show (if smS A R 0 ≤ lim ∧ (0 : Int32) < smS A R 0 then _ else _) = _
  have e : smS A R 0 = 0 := sumI_0 _ (fun j _ => by rw [if_neg (by rw [Nat.zero_div]; decide)])
  rw [e, if_neg (fun h => absurd h.2 (by decide))]
  rfl
theorem bfs_lt {A : Nat → Int32} {lim : Int32} {R : List Nat} : ∀ s, 0 < s → (bfs A lim R s).1 < s
  | 0, h => absurd h (by decide)
  | s + 1, _ => by
    simp only [bfs]
    split
    · exact Nat.lt_succ_self _
    · rcases Nat.eq_zero_or_pos s with h | h
      · rw [h]; exact (show (0 : Nat) < 1 by decide)
      · exact Nat.lt_succ_of_lt (bfs_lt s h)
theorem rl_get {d : Nat → Int32} {x : Int32} {n k : Nat} (hk : k < (rl d x n).length) : (rl d x n).getD k 0 < n := (asc_get (rl_asc n) hk).2
theorem get_app {R : List Nat} {p k : Nat} (h : k < R.length) : (R ++ [p]).getD k 0 = R.getD k 0 := by
  rw [List.getD_eq_getElem?_getD, List.getD_eq_getElem?_getD, List.getElem?_append_left h]
theorem get_last {R : List Nat} {p : Nat} : (R ++ [p]).getD R.length 0 = p := by
  rw [List.getD_eq_getElem?_getD, List.getElem?_append_right (Nat.le_refl _), Nat.sub_self]
  rfl
