/-! SPEC, part 4: reading the text. State of a reading: place, error, its offset, start of the last number -/
set_option maxRecDepth 100000
abbrev PS : Type := Nat × Int32 × Int32 × Nat
def byt (fb : Nat → Int32) (L p : Nat) : Int32 := if p < L then fb p else -1
def sk (fb : Nat → Int32) (L p : Nat) : Nat := if p < L ∧ fb p = 32 then sk fb L (p + 1) else p
termination_by L - p
theorem sk_step {fb : Nat → Int32} {L p : Nat} (h : byt fb L p = 32) : sk fb L p = sk fb L (p + 1) ∧ p < L := by
  have hp : p < L ∧ fb p = 32 := by
    unfold byt at h
    split at h
    · rename_i g; exact ⟨g, h⟩
    · exact absurd h (by decide)
  exact ⟨by rw [sk, if_pos hp], hp.1⟩
theorem sk_stop {fb : Nat → Int32} {L p : Nat} (h : ¬ byt fb L p = 32) : sk fb L p = p := by
  rw [sk, if_neg]
  intro g
  apply h
  unfold byt
  rw [if_pos g.1]
  exact g.2
theorem sk_le {fb : Nat → Int32} {L : Nat} : ∀ (n p : Nat), L - p ≤ n → p ≤ L → p ≤ sk fb L p ∧ sk fb L p ≤ L ∧ ¬ byt fb L (sk fb L p) = 32
  | 0, p, h, hp => by
    have hb : ¬ byt fb L p = 32 := by unfold byt; rw [if_neg (by omega)]; decide
    rw [sk_stop hb]
    exact ⟨Nat.le_refl _, hp, hb⟩
  | n + 1, p, h, hp => by
    by_cases hb : byt fb L p = 32
    · obtain ⟨e, hl⟩ := sk_step hb
      have := sk_le (fb := fb) (L := L) n (p + 1) (by omega) (by omega)
      rw [e]
      exact ⟨by omega, this.2.1, this.2.2⟩
    · rw [sk_stop hb]
      exact ⟨Nat.le_refl _, hp, hb⟩
theorem sk_in {fb : Nat → Int32} {L p : Nat} (hp : p ≤ L) : p ≤ sk fb L p ∧ sk fb L p ≤ L := ⟨(sk_le _ p (Nat.le_refl _) hp).1, (sk_le _ p (Nat.le_refl _) hp).2.1⟩
theorem sk_sk {fb : Nat → Int32} {L p : Nat} (hp : p ≤ L) : sk fb L (sk fb L p) = sk fb L p := sk_stop (sk_le _ p (Nat.le_refl _) hp).2.2
def dig (c : Int32) : Prop := inR c 48 57
/-- the digits from p on, and their number -/
noncomputable def nd (fb : Nat → Int32) (L p : Nat) (v : Int32) : Nat × Int32 := @dite _ (p < L ∧ dig (byt fb L p)) (Classical.propDecidable _) (fun _ => nd fb L (p + 1) (mn 1000000 (10 * v + byt fb L p - 48))) (fun _ => (p, v))
termination_by L - p
theorem dig_lt {fb : Nat → Int32} {L p : Nat} (h : dig (byt fb L p)) : p < L := by
  unfold byt at h
  split at h
  · assumption
  · exact absurd h.1 (by decide)
theorem nd_step {fb : Nat → Int32} {L p : Nat} {v : Int32} (h : dig (byt fb L p)) : nd fb L p v = nd fb L (p + 1) (mn 1000000 (10 * v + byt fb L p - 48)) := by rw [nd, dif_pos ⟨dig_lt h, h⟩]
theorem nd_stop {fb : Nat → Int32} {L p : Nat} {v : Int32} (h : ¬ dig (byt fb L p)) : nd fb L p v = (p, v) := by rw [nd, dif_neg (fun g => h g.2)]
theorem nd_le {fb : Nat → Int32} {L : Nat} : ∀ (n p : Nat) (v : Int32), L - p ≤ n → p ≤ L → p ≤ (nd fb L p v).1 ∧ (nd fb L p v).1 ≤ L
  | 0, p, v, h, hp => by
    rw [nd_stop (fun g => by have := dig_lt g; omega)]
    exact ⟨Nat.le_refl _, hp⟩
  | n + 1, p, v, h, hp => by
    by_cases hb : dig (byt fb L p)
    · rw [nd_step hb]
      have hl := dig_lt hb
      have := nd_le (fb := fb) (L := L) n (p + 1) (mn 1000000 (10 * v + byt fb L p - 48)) (by omega) (by omega)
      exact ⟨by omega, this.2⟩
    · rw [nd_stop hb]
      exact ⟨Nat.le_refl _, hp⟩
/-- a number between lo and hi: its value, the state behind it -/
noncomputable def nmS (fb : Nat → Int32) (L : Nat) (lo hi : Int32) (σ : PS) : Int32 × PS :=
  ifp (σ.2.1 = 0) (ifp (dig (byt fb L (sk fb L σ.1))) (((nd fb L (sk fb L σ.1) 0).2, (nd fb L (sk fb L σ.1) 0).1, ifp (inR (nd fb L (sk fb L σ.1) 0).2 lo hi) 0 (-3), ifp (inR (nd fb L (sk fb L σ.1) 0).2 lo hi) σ.2.2.1 (nI (sk fb L σ.1)), sk fb L σ.1)) (0, sk fb L σ.1, -2, nI (sk fb L σ.1), σ.2.2.2)) (0, σ)
noncomputable def exS (fb : Nat → Int32) (L : Nat) (c : Int32) (σ : PS) : PS :=
  ifp (σ.2.1 = 0) (ifp (byt fb L (sk fb L σ.1) = c) (sk fb L σ.1 + 1, σ.2) (sk fb L σ.1, -2, nI (sk fb L σ.1), σ.2.2.2)) σ
noncomputable def rpS (e o : Int32) (σ : PS) : PS := ifp (σ.2.1 = 0) (σ.1, e, o, σ.2.2.2) σ
/-- a reading's place is in the text as long as no error is found -/
def okS (L : Nat) (σ : PS) : Prop := (σ.2.1 = 0 → σ.1 ≤ L) ∧ σ.1 ≤ 2000 ∧ σ.2.2.2 ≤ 2000
def em1 (dr : Nat → Int32) (v : Int32) : Nat → Int32 := upd (upd dr (298 + dN dr 5) v) 5 (nI (dN dr 5 + 1))
noncomputable def emS (dr : Nat → Int32) (v : Int32) (σ : PS) : Nat → Int32 := ifp (σ.2.1 = 0) (em1 dr v) dr
