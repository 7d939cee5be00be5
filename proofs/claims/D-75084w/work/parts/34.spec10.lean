/-! SPEC, part 10: the whole text; what a draft is -/
set_option maxRecDepth 100000
noncomputable def ldF (fb : Nat → Int32) (L : Nat) : Nat → PS → (Nat → Int32) → Int32 → PS × (Nat → Int32) × Int32
  | 0, σ, dr, se => (σ, dr, se)
  | n + 1, σ, dr, se => ifp (σ.2.1 = 0) (ifp (byt fb L (sk fb L σ.1) = -1) ((sk fb L σ.1, σ.2), dr, se) (ldF fb L n (stS fb L dr se (sk fb L σ.1, σ.2)).1 (stS fb L dr se (sk fb L σ.1, σ.2)).2.1 (stS fb L dr se (sk fb L σ.1, σ.2)).2.2)) (σ, dr, se)
def Dr (dr : Nat → Int32) (se : Int32) : Prop := okD dr ∧ dr 1 = 0 ∧ dr 3 = 0 ∧ (¬ onceP se → dN dr 5 = 0)
abbrev hR (k : Nat → ClassId) (a15 a10 : Nat) (hh : Nat → Nat) (st : Nat → Int64) (hs : Nat → Nat → Int32) : va_W :=
  [(a15, .inl (k 2, 1500, .inr (.inl st))), (a10, .inl (k 4, 8, .inr (.inr (.inr (.inr (fun j => some (hh j))))))), (hh 0, .inl (k 0, 1798, .inl (hs 0))), (hh 1, .inl (k 0, 1798, .inl (hs 1))), (hh 2, .inl (k 0, 1798, .inl (hs 2))), (hh 3, .inl (k 0, 1798, .inl (hs 3))), (hh 4, .inl (k 0, 1798, .inl (hs 4))), (hh 5, .inl (k 0, 1798, .inl (hs 5))), (hh 6, .inl (k 0, 1798, .inl (hs 6))), (hh 7, .inl (k 0, 1798, .inl (hs 7)))]
theorem dN_0 {d : Nat → Int32} {j : Nat} (h : d j = 0) : dN d j = 0 := by unfold dN; rw [h]; rfl
theorem Dr_0 : Dr (fun _ => 0) 0 := by
  have h : ∀ j b, isN (fun _ => 0) j b := fun j b => ⟨rfl, Nat.zero_le _⟩
  refine ⟨⟨⟨h _ _, h _ _, h _ _, h _ _, h _ _⟩, fun _ _ => h _ _, fun _ _ => ⟨h _ _, h _ _, h _ _⟩, fun q hq => absurd hq (by rw [dN_0 rfl]; omega)⟩, rfl, rfl, fun _ => dN_0 rfl⟩
/-- desks without presentations: what must hold -/
theorem okD_np {d : Nat → Int32} (h : (isN d 0 12 ∧ isN d 2 16 ∧ isN d 5 1500) ∧ (∀ j, j < dN d 2 → isN d (6 + j) 999) ∧ (∀ c, c < dN d 0 → isN d (22 + 11 * c + 3) 999 ∧ isN d (22 + 11 * c + 5) 60 ∧ isN d (22 + 11 * c + 6) 180)) (h1 : d 1 = 0) (h3 : d 3 = 0) : okD d := by
  have z1 := dN_0 h1
  have z3 := dN_0 h3
  exact ⟨⟨h.1.1, ⟨by rw [z1]; exact h1, by omega⟩, h.1.2.1, ⟨by rw [z3]; exact h3, by omega⟩, h.1.2.2⟩, h.2.1, h.2.2, fun q hq => absurd hq (by omega)⟩
theorem inR_n {v lo hi : Int32} {a b : Nat} (h : inR v lo hi) (hlo : lo = nI a) (hhi : hi.toInt = b) (ha : a < 2 ^ 31) : v = nI v.toNatClampNeg ∧ v.toNatClampNeg ≤ b := by
  subst hlo
  have h0 : ¬ v < 0 := Int32.not_lt.mpr (Int32.le_trans (nI_pos' ha) h.1)
  obtain ⟨j, hj, rfl⟩ := nI_of2 hhi h0 h.2
  have hb : b < 2 ^ 31 := by have := Int32.toInt_lt hi; omega
  rw [nI_clamp (by omega)]
  exact ⟨rfl, hj⟩
theorem isN_of {d : Nat → Int32} {i b : Nat} {v : Int32} (h : v = nI v.toNatClampNeg ∧ v.toNatClampNeg ≤ b) : isN (upd d i v) i b := by
  unfold isN
  rw [dN_us, pk_us]
  exact h
theorem Dr_hol {fb : Nat → Int32} {L : Nat} (hL : L ≤ 900) : ∀ (f : Nat) (σ : PS) (dr : Nat → Int32) (se : Int32), okS L σ → Dr dr se → (holF fb L f σ dr).1.2.1 = 0 → Dr (holF fb L f σ dr).2 se
  | 0, σ, dr, se, _, hD, _ => hD
  | f + 1, σ, dr, se, h, hD, hz => by
    by_cases hg : (h3s fb L dr σ).2.1 = 0
    · obtain ⟨e1, e16, e2, e3, e4, e5⟩ := h3_good h hg
      obtain ⟨q1, q2⟩ := hD.1.1.2.2.1
      have hlt : dN dr 2 < 16 := by
        rcases Nat.lt_or_ge (dN dr 2) 16 with q | q
        · exact q
        · exact absurd (q1.trans (congrArg nI (show dN dr 2 = 16 by omega))) e16
      have hn : Dr (hdr fb L dr σ) se := by
        have d2 : dN (hdr fb L dr σ) 2 = dN dr 2 + 1 := dN_nI (by omega)
        have ne : ∀ j, j ≠ 2 → j ≠ 6 + dN dr 2 → hdr fb L dr σ j = dr j := fun j a b => by unfold hdr; rw [pk_un a, pk_un b]
        have nn : ∀ j b, j ≠ 2 → j ≠ 6 + dN dr 2 → isN dr j b → isN (hdr fb L dr σ) j b := fun j b a c q => isN_un a (isN_un c q)
        have nd0 : ∀ j, j ≠ 2 → j ≠ 6 + dN dr 2 → dN (hdr fb L dr σ) j = dN dr j := fun j a b => by unfold dN; rw [ne j a b]
        refine ⟨okD_np ⟨⟨nn 0 12 (by omega) (by omega) hD.1.1.1, isN_nI (by omega) (by omega), nn 5 1500 (by omega) (by omega) hD.1.1.2.2.2.2⟩, ?_, ?_⟩ (by rw [ne 1 (by omega) (by omega)]; exact hD.2.1) (by rw [ne 3 (by omega) (by omega)]; exact hD.2.2.1), by rw [ne 1 (by omega) (by omega)]; exact hD.2.1, by rw [ne 3 (by omega) (by omega)]; exact hD.2.2.1, fun q => by rw [nd0 5 (by omega) (by omega)]; exact hD.2.2.2 q⟩
        · intro j hj
          rw [d2] at hj
          by_cases hq : j = dN dr 2
          · subst hq
            exact isN_un (by omega) (isN_of (inR_n (a := 0) (b := 999) e5 rfl rfl (by decide)))
          · exact nn (6 + j) 999 (by omega) (by omega) (hD.1.2.1 j (by omega))
        · intro c hc
          rw [nd0 0 (by omega) (by omega)] at hc
          obtain ⟨y1, y2, y3⟩ := hD.1.2.2.1 c hc
          exact ⟨nn _ _ (by omega) (by omega) y1, nn _ _ (by omega) (by omega) y2, nn _ _ (by omega) (by omega) y3⟩
      by_cases hd : dig (byt fb L (sk fb L (h3s fb L dr σ).1))
      · simp only [holF, ifp_t hg, ifp_t hd] at hz ⊢
        exact Dr_hol hL f _ _ se (okS_sk hL (okS_h3 hL h) hg) hn hz
      · simp only [holF, ifp_t hg, ifp_f hd] at hz ⊢
        exact hn
    · simp only [holF, ifp_f hg] at hz
      exact absurd hz hg
