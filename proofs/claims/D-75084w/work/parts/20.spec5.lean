/-! SPEC, part 5: states of a reading; holidays, needed documents -/
set_option maxRecDepth 100000
theorem okS_nm {fb : Nat → Int32} {L : Nat} {lo hi : Int32} {σ : PS} (hL : L ≤ 900) (h : okS L σ) : okS L (nmS fb L lo hi σ).2 := by
  obtain ⟨h1, h2, h3⟩ := h
  by_cases hg : σ.2.1 = 0
  · have hp := h1 hg
    have hs := sk_in (fb := fb) hp
    have hn := nd_le (fb := fb) (L := L) _ (sk fb L σ.1) 0 (Nat.le_refl _) hs.2
    simp only [nmS, ifp_t hg]
    by_cases hd : dig (byt fb L (sk fb L σ.1))
    · simp only [ifp_t hd]
      exact ⟨fun _ => hn.2, show (nd fb L (sk fb L σ.1) 0).1 ≤ 2000 by omega, show sk fb L σ.1 ≤ 2000 by omega⟩
    · simp only [ifp_f hd]
      exact ⟨fun _ => hs.2, show sk fb L σ.1 ≤ 2000 by omega, h3⟩
  · simp only [nmS, ifp_f hg]
    exact ⟨h1, h2, h3⟩
theorem nm_fwd {fb : Nat → Int32} {L : Nat} {lo hi : Int32} {σ : PS} (h : okS L σ) (hg : (nmS fb L lo hi σ).2.2.1 = 0) : σ.2.1 = 0 ∧ σ.1 < (nmS fb L lo hi σ).2.1 ∧ inR (nmS fb L lo hi σ).1 lo hi := by
  by_cases h0 : σ.2.1 = 0
  · have hp := h.1 h0
    have hs := sk_in (fb := fb) hp
    simp only [nmS, ifp_t h0] at hg ⊢
    by_cases hd : dig (byt fb L (sk fb L σ.1))
    · simp only [ifp_t hd] at hg ⊢
      have hl := dig_lt hd
      have hn := nd_le (fb := fb) (L := L) _ (sk fb L σ.1 + 1) (mn 1000000 (10 * 0 + byt fb L (sk fb L σ.1) - 48)) (Nat.le_refl _) (by omega)
      rw [← nd_step hd] at hn
      refine ⟨h0, by omega, ?_⟩
      by_cases hr : inR (nd fb L (sk fb L σ.1) 0).2 lo hi
      · exact hr
      · rw [ifp_f hr] at hg; exact absurd hg (by decide)
    · simp only [ifp_f hd] at hg
      exact absurd hg (by decide)
  · simp only [nmS, ifp_f h0] at hg
    exact absurd hg h0
theorem okS_rp {L : Nat} {e o : Int32} {σ : PS} (h : okS L σ) : okS L (rpS e o σ) := by
  obtain ⟨h1, h2, h3⟩ := h
  by_cases hg : σ.2.1 = 0
  · simp only [rpS, ifp_t hg]; exact ⟨fun _ => h1 hg, h2, h3⟩
  · simp only [rpS, ifp_f hg]; exact ⟨h1, h2, h3⟩
theorem okS_if {L : Nat} {P : Prop} {σ τ : PS} (h : okS L σ) (h2 : okS L τ) : okS L (ifp P σ τ) := by
  by_cases hp : P
  · rw [ifp_t hp]; exact h
  · rw [ifp_f hp]; exact h2
theorem okS_ex {fb : Nat → Int32} {L : Nat} {c : Int32} {σ : PS} (hc : ¬ c = -1) (hL : L ≤ 900) (h : okS L σ) : okS L (exS fb L c σ) := by
  obtain ⟨h1, h2, h3⟩ := h
  by_cases hg : σ.2.1 = 0
  · have hp := h1 hg
    have hs := sk_in (fb := fb) hp
    simp only [exS, ifp_t hg]
    by_cases hd : byt fb L (sk fb L σ.1) = c
    · have hl : sk fb L σ.1 < L := by
        rcases Nat.lt_or_ge (sk fb L σ.1) L with q | q
        · exact q
        · exact absurd (by rw [← hd]; unfold byt; rw [if_neg (by omega)]) hc
      simp only [ifp_t hd]
      exact ⟨fun _ => hl, show sk fb L σ.1 + 1 ≤ 2000 by omega, h3⟩
    · simp only [ifp_f hd]
      exact ⟨fun _ => hs.2, show sk fb L σ.1 ≤ 2000 by omega, h3⟩
  · simp only [exS, ifp_f hg]
    exact ⟨h1, h2, h3⟩
theorem rp_bad {e o : Int32} {σ : PS} (h : ¬ σ.2.1 = 0) : rpS e o σ = σ := ifp_f h
theorem rp_err {e o : Int32} {σ : PS} (he : ¬ e = 0) : ¬ (rpS e o σ).2.1 = 0 := by
  by_cases hg : σ.2.1 = 0
  · simp only [rpS, ifp_t hg]; exact he
  · simp only [rpS, ifp_f hg]; exact hg
theorem rp_ps {e o : Int32} {σ : PS} : (rpS e o σ).1 = σ.1 ∧ (rpS e o σ).2.2.2 = σ.2.2.2 := by
  by_cases hg : σ.2.1 = 0
  · simp only [rpS, ifp_t hg, and_self]
  · simp only [rpS, ifp_f hg, and_self]
noncomputable abbrev hv (fb : Nat → Int32) (L : Nat) (σ : PS) : Int32 := (nmS fb L 0 999 σ).1
noncomputable abbrev h1s (fb : Nat → Int32) (L : Nat) (σ : PS) : PS := (nmS fb L 0 999 σ).2
noncomputable abbrev hk (fb : Nat → Int32) (L : Nat) (dr : Nat → Int32) (σ : PS) (j : Nat) : PS := ifp (∃ a, a < j ∧ dr (6 + a) = hv fb L σ) (rpS (-3) (nI (h1s fb L σ).2.2.2) (h1s fb L σ)) (h1s fb L σ)
noncomputable abbrev h3s (fb : Nat → Int32) (L : Nat) (dr : Nat → Int32) (σ : PS) : PS := ifp (dr 2 = 16) (rpS (-4) (nI (hk fb L dr σ (dN dr 2)).2.2.2) (hk fb L dr σ (dN dr 2))) (hk fb L dr σ (dN dr 2))
noncomputable abbrev hdr (fb : Nat → Int32) (L : Nat) (dr : Nat → Int32) (σ : PS) : Nat → Int32 := upd (upd dr (6 + dN dr 2) (hv fb L σ)) 2 (nI (dN dr 2 + 1))
noncomputable def holF (fb : Nat → Int32) (L : Nat) : Nat → PS → (Nat → Int32) → PS × (Nat → Int32)
  | 0, σ, dr => (σ, dr)
  | f + 1, σ, dr => ifp ((h3s fb L dr σ).2.1 = 0) (ifp (dig (byt fb L (sk fb L (h3s fb L dr σ).1))) (holF fb L f (sk fb L (h3s fb L dr σ).1, (h3s fb L dr σ).2) (hdr fb L dr σ)) ((sk fb L (h3s fb L dr σ).1, (h3s fb L dr σ).2), hdr fb L dr σ)) (h3s fb L dr σ, dr)
theorem hk_0 {fb : Nat → Int32} {L : Nat} {dr : Nat → Int32} {σ : PS} : hk fb L dr σ 0 = h1s fb L σ := ifp_f (fun ⟨a, h, _⟩ => absurd h (by omega))
theorem hk_hit {fb : Nat → Int32} {L : Nat} {dr : Nat → Int32} {σ : PS} {j : Nat} (h : dr (6 + j) = hv fb L σ) : rpS (-3) (nI (hk fb L dr σ j).2.2.2) (hk fb L dr σ j) = hk fb L dr σ (j + 1) := by
  have h2 : hk fb L dr σ (j + 1) = rpS (-3) (nI (h1s fb L σ).2.2.2) (h1s fb L σ) := ifp_t ⟨j, by omega, h⟩
  rw [h2]
  by_cases hx : ∃ a, a < j ∧ dr (6 + a) = hv fb L σ
  · simp only [hk, ifp_t hx]
    exact rp_bad (rp_err (by decide))
  · simp only [hk, ifp_f hx]
theorem hk_miss {fb : Nat → Int32} {L : Nat} {dr : Nat → Int32} {σ : PS} {j : Nat} (h : ¬ dr (6 + j) = hv fb L σ) : hk fb L dr σ j = hk fb L dr σ (j + 1) := by
  have e : (∃ a, a < j ∧ dr (6 + a) = hv fb L σ) = (∃ a, a < j + 1 ∧ dr (6 + a) = hv fb L σ) := propext ⟨fun ⟨a, h1, h2⟩ => ⟨a, by omega, h2⟩, fun ⟨a, h1, h2⟩ => ⟨a, by rcases Nat.lt_or_ge a j with q | q; exact q; exact absurd (by rw [show j = a by omega]; exact h2) h, h2⟩⟩
  simp only [hk, e]
theorem hk_bad {fb : Nat → Int32} {L : Nat} {dr : Nat → Int32} {σ : PS} {j : Nat} (h : ¬ (hk fb L dr σ j).2.1 = 0) : hk fb L dr σ j = hk fb L dr σ (j + 1) := by
  by_cases hx : dr (6 + j) = hv fb L σ
  · rw [← hk_hit hx, rp_bad h]
  · exact hk_miss hx
theorem okS_hk {fb : Nat → Int32} {L : Nat} {dr : Nat → Int32} {σ : PS} {j : Nat} (hL : L ≤ 900) (h : okS L σ) : okS L (hk fb L dr σ j) := okS_if (okS_rp (okS_nm hL h)) (okS_nm hL h)
theorem okS_h3 {fb : Nat → Int32} {L : Nat} {dr : Nat → Int32} {σ : PS} (hL : L ≤ 900) (h : okS L σ) : okS L (h3s fb L dr σ) := okS_if (okS_rp (okS_hk hL h)) (okS_hk hL h)
/-- no error in h3s: the number was read, and the place is behind the start -/
theorem h3_good {fb : Nat → Int32} {L : Nat} {dr : Nat → Int32} {σ : PS} (h : okS L σ) (hg : (h3s fb L dr σ).2.1 = 0) : h3s fb L dr σ = h1s fb L σ ∧ ¬ dr 2 = 16 ∧ (∀ a, a < dN dr 2 → ¬ dr (6 + a) = hv fb L σ) ∧ σ.2.1 = 0 ∧ σ.1 < (h1s fb L σ).1 ∧ inR (hv fb L σ) 0 999 := by
  by_cases h16 : dr 2 = 16
  · simp only [h3s, ifp_t h16] at hg
    exact absurd hg (rp_err (by decide))
  · by_cases hx : ∃ a, a < dN dr 2 ∧ dr (6 + a) = hv fb L σ
    · simp only [h3s, ifp_f h16, hk, ifp_t hx] at hg
      exact absurd hg (rp_err (by decide))
    · simp only [h3s, ifp_f h16, hk, ifp_f hx] at hg ⊢
      obtain ⟨g1, g2, g3⟩ := nm_fwd h hg
      exact ⟨trivial, h16, fun a ha e => hx ⟨a, ha, e⟩, g1, g2, g3⟩
/-- needed documents -/
noncomputable abbrev nv (fb : Nat → Int32) (L : Nat) (σ : PS) : Int32 := (nmS fb L 0 7 σ).1
noncomputable abbrev n1s (fb : Nat → Int32) (L : Nat) (σ : PS) : PS := (nmS fb L 0 7 σ).2
noncomputable abbrev n2s (fb : Nat → Int32) (L : Nat) (b : Int32) (σ : PS) : PS := ifp ((n1s fb L σ).2.1 = 0 ∧ (b >>> (nv fb L σ &&& 31)) &&& 1 = 1) (rpS (-3) (nI (n1s fb L σ).2.2.2) (n1s fb L σ)) (n1s fb L σ)
noncomputable def needF (fb : Nat → Int32) (L : Nat) : Nat → PS → Int32 → PS × Int32
  | 0, σ, b => (σ, b)
  | f + 1, σ, b => ifp ((n2s fb L b σ).2.1 = 0) (ifp (dig (byt fb L (sk fb L (n2s fb L b σ).1))) (needF fb L f (sk fb L (n2s fb L b σ).1, (n2s fb L b σ).2) (b ||| ((1 : Int32) <<< (nv fb L σ &&& 31)))) ((sk fb L (n2s fb L b σ).1, (n2s fb L b σ).2), b ||| ((1 : Int32) <<< (nv fb L σ &&& 31)))) (n2s fb L b σ, b)
theorem okS_n2 {fb : Nat → Int32} {L : Nat} {b : Int32} {σ : PS} (hL : L ≤ 900) (h : okS L σ) : okS L (n2s fb L b σ) := okS_if (okS_rp (okS_nm hL h)) (okS_nm hL h)
theorem n2_good {fb : Nat → Int32} {L : Nat} {b : Int32} {σ : PS} (h : okS L σ) (hg : (n2s fb L b σ).2.1 = 0) : n2s fb L b σ = n1s fb L σ ∧ ¬ ((b >>> (nv fb L σ &&& 31)) &&& 1 = 1) ∧ σ.2.1 = 0 ∧ σ.1 < (n1s fb L σ).1 ∧ inR (nv fb L σ) 0 7 := by
  by_cases hx : (n1s fb L σ).2.1 = 0 ∧ (b >>> (nv fb L σ &&& 31)) &&& 1 = 1
  · simp only [n2s, ifp_t hx] at hg
    exact absurd hg (rp_err (by decide))
  · simp only [n2s, ifp_f hx] at hg ⊢
    obtain ⟨g1, g2, g3⟩ := nm_fwd h hg
    exact ⟨trivial, fun e => hx ⟨hg, e⟩, g1, g2, g3⟩
