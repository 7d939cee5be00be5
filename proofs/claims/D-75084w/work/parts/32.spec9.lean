/-! SPEC, part 9: statements. fwd: a reading without error goes forward -/
set_option maxRecDepth 100000
def fwd (L : Nat) (σ τ : PS) : Prop := okS L τ ∧ (τ.2.1 = 0 → σ.2.1 = 0 ∧ σ.1 ≤ τ.1)
theorem fwd_rf {L : Nat} {σ : PS} (h : okS L σ) : fwd L σ σ := ⟨h, fun z => ⟨z, Nat.le_refl _⟩⟩
theorem fwd_tr {L : Nat} {σ τ ρ : PS} (h : fwd L σ τ) (h2 : fwd L τ ρ) : fwd L σ ρ := ⟨h2.1, fun z => ⟨(h.2 (h2.2 z).1).1, Nat.le_trans (h.2 (h2.2 z).1).2 (h2.2 z).2⟩⟩
theorem fwd_nm {fb : Nat → Int32} {L : Nat} {lo hi : Int32} {σ τ : PS} (hL : L ≤ 900) (h : fwd L σ τ) : fwd L σ (nmS fb L lo hi τ).2 :=
  fwd_tr h ⟨okS_nm hL h.1, fun z => ⟨(nm_fwd h.1 z).1, Nat.le_of_lt (nm_fwd h.1 z).2.1⟩⟩
theorem fwd_TS {fb : Nat → Int32} {L i : Nat} {σ τ : PS} (hL : L ≤ 900) (h : fwd L σ τ) : fwd L σ (TS fb L i τ) := by
  refine fwd_tr h ⟨okS_TS hL h.1, fun z => ?_⟩
  have hg : τ.2.1 = 0 := by rw [TS_er] at z; exact z
  have hs := sk_in (fb := fb) (h.1.1 hg)
  refine ⟨hg, ?_⟩
  by_cases ht : TW fb L i τ
  · rw [TS_yes ht]; show τ.1 ≤ sk fb L τ.1 + _; omega
  · rw [TS_no hg ht]; exact hs.1
theorem fwd_rp {L : Nat} {e o : Int32} {σ τ : PS} (he : ¬ e = 0) (h : fwd L σ τ) : fwd L σ (rpS e o τ) := fwd_tr h ⟨okS_rp h.1, fun z => absurd z (rp_err he)⟩
theorem fwd_if {L : Nat} {P : Prop} {σ τ ρ : PS} (h : fwd L σ τ) (h2 : fwd L σ ρ) : fwd L σ (ifp P τ ρ) := by
  by_cases hp : P
  · rw [ifp_t hp]; exact h
  · rw [ifp_f hp]; exact h2
theorem fwd_sk {fb : Nat → Int32} {L : Nat} {σ τ : PS} (hL : L ≤ 900) (h : fwd L σ τ) (hg : τ.2.1 = 0) : fwd L σ (sk fb L τ.1, τ.2) :=
  fwd_tr h ⟨okS_sk hL h.1 hg, fun _ => ⟨hg, (sk_in (fb := fb) (h.1.1 hg)).1⟩⟩
theorem fwd_ex {fb : Nat → Int32} {L : Nat} {c : Int32} {σ τ : PS} (hc : ¬ c = -1) (hL : L ≤ 900) (h : fwd L σ τ) : fwd L σ (exS fb L c τ) ∧ ((exS fb L c τ).2.1 = 0 → σ.1 < (exS fb L c τ).1) := by
  by_cases hg : τ.2.1 = 0
  · have hs := sk_in (fb := fb) (h.1.1 hg)
    have ok := okS_ex (fb := fb) hc hL h.1
    by_cases hd : byt fb L (sk fb L τ.1) = c
    · have e : exS fb L c τ = (sk fb L τ.1 + 1, τ.2) := by simp only [exS, ifp_t hg, ifp_t hd]
      refine ⟨fwd_tr h ⟨ok, fun _ => ⟨hg, ?_⟩⟩, fun _ => ?_⟩
      · rw [e]; show τ.1 ≤ sk fb L τ.1 + 1; omega
      · have := (h.2 hg).2
        rw [e]; show σ.1 < sk fb L τ.1 + 1; omega
    · have e : exS fb L c τ = (sk fb L τ.1, -2, nI (sk fb L τ.1), τ.2.2.2) := by simp only [exS, ifp_t hg, ifp_f hd]
      have hn : ¬ (exS fb L c τ).2.1 = 0 := by rw [e]; show ¬ (-2 : Int32) = 0; decide
      exact ⟨fwd_tr h ⟨ok, fun z => absurd z hn⟩, fun z => absurd z hn⟩
  · have e : exS fb L c τ = τ := by simp only [exS, ifp_f hg]
    rw [e]
    exact ⟨h, fun z => absurd z hg⟩
theorem fwd_hol {fb : Nat → Int32} {L : Nat} (hL : L ≤ 900) : ∀ (f : Nat) (σ : PS) (dr : Nat → Int32), okS L σ → fwd L σ (holF fb L f σ dr).1
  | 0, σ, dr, h => fwd_rf h
  | f + 1, σ, dr, h => by
    have h3 : fwd L σ (h3s fb L dr σ) := fwd_if (fwd_rp (by decide) (fwd_if (fwd_rp (by decide) (fwd_nm hL (fwd_rf h))) (fwd_nm hL (fwd_rf h)))) (fwd_if (fwd_rp (by decide) (fwd_nm hL (fwd_rf h))) (fwd_nm hL (fwd_rf h)))
    by_cases hg : (h3s fb L dr σ).2.1 = 0
    · by_cases hd : dig (byt fb L (sk fb L (h3s fb L dr σ).1))
      · simp only [holF, ifp_t hg, ifp_t hd]
        exact fwd_tr (fwd_sk hL h3 hg) (fwd_hol hL f _ _ (okS_sk hL h3.1 hg))
      · simp only [holF, ifp_t hg, ifp_f hd]
        exact fwd_sk hL h3 hg
    · simp only [holF, ifp_f hg]
      exact h3
theorem fwd_need {fb : Nat → Int32} {L : Nat} (hL : L ≤ 900) : ∀ (f : Nat) (σ : PS) (b : Int32), okS L σ → fwd L σ (needF fb L f σ b).1
  | 0, σ, b, h => fwd_rf h
  | f + 1, σ, b, h => by
    have h3 : fwd L σ (n2s fb L b σ) := fwd_if (fwd_rp (by decide) (fwd_nm hL (fwd_rf h))) (fwd_nm hL (fwd_rf h))
    by_cases hg : (n2s fb L b σ).2.1 = 0
    · by_cases hd : dig (byt fb L (sk fb L (n2s fb L b σ).1))
      · simp only [needF, ifp_t hg, ifp_t hd]
        exact fwd_tr (fwd_sk hL h3 hg) (fwd_need hL f _ _ (okS_sk hL h3.1 hg))
      · simp only [needF, ifp_t hg, ifp_f hd]
        exact fwd_sk hL h3 hg
    · simp only [needF, ifp_f hg]
      exact h3
theorem ifp_1 {α β : Type} {P : Prop} {a c : α} {b d : β} : (ifp P (a, b) (c, d)).1 = ifp P a c := by
  by_cases h : P
  · rw [ifp_t h, ifp_t h]
  · rw [ifp_f h, ifp_f h]
theorem fwd_rcG {fb : Nat → Int32} {L : Nat} {dr : Nat → Int32} {σ : PS} (hL : L ≤ 900) (h : okS L σ) : fwd L σ (rcG fb L dr σ).1 := by
  unfold rcG
  rw [ifp_1]
  have h9 := fwd_TS (fb := fb) (i := 5) hL (fwd_TS (fb := fb) (i := 4) hL (fwd_TS (fb := fb) (i := 3) hL (fwd_nm (fb := fb) (lo := 0) (hi := 180) hL (fwd_nm (fb := fb) (lo := 1) (hi := 60) hL (fwd_nm (fb := fb) (lo := 0) (hi := 999) hL (fwd_nm (fb := fb) (lo := 0) (hi := 999) hL (fwd_nm (fb := fb) (lo := 0) (hi := 10) hL (fwd_nm (fb := fb) (lo := 0) (hi := 10) hL (fwd_nm (fb := fb) (lo := 1) (hi := 999999) hL (fwd_rf h))))))))))
  exact fwd_if (fwd_tr h9 (fwd_need hL _ _ _ h9.1)) h9
theorem fwd_rcS {fb : Nat → Int32} {L : Nat} {dr : Nat → Int32} {x : Int32} {σ : PS} (hL : L ≤ 900) (h : okS L σ) : fwd L σ (rcS fb L dr x σ).1 := by
  unfold rcS
  by_cases h12 : dr 0 = 12
  · rw [ifp_t h12]; exact fwd_rp (by decide) (fwd_rf h)
  · rw [ifp_f h12]
    by_cases hg : σ.2.1 = 0
    · rw [ifp_t hg]; exact fwd_rcG hL h
    · rw [ifp_f hg]; exact fwd_rf h
theorem fwd_px {fb : Nat → Int32} {L kd dp : Nat} {σ : PS} {f : Nat} (hL : L ≤ 900) (h : okS L σ) (hf : σ.2.1 = 0 → nee kd (L - σ.1) ≤ f) : fwd L σ (px fb L f kd dp σ).1 :=
  ⟨(px_ok (fb := fb) hL f kd dp σ h hf).1, fun z => ⟨((px_ok (fb := fb) hL f kd dp σ h hf).2 z).1, by have := ((px_ok (fb := fb) hL f kd dp σ h hf).2 z).2.1; omega⟩⟩
def onceP (se : Int32) : Prop := se >>> ((0 : Int32) &&& 31) &&& 1 = 1
noncomputable abbrev feS (fb : Nat → Int32) (L : Nat) (se : Int32) (σ : PS) : PS := ifp (onceP se) (rpS (-2) (nI (sk fb L σ.1)) (TS fb L 8 (sk fb L σ.1, σ.2))) (TS fb L 8 (sk fb L σ.1, σ.2))
noncomputable def stS (fb : Nat → Int32) (L : Nat) (dr : Nat → Int32) (se : Int32) (σ : PS) : PS × (Nat → Int32) × Int32 :=
  ifp (TW fb L 6 (sk fb L σ.1, σ.2)) (exS fb L 59 (holF fb L (L + 2) (TS fb L 6 (sk fb L σ.1, σ.2)) dr).1, (holF fb L (L + 2) (TS fb L 6 (sk fb L σ.1, σ.2)) dr).2, se)
    (ifp (TW fb L 7 (sk fb L σ.1, σ.2)) (exS fb L 59 (rcS fb L dr (nI (sk fb L σ.1)) (TS fb L 7 (sk fb L σ.1, σ.2))).1, (rcS fb L dr (nI (sk fb L σ.1)) (TS fb L 7 (sk fb L σ.1, σ.2))).2, se)
      (ifp (TW fb L 8 (sk fb L σ.1, σ.2)) (exS fb L 59 (px fb L (3 * L + 3) 2 0 (feS fb L se σ)).1, emL (upd dr 4 1) (px fb L (3 * L + 3) 2 0 (feS fb L se σ)).2, se ||| ((1 : Int32) <<< ((0 : Int32) &&& 31)))
        (exS fb L 59 (rpS (-2) (nI (sk fb L σ.1)) (sk fb L σ.1, σ.2)), dr, se)))
theorem fwd_fe {fb : Nat → Int32} {L : Nat} {se : Int32} {σ : PS} (hL : L ≤ 900) (h : okS L σ) (hg : σ.2.1 = 0) : fwd L σ (feS fb L se σ) := fwd_if (fwd_rp (by decide) (fwd_TS hL (fwd_sk hL (fwd_rf h) hg))) (fwd_TS hL (fwd_sk hL (fwd_rf h) hg))
theorem fwd_st {fb : Nat → Int32} {L : Nat} {dr : Nat → Int32} {se : Int32} {σ : PS} (hL : L ≤ 900) (h : okS L σ) (hg : σ.2.1 = 0) : okS L (stS fb L dr se σ).1 ∧ ((stS fb L dr se σ).1.2.1 = 0 → σ.1 < (stS fb L dr se σ).1.1) := by
  have h1 := fwd_sk (fb := fb) hL (fwd_rf h) hg
  unfold stS
  by_cases t6 : TW fb L 6 (sk fb L σ.1, σ.2)
  · rw [ifp_t t6]
    have q := fwd_TS (fb := fb) (i := 6) hL h1
    have r := fwd_ex (fb := fb) (c := 59) (by decide) hL (fwd_tr q (fwd_hol (fb := fb) hL (L + 2) _ dr q.1))
    exact ⟨r.1.1, r.2⟩
  · rw [ifp_f t6]
    by_cases t7 : TW fb L 7 (sk fb L σ.1, σ.2)
    · rw [ifp_t t7]
      have q := fwd_TS (fb := fb) (i := 7) hL h1
      have r := fwd_ex (fb := fb) (c := 59) (by decide) hL (fwd_tr q (fwd_rcS (fb := fb) (dr := dr) (x := nI (sk fb L σ.1)) hL q.1))
      exact ⟨r.1.1, r.2⟩
    · rw [ifp_f t7]
      by_cases t8 : TW fb L 8 (sk fb L σ.1, σ.2)
      · rw [ifp_t t8]
        have q := fwd_fe (fb := fb) (se := se) hL h hg
        have r := fwd_ex (fb := fb) (c := 59) (by decide) hL (fwd_tr q (fwd_px (fb := fb) (kd := 2) (dp := 0) (f := 3 * L + 3) hL q.1 (fun _ => by show 3 * (L - _) + 3 ≤ 3 * L + 3; omega)))
        exact ⟨r.1.1, r.2⟩
      · rw [ifp_f t8]
        have r := fwd_ex (fb := fb) (c := 59) (by decide) hL (fwd_rp (e := -2) (o := nI (sk fb L σ.1)) (by decide) h1)
        exact ⟨r.1.1, r.2⟩
