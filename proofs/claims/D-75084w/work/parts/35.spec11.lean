/-! SPEC, part 11: a draft behind a credit, behind a statement -/
set_option maxRecDepth 100000
noncomputable abbrev r3 (fb : Nat → Int32) (L : Nat) (σ : PS) : PS := (nmS fb L 0 10 (nmS fb L 0 10 (nmS fb L 1 999999 σ).2).2).2
noncomputable abbrev r5 (fb : Nat → Int32) (L : Nat) (σ : PS) : PS := (nmS fb L 0 999 (nmS fb L 0 999 (r3 fb L σ)).2).2
noncomputable abbrev r7 (fb : Nat → Int32) (L : Nat) (σ : PS) : PS := (nmS fb L 0 180 (nmS fb L 1 60 (r5 fb L σ)).2).2
theorem rcG_ne {fb : Nat → Int32} {L : Nat} {dr : Nat → Int32} {σ : PS} {j : Nat} (h0 : j ≠ 0) (hj : j < 22 + 11 * dN dr 0 ∨ 22 + 11 * dN dr 0 + 11 ≤ j) : (rcG fb L dr σ).2 j = dr j := by
  unfold rcG
  by_cases h : TW fb L 5 (TS fb L 4 (TS fb L 3 (r7 fb L σ)))
  · rw [ifp_t h]; dsimp only; repeat rw [pk_un (by omega)]
  · rw [ifp_f h]; dsimp only; repeat rw [pk_un (by omega)]
theorem rcG_0 {fb : Nat → Int32} {L : Nat} {dr : Nat → Int32} {σ : PS} : (rcG fb L dr σ).2 0 = nI (dN dr 0 + 1) := by
  unfold rcG
  by_cases h : TW fb L 5 (TS fb L 4 (TS fb L 3 (r7 fb L σ)))
  · rw [ifp_t h]; dsimp only; exact pk_us
  · rw [ifp_f h]; dsimp only; exact pk_us
theorem rcG_3 {fb : Nat → Int32} {L : Nat} {dr : Nat → Int32} {σ : PS} : (rcG fb L dr σ).2 (22 + 11 * dN dr 0 + 3) = (nmS fb L 0 999 (r3 fb L σ)).1 := by
  unfold rcG
  by_cases h : TW fb L 5 (TS fb L 4 (TS fb L 3 (r7 fb L σ)))
  · rw [ifp_t h]; dsimp only; (repeat rw [pk_un (by omega)]) <;> exact pk_us
  · rw [ifp_f h]; dsimp only; (repeat rw [pk_un (by omega)]) <;> exact pk_us
theorem rcG_5 {fb : Nat → Int32} {L : Nat} {dr : Nat → Int32} {σ : PS} : (rcG fb L dr σ).2 (22 + 11 * dN dr 0 + 5) = (nmS fb L 1 60 (r5 fb L σ)).1 := by
  unfold rcG
  by_cases h : TW fb L 5 (TS fb L 4 (TS fb L 3 (r7 fb L σ)))
  · rw [ifp_t h]; dsimp only; (repeat rw [pk_un (by omega)]) <;> exact pk_us
  · rw [ifp_f h]; dsimp only; (repeat rw [pk_un (by omega)]) <;> exact pk_us
theorem rcG_6 {fb : Nat → Int32} {L : Nat} {dr : Nat → Int32} {σ : PS} : (rcG fb L dr σ).2 (22 + 11 * dN dr 0 + 6) = (nmS fb L 0 180 (nmS fb L 1 60 (r5 fb L σ)).2).1 := by
  unfold rcG
  by_cases h : TW fb L 5 (TS fb L 4 (TS fb L 3 (r7 fb L σ)))
  · rw [ifp_t h]; dsimp only; (repeat rw [pk_un (by omega)]) <;> exact pk_us
  · rw [ifp_f h]; dsimp only; (repeat rw [pk_un (by omega)]) <;> exact pk_us
theorem rcG_good {fb : Nat → Int32} {L : Nat} {dr : Nat → Int32} {σ : PS} (hL : L ≤ 900) (h : okS L σ) (hz : (rcG fb L dr σ).1.2.1 = 0) : (r7 fb L σ).2.1 = 0 := by
  have o7 : okS L (r7 fb L σ) := okS_nm hL (okS_nm hL (okS_nm hL (okS_nm hL (okS_nm hL (okS_nm hL (okS_nm hL h))))))
  have o9 : okS L (TS fb L 5 (TS fb L 4 (TS fb L 3 (r7 fb L σ)))) := okS_TS hL (okS_TS hL (okS_TS hL o7))
  have key : (TS fb L 5 (TS fb L 4 (TS fb L 3 (r7 fb L σ)))).2.1 = 0 := by
    unfold rcG at hz
    by_cases ht : TW fb L 5 (TS fb L 4 (TS fb L 3 (r7 fb L σ)))
    · rw [ifp_t ht] at hz
      exact ((fwd_need hL _ _ _ o9).2 hz).1
    · rw [ifp_f ht] at hz
      exact hz
  rw [TS_er, TS_er, TS_er] at key
  exact key
theorem isN_eq {d : Nat → Int32} {j b : Nat} {v : Int32} (e : d j = v) (h : v = nI v.toNatClampNeg ∧ v.toNatClampNeg ≤ b) : isN d j b := by
  unfold isN dN
  rw [e]
  exact h
theorem Dr_rcG {fb : Nat → Int32} {L : Nat} {dr : Nat → Int32} {se : Int32} {σ : PS} (hL : L ≤ 900) (h : okS L σ) (hD : Dr dr se) (h12 : ¬ dr 0 = 12) (hz : (rcG fb L dr σ).1.2.1 = 0) : Dr (rcG fb L dr σ).2 se := by
  have z7 := rcG_good hL h hz
  have o3 : okS L (r3 fb L σ) := okS_nm hL (okS_nm hL (okS_nm hL h))
  have o5 : okS L (r5 fb L σ) := okS_nm hL (okS_nm hL o3)
  obtain ⟨z6, -, v7⟩ := nm_fwd (okS_nm hL o5) z7
  obtain ⟨z5, -, v6⟩ := nm_fwd o5 z6
  obtain ⟨z4, -, -⟩ := nm_fwd (okS_nm hL o3) z5
  obtain ⟨z3, -, v4⟩ := nm_fwd o3 z4
  obtain ⟨q1, q2⟩ := hD.1.1.1
  have hlt : dN dr 0 < 12 := by
    rcases Nat.lt_or_ge (dN dr 0) 12 with q | q
    · exact q
    · exact absurd (q1.trans (congrArg nI (show dN dr 0 = 12 by omega))) h12
  have d0 : dN (rcG fb L dr σ).2 0 = dN dr 0 + 1 := by unfold dN; rw [rcG_0, nI_clamp (by unfold dN at hlt; omega)]; rfl
  have ne : ∀ j, j ≠ 0 → (j < 22 + 11 * dN dr 0 ∨ 22 + 11 * dN dr 0 + 11 ≤ j) → (rcG fb L dr σ).2 j = dr j := fun j a b => rcG_ne a b
  have nd0 : ∀ j, j ≠ 0 → (j < 22 + 11 * dN dr 0 ∨ 22 + 11 * dN dr 0 + 11 ≤ j) → dN (rcG fb L dr σ).2 j = dN dr j := fun j a b => by unfold dN; rw [show (rcG fb L dr σ).2 j = dr j from rcG_ne a b]
  have nn : ∀ j b, j ≠ 0 → (j < 22 + 11 * dN dr 0 ∨ 22 + 11 * dN dr 0 + 11 ≤ j) → isN dr j b → isN (rcG fb L dr σ).2 j b := fun j b a c q => by unfold isN; rw [nd0 j a c, ne j a c]; exact q
  refine ⟨okD_np ⟨⟨⟨by rw [d0]; exact rcG_0, by omega⟩, nn 2 16 (by omega) (by omega) hD.1.1.2.2.1, nn 5 1500 (by omega) (by omega) hD.1.1.2.2.2.2⟩, ?_, ?_⟩ (by rw [ne 1 (by omega) (by omega)]; exact hD.2.1) (by rw [ne 3 (by omega) (by omega)]; exact hD.2.2.1), by rw [ne 1 (by omega) (by omega)]; exact hD.2.1, by rw [ne 3 (by omega) (by omega)]; exact hD.2.2.1, fun q => by rw [nd0 5 (by omega) (by omega)]; exact hD.2.2.2 q⟩
  · intro j hj
    rw [nd0 2 (by omega) (by omega)] at hj
    have := hD.1.1.2.2.1.2
    exact nn (6 + j) 999 (by omega) (by omega) (hD.1.2.1 j hj)
  · intro c hc
    rw [d0] at hc
    by_cases hq : c = dN dr 0
    · subst hq
      exact ⟨isN_eq rcG_3 (inR_n (a := 0) (b := 999) v4 rfl rfl (by decide)), isN_eq rcG_5 (inR_n (a := 1) (b := 60) v6 rfl rfl (by decide)), isN_eq rcG_6 (inR_n (a := 0) (b := 180) v7 rfl rfl (by decide))⟩
    · obtain ⟨y1, y2, y3⟩ := hD.1.2.2.1 c (by omega)
      exact ⟨nn _ _ (by omega) (by omega) y1, nn _ _ (by omega) (by omega) y2, nn _ _ (by omega) (by omega) y3⟩
theorem emL_ne {dr : Nat → Int32} {j : Nat} (h5 : j ≠ 5) (hj : j < 298) : ∀ (xs : List Int32), emL dr xs j = dr j := by
  intro xs
  induction xs generalizing dr with
  | nil => rfl
  | cons x xs ih =>
    show emL (em1 dr x) xs j = dr j
    rw [ih (dr := em1 dr x)]
    unfold em1
    rw [pk_un h5, pk_un (by omega)]
theorem once_1 (se : Int32) : onceP (se ||| ((1 : Int32) <<< ((0 : Int32) &&& 31))) := by
  unfold onceP
  rw [sb_shr0, sb_shl0]
  apply Int32.toBitVec_inj.mp
  simp only [Int32.toBitVec_and, Int32.toBitVec_or]
  apply BitVec.eq_of_getLsbD_eq
  intro i hi
  simp only [BitVec.getLsbD_and, BitVec.getLsbD_or]
  by_cases h0 : i = 0
  · subst h0; simp [show ((1 : Int32).toBitVec).getLsbD 0 = true from by decide]
  · have : (1 : Int32).toBitVec.getLsbD i = false := by
      have hk : (1 : Int32).toBitVec = 1#32 := rfl
      rw [hk, BitVec.getLsbD_one]
      simp; omega
    simp [this, h0]
theorem Dr_st {fb : Nat → Int32} {L : Nat} {dr : Nat → Int32} {se : Int32} {σ : PS} (hL : L ≤ 900) (h : okS L σ) (hg : σ.2.1 = 0) (hD : Dr dr se) (hz : (stS fb L dr se σ).1.2.1 = 0) : Dr (stS fb L dr se σ).2.1 (stS fb L dr se σ).2.2 := by
  have exg : ∀ τ : PS, (exS fb L 59 τ).2.1 = 0 → τ.2.1 = 0 := fun τ z => by
    rcases Classical.em (τ.2.1 = 0) with q | q
    · exact q
    · simp only [exS, ifp_f q] at z; exact absurd z q
  have o1 := okS_sk (fb := fb) hL h hg
  unfold stS at hz ⊢
  by_cases t6 : TW fb L 6 (sk fb L σ.1, σ.2)
  · rw [ifp_t t6] at hz ⊢
    exact Dr_hol hL _ _ _ se (okS_TS hL o1) hD (exg _ hz)
  · rw [ifp_f t6] at hz ⊢
    by_cases t7 : TW fb L 7 (sk fb L σ.1, σ.2)
    · rw [ifp_t t7] at hz ⊢
      have z := exg _ hz
      dsimp only
      unfold rcS at z ⊢
      by_cases h12 : dr 0 = 12
      · rw [ifp_t h12] at z
        exact absurd z (rp_err (by decide))
      · rw [ifp_f h12] at z ⊢
        by_cases hg7 : (TS fb L 7 (sk fb L σ.1, σ.2)).2.1 = 0
        · rw [ifp_t hg7] at z ⊢
          exact Dr_rcG hL (okS_TS hL o1) hD h12 z
        · rw [ifp_f hg7] at z
          exact absurd z hg7
    · rw [ifp_f t7] at hz ⊢
      by_cases t8 : TW fb L 8 (sk fb L σ.1, σ.2)
      · rw [ifp_t t8] at hz ⊢
        have z := exg _ hz
        have of := (fwd_fe (fb := fb) (se := se) hL h hg).1
        have q := px_ok (fb := fb) hL (3 * L + 3) 2 0 (feS fb L se σ) of (fun _ => by show 3 * (L - _) + 3 ≤ 3 * L + 3; omega)
        obtain ⟨z1, z2, z3, z4⟩ := q.2 z
        have z4 : _ ≤ 3 * (L - (feS fb L se σ).1) + 1 := z4
        have hn : ¬ onceP se := fun hh => by simp only [feS, ifp_t hh] at z1; exact rp_err (by decide) z1
        have e5 := hD.2.2.2 hn
        dsimp only
        have hu5 : (upd dr 4 1) 5 = nI (dN (upd dr 4 1) 5) := by rw [pk_un (by omega), dN_un (by omega)]; exact hD.1.1.2.2.2.2.1
        have d5 : dN (upd dr 4 1) 5 = 0 := by rw [dN_un (by omega)]; exact e5
        obtain ⟨y1, y2⟩ := emL_n (dr := upd dr 4 1) (px fb L (3 * L + 3) 2 0 (feS fb L se σ)).2 hu5 (by omega)
        have ne : ∀ j, j ≠ 5 → j ≠ 4 → j < 298 → emL (upd dr 4 1) (px fb L (3 * L + 3) 2 0 (feS fb L se σ)).2 j = dr j := fun j a b c => by rw [emL_ne a c, pk_un b]
        have nd0 : ∀ j, j ≠ 5 → j ≠ 4 → j < 298 → dN (emL (upd dr 4 1) (px fb L (3 * L + 3) 2 0 (feS fb L se σ)).2) j = dN dr j := fun j a b c => by unfold dN; rw [ne j a b c]
        have nn : ∀ j b, j ≠ 5 → j ≠ 4 → j < 298 → isN dr j b → isN (emL (upd dr 4 1) (px fb L (3 * L + 3) 2 0 (feS fb L se σ)).2) j b := fun j b a c e q => by unfold isN; rw [nd0 j a c e, ne j a c e]; exact q
        have b0 := hD.1.1.1.2
        have b2 := hD.1.1.2.2.1.2
        refine ⟨okD_np ⟨⟨nn 0 12 (by omega) (by omega) (by omega) hD.1.1.1, nn 2 16 (by omega) (by omega) (by omega) hD.1.1.2.2.1, ⟨y1, by omega⟩⟩, ?_, ?_⟩ (by rw [ne 1 (by omega) (by omega) (by omega)]; exact hD.2.1) (by rw [ne 3 (by omega) (by omega) (by omega)]; exact hD.2.2.1), by rw [ne 1 (by omega) (by omega) (by omega)]; exact hD.2.1, by rw [ne 3 (by omega) (by omega) (by omega)]; exact hD.2.2.1, fun q => absurd (once_1 se) q⟩
        · intro j hj
          rw [nd0 2 (by omega) (by omega) (by omega)] at hj
          exact nn (6 + j) 999 (by omega) (by omega) (by omega) (hD.1.2.1 j hj)
        · intro c hc
          rw [nd0 0 (by omega) (by omega) (by omega)] at hc
          obtain ⟨w1, w2, w3⟩ := hD.1.2.2.1 c hc
          exact ⟨nn _ _ (by omega) (by omega) (by omega) w1, nn _ _ (by omega) (by omega) (by omega) w2, nn _ _ (by omega) (by omega) (by omega) w3⟩
      · rw [ifp_f t8] at hz
        have z := exg _ hz
        exact absurd z (rp_err (by decide))
theorem ldF_go {fb : Nat → Int32} {L n : Nat} {σ : PS} {dr : Nat → Int32} {se : Int32} (hg : σ.2.1 = 0) (hb : ¬ byt fb L (sk fb L σ.1) = -1) : ldF fb L (n + 1) σ dr se = ldF fb L n (stS fb L dr se (sk fb L σ.1, σ.2)).1 (stS fb L dr se (sk fb L σ.1, σ.2)).2.1 (stS fb L dr se (sk fb L σ.1, σ.2)).2.2 := by simp only [ldF, ifp_t hg, ifp_f hb]
