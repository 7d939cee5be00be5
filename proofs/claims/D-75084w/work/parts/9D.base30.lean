/-! BASE, part 30: statements: their cost, the credits' cells, the codes of a fee -/
set_option maxRecDepth 100000
section ST30
variable {fb : Nat → Int32} {L : Nat} {dr : Nat → Int32} {se : Int32} {σ : PS}
theorem st_6 (t6 : TW fb L 6 (sk fb L σ.1, σ.2)) : stS fb L dr se σ = (exS fb L 59 (holF fb L (L + 2) (TS fb L 6 (sk fb L σ.1, σ.2)) dr).1, (holF fb L (L + 2) (TS fb L 6 (sk fb L σ.1, σ.2)) dr).2, se) := by
  unfold stS; rw [ifp_t t6]
theorem st_7 (t6 : ¬ TW fb L 6 (sk fb L σ.1, σ.2)) (t7 : TW fb L 7 (sk fb L σ.1, σ.2)) : stS fb L dr se σ = (exS fb L 59 (rcS fb L dr (nI (sk fb L σ.1)) (TS fb L 7 (sk fb L σ.1, σ.2))).1, (rcS fb L dr (nI (sk fb L σ.1)) (TS fb L 7 (sk fb L σ.1, σ.2))).2, se) := by
  unfold stS; rw [ifp_f t6, ifp_t t7]
theorem st_8 (t6 : ¬ TW fb L 6 (sk fb L σ.1, σ.2)) (t7 : ¬ TW fb L 7 (sk fb L σ.1, σ.2)) (t8 : TW fb L 8 (sk fb L σ.1, σ.2)) : stS fb L dr se σ = (exS fb L 59 (px fb L (3 * L + 3) 2 0 (feS fb L se σ)).1, emL (upd dr 4 1) (px fb L (3 * L + 3) 2 0 (feS fb L se σ)).2, se ||| ((1 : Int32) <<< ((0 : Int32) &&& 31))) := by
  unfold stS; rw [ifp_f t6, ifp_f t7, ifp_t t8]
theorem st_n (h0 : σ.2.1 = 0) (t6 : ¬ TW fb L 6 (sk fb L σ.1, σ.2)) (t7 : ¬ TW fb L 7 (sk fb L σ.1, σ.2)) (t8 : ¬ TW fb L 8 (sk fb L σ.1, σ.2)) : (stS fb L dr se σ).1 = (sk fb L σ.1, -2, nI (sk fb L σ.1), σ.2.2.2) := by
  unfold stS
  rw [ifp_f t6, ifp_f t7, ifp_f t8]
  have e : rpS (-2) (nI (sk fb L σ.1)) (sk fb L σ.1, σ.2) = (sk fb L σ.1, -2, nI (sk fb L σ.1), σ.2.2.2) := ifp_t h0
  show exS fb L 59 (rpS (-2) (nI (sk fb L σ.1)) (sk fb L σ.1, σ.2)) = _
  rw [e]
  exact ex_bad (show ¬ (-2 : Int32) = 0 by decide)
theorem TS_1 {ix : Nat} (hp : σ.1 ≤ L) (t : TW fb L ix (sk fb L σ.1, σ.2)) : (TS fb L ix (sk fb L σ.1, σ.2)).1 = sk fb L σ.1 + mLen ix := by
  rw [TS_yes t]
  show sk fb L (sk fb L σ.1) + mLen ix = _
  rw [sk_sk hp]
theorem cs_1 (hL : L ≤ 900) (hok : okS L σ) (h0 : σ.2.1 = 0) : 1 ≤ cst (L + 2) σ (stS fb L dr se σ).1 := by
  have hp := hok.1 h0
  by_cases hz : (stS fb L dr se σ).1.2.1 = 0
  · have := (fwd_st (fb := fb) (dr := dr) (se := se) hL hok h0).2 hz
    rw [cst_g hz]; omega
  · rw [cst_b hz]; omega
theorem cs_6 (hL : L ≤ 900) (hok : okS L σ) (h0 : σ.2.1 = 0) (t6 : TW fb L 6 (sk fb L σ.1, σ.2)) : 8 ≤ cst (L + 2) σ (stS fb L dr se σ).1 := by
  have hp := hok.1 h0
  have hs := sk_in (fb := fb) hp
  have ok1 := okS_TS (fb := fb) (i := 6) hL (okS_sk (fb := fb) hL hok h0)
  have e1 := TS_1 hp t6
  have e7 : mLen 6 = 7 := rfl
  have hle := ok1.1 (by rw [TS_er]; exact h0)
  by_cases hz : (stS fb L dr se σ).1.2.1 = 0
  · rw [cst_g hz]
    rw [st_6 t6] at hz ⊢
    have r := (fwd_ex (fb := fb) (c := 59) (by decide) hL (fwd_hol (fb := fb) hL (L + 2) _ dr ok1)).2 hz
    show 8 ≤ (exS fb L 59 (holF fb L (L + 2) (TS fb L 6 (sk fb L σ.1, σ.2)) dr).1).1 - σ.1
    omega
  · rw [cst_b hz]; omega
theorem rc_7 (hL : L ≤ 900) (h : okS L σ) (hz : (rcG fb L dr σ).1.2.1 = 0) : σ.1 + 7 ≤ (rcG fb L dr σ).1.1 := by
  have z7 := rcG_good hL h hz
  have o3 : okS L (r3 fb L σ) := okS_nm hL (okS_nm hL (okS_nm hL h))
  have o5 : okS L (r5 fb L σ) := okS_nm hL (okS_nm hL o3)
  have o7 : okS L (r7 fb L σ) := okS_nm hL (okS_nm hL o5)
  obtain ⟨z6, a7, -⟩ := nm_fwd (okS_nm hL o5) z7
  obtain ⟨z5, a6, -⟩ := nm_fwd o5 z6
  obtain ⟨z4, a5, -⟩ := nm_fwd (okS_nm hL o3) z5
  obtain ⟨z3, a4, -⟩ := nm_fwd o3 z4
  obtain ⟨z2, a3, -⟩ := nm_fwd (okS_nm hL (okS_nm hL h)) z3
  obtain ⟨z1, a2, -⟩ := nm_fwd (okS_nm hL h) z2
  obtain ⟨z0, a1, -⟩ := nm_fwd h z1
  have h9 := fwd_TS (fb := fb) (i := 5) hL (fwd_TS (fb := fb) (i := 4) hL (fwd_TS (fb := fb) (i := 3) hL (fwd_rf o7)))
  have hf : fwd L (r7 fb L σ) (rcG fb L dr σ).1 := by
    unfold rcG
    rw [ifp_1]
    exact fwd_if (fwd_tr h9 (fwd_need hL _ _ _ h9.1)) h9
  have a7 : (nmS fb L 1 60 (r5 fb L σ)).2.1 < (r7 fb L σ).1 := a7
  have a6 : (r5 fb L σ).1 < (nmS fb L 1 60 (r5 fb L σ)).2.1 := a6
  have a5 : (nmS fb L 0 999 (r3 fb L σ)).2.1 < (r5 fb L σ).1 := a5
  have a4 : (r3 fb L σ).1 < (nmS fb L 0 999 (r3 fb L σ)).2.1 := a4
  have a3 : (nmS fb L 0 10 (nmS fb L 1 999999 σ).2).2.1 < (r3 fb L σ).1 := a3
  have a2 : (nmS fb L 1 999999 σ).2.1 < (nmS fb L 0 10 (nmS fb L 1 999999 σ).2).2.1 := a2
  have := (hf.2 hz).2
  omega
theorem cs_7 (hL : L ≤ 900) (hok : okS L σ) (h0 : σ.2.1 = 0) (t6 : ¬ TW fb L 6 (sk fb L σ.1, σ.2)) (t7 : TW fb L 7 (sk fb L σ.1, σ.2)) : 10 ≤ cst (L + 2) σ (stS fb L dr se σ).1 := by
  have hp := hok.1 h0
  have hs := sk_in (fb := fb) hp
  have ok1 := okS_TS (fb := fb) (i := 7) hL (okS_sk (fb := fb) hL hok h0)
  have e1 := TS_1 hp t7
  have e7 : mLen 7 = 6 := rfl
  have hg1 : (TS fb L 7 (sk fb L σ.1, σ.2)).2.1 = 0 := by rw [TS_er]; exact h0
  have hle := ok1.1 hg1
  by_cases hz : (stS fb L dr se σ).1.2.1 = 0
  · rw [cst_g hz]
    rw [st_7 t6 t7] at hz ⊢
    have hz : (exS fb L 59 (rcS fb L dr (nI (sk fb L σ.1)) (TS fb L 7 (sk fb L σ.1, σ.2))).1).2.1 = 0 := hz
    show 10 ≤ (exS fb L 59 (rcS fb L dr (nI (sk fb L σ.1)) (TS fb L 7 (sk fb L σ.1, σ.2))).1).1 - σ.1
    by_cases h12 : dr 0 = 12
    · rw [show rcS fb L dr (nI (sk fb L σ.1)) (TS fb L 7 (sk fb L σ.1, σ.2)) = _ from ifp_t h12] at hz
      rw [ex_bad (rp_err (by decide))] at hz
      exact absurd hz (rp_err (by decide))
    · rw [show rcS fb L dr (nI (sk fb L σ.1)) (TS fb L 7 (sk fb L σ.1, σ.2)) = _ from (ifp_f h12).trans (ifp_t hg1)] at hz ⊢
      have og := (fwd_rcG (fb := fb) (dr := dr) hL ok1).1
      have hg2 : (rcG fb L dr (TS fb L 7 (sk fb L σ.1, σ.2))).1.2.1 = 0 := by
        rcases Classical.em ((rcG fb L dr (TS fb L 7 (sk fb L σ.1, σ.2))).1.2.1 = 0) with q | q
        · exact q
        · rw [ex_bad q] at hz; exact hz
      have r7' := rc_7 hL ok1 hg2
      have r := ex_lt og hg2 hz
      omega
  · rw [cst_b hz]; omega
theorem fe_ok (hn : ¬ onceP se) : feS fb L se σ = TS fb L 8 (sk fb L σ.1, σ.2) := ifp_f hn
theorem cs_8 (hL : L ≤ 900) (hok : okS L σ) (h0 : σ.2.1 = 0) (t6 : ¬ TW fb L 6 (sk fb L σ.1, σ.2)) (t7 : ¬ TW fb L 7 (sk fb L σ.1, σ.2)) (t8 : TW fb L 8 (sk fb L σ.1, σ.2)) (hn : ¬ onceP se) : cst L (TS fb L 8 (sk fb L σ.1, σ.2)) (px fb L (3 * L + 3) 2 0 (TS fb L 8 (sk fb L σ.1, σ.2))).1 + 3 ≤ cst (L + 2) σ (stS fb L dr se σ).1 := by
  have hp := hok.1 h0
  have hs := sk_in (fb := fb) hp
  have ok1 := okS_TS (fb := fb) (i := 8) hL (okS_sk (fb := fb) hL hok h0)
  have e1 := TS_1 hp t8
  have e7 : mLen 8 = 3 := rfl
  have hg1 : (TS fb L 8 (sk fb L σ.1, σ.2)).2.1 = 0 := by rw [TS_er]; exact h0
  have hle := ok1.1 hg1
  have q := px_ok (fb := fb) hL (3 * L + 3) 2 0 (TS fb L 8 (sk fb L σ.1, σ.2)) ok1 (fun _ => by show 3 * (L - _) + 3 ≤ 3 * L + 3; omega)
  have es := st_8 (dr := dr) (se := se) t6 t7 t8
  rw [fe_ok hn] at es
  by_cases hx : (px fb L (3 * L + 3) 2 0 (TS fb L 8 (sk fb L σ.1, σ.2))).1.2.1 = 0
  · obtain ⟨q1, q2, q3, -⟩ := q.2 hx
    have q2 : (TS fb L 8 (sk fb L σ.1, σ.2)).1 + 1 ≤ _ := q2
    rw [cst_g hx]
    by_cases hz : (stS fb L dr se σ).1.2.1 = 0
    · rw [cst_g hz]
      rw [es] at hz ⊢
      have r := ex_lt q.1 hx hz
      show _ ≤ (exS fb L 59 (px fb L (3 * L + 3) 2 0 (TS fb L 8 (sk fb L σ.1, σ.2))).1).1 - σ.1
      omega
    · rw [cst_b hz]; omega
  · have hz : ¬ (stS fb L dr se σ).1.2.1 = 0 := by rw [es]; show ¬ (exS fb L 59 _).2.1 = 0; rw [ex_bad hx]; exact hx
    rw [cst_b hx, cst_b hz]; omega
end ST30
/-- credits' cells, the latest first -/
def crV (dr : Nat → Int32) (ad : Nat → Nat) : Nat → va_W
  | 0 => []
  | c + 1 => (ad c, .inr (8, crF dr c)) :: crV dr ad c
theorem crV_cg {dr dr' : Nat → Int32} {ad ad' : Nat → Nat} : ∀ {c : Nat}, (∀ j, j < c → ad j = ad' j ∧ crF dr j = crF dr' j) → crV dr ad c = crV dr' ad' c
  | 0, _ => rfl
  | c + 1, h => by
    obtain ⟨h1, h2⟩ := h c (by omega)
    show (ad c, Sum.inr (8, crF dr c)) :: crV dr ad c = (ad' c, Sum.inr (8, crF dr' c)) :: crV dr' ad' c
    rw [h1, h2, crV_cg (fun j hj => h j (by omega))]
theorem crV_at {D : va_G} {dr : Nat → Int32} {ad : Nat → Nat} {H : Heap} : ∀ {c : Nat}, va_P D clA (crV dr ad c) H → ∀ j, j < c → va_P D clA [(ad j, .inr (8, crF dr j))] H
  | 0, _, j, hj => absurd hj (by omega)
  | c + 1, h, j, hj => by
    by_cases e : j = c
    · subst e
      exact va_cons (h 0 _ rfl) va_nil
    · exact crV_at (P_tl (x := (ad c, .inr (8, crF dr c))) h) j (by omega)
theorem crV_ob {D : va_G} {dr : Nat → Int32} {ad : Nat → Nat} {H : Heap} {c : Nat} (h : va_P D clA (crV dr ad c) H) : ∀ j, j < c → obD D (ad j) H := fun j hj => obD_of (crV_at h j hj) 0 rfl (Or.inl rfl)
theorem crF_cg {d d' : Nat → Int32} {j : Nat} (h : ∀ i, i < 11 → d (22 + 11 * j + i) = d' (22 + 11 * j + i)) : crF d j = crF d' j := by
  have e : ∀ i, i < 11 → cf d j i = cf d' j i := h
  show [_, _, _, _, _, _, _, _, _, _, _] = [_, _, _, _, _, _, _, _, _, _, _]
  rw [e 10 (by decide), e 0 (by decide), e 1 (by decide), e 2 (by decide), e 3 (by decide), e 4 (by decide), e 5 (by decide), e 6 (by decide), e 9 (by decide), e 7 (by decide), e 8 (by decide)]
/-- the element array and the credits -/
def sgW (k : Nat → ClassId) (dr : Nat → Int32) (ad : Nat → Nat) (el n : Nat) : Nat → va_W
  | 0 => []
  | c + 1 => (el, .inl (k 3, n, .inr (.inr (.inr (.inr (rfs (c + 1) ad)))))) :: crV dr ad (c + 1)
theorem sgW_cg {k : Nat → ClassId} {dr dr' : Nat → Int32} {ad : Nat → Nat} {el n c : Nat} (h : ∀ j, j < c → crF dr j = crF dr' j) : sgW k dr ad el n c = sgW k dr' ad el n c := by
  cases c with
  | zero => rfl
  | succ c => show _ :: crV dr ad (c + 1) = _ :: crV dr' ad (c + 1); rw [crV_cg (fun j hj => ⟨rfl, h j hj⟩)]
theorem hol_ne {fb : Nat → Int32} {L : Nat} (hL : L ≤ 900) : ∀ (f : Nat) (σ : PS) (dr : Nat → Int32), okS L σ → isN dr 2 16 → ∀ i, i ≠ 2 → (i < 6 ∨ 22 ≤ i) → (holF fb L f σ dr).2 i = dr i
  | 0, σ, dr, _, _, i, _, _ => rfl
  | f + 1, σ, dr, h, h2, i, hi, hi2 => by
    by_cases hg : (h3s fb L dr σ).2.1 = 0
    · obtain ⟨e1, e16, e2, e3, e4, e5⟩ := h3_good h hg
      obtain ⟨q1, q2⟩ := h2
      have hlt : dN dr 2 < 16 := by
        rcases Nat.lt_or_ge (dN dr 2) 16 with q | q
        · exact q
        · exact absurd (q1.trans (congrArg nI (show dN dr 2 = 16 by omega))) e16
      have ne : hdr fb L dr σ i = dr i := by unfold hdr; rw [pk_un hi, pk_un (by omega)]
      have n2 : isN (hdr fb L dr σ) 2 16 := isN_nI (by omega) (by omega)
      by_cases hd : dig (byt fb L (sk fb L (h3s fb L dr σ).1))
      · simp only [holF, ifp_t hg, ifp_t hd]
        rw [hol_ne hL f _ _ (okS_sk hL (okS_h3 hL h) hg) n2 i hi hi2, ne]
      · simp only [holF, ifp_t hg, ifp_f hd]
        exact ne
    · simp only [holF, ifp_f hg]
/-- the codes that were put down -/
theorem emL_lo {dr : Nat → Int32} : ∀ (xs : List Int32) (j : Nat), dN dr 5 + xs.length < 2000 → 298 ≤ j → j < 298 + dN dr 5 → emL dr xs j = dr j := by
  intro xs
  induction xs generalizing dr with
  | nil => intro j _ _ _; rfl
  | cons x xs ih =>
    intro j hb h1 h2
    simp only [List.length_cons] at hb
    obtain ⟨a, b⟩ := em1_n (dr := dr) (v := x) (by omega)
    show emL (em1 dr x) xs j = dr j
    rw [ih (dr := em1 dr x) j (by rw [b]; omega) h1 (by rw [b]; omega)]
    unfold em1
    rw [pk_un (by omega), pk_un (by omega)]
theorem emL_at {dr : Nat → Int32} : ∀ (xs : List Int32) (i : Nat) (hi : i < xs.length), dN dr 5 + xs.length < 2000 → emL dr xs (298 + dN dr 5 + i) = xs[i] := by
  intro xs
  induction xs generalizing dr with
  | nil => intro i hi _; exact absurd hi (by simp)
  | cons x xs ih =>
    intro i hi hb
    simp only [List.length_cons] at hb hi
    obtain ⟨a, b⟩ := em1_n (dr := dr) (v := x) (by omega)
    show emL (em1 dr x) xs _ = _
    cases i with
    | zero =>
      rw [emL_lo xs _ (by rw [b]; omega) (by omega) (by rw [b]; omega)]
      unfold em1
      rw [pk_un (by omega)]
      exact pk_us
    | succ i =>
      have := ih (dr := em1 dr x) i (by omega) (by rw [b]; omega)
      rw [b] at this
      rw [show 298 + dN dr 5 + (i + 1) = 298 + (dN dr 5 + 1) + i by omega, this]
      rfl
theorem codes_em {dr : Nat → Int32} {cs : List Int32} (h5 : dr 5 = nI (dN dr 5)) (h0 : dN dr 5 = 0) (hl : cs.length < 1500) : codes (emL dr cs) = cs := by
  obtain ⟨a, b⟩ := emL_n (dr := dr) cs h5 (by omega)
  rw [h0, Nat.zero_add] at b
  refine List.ext_getElem (by rw [codes_len, b]) (fun i h1 h2 => ?_)
  have := emL_at (dr := dr) cs i h2 (by omega)
  rw [h0] at this
  simp only [codes, List.getElem_map, List.getElem_range]
  rw [← this]
theorem codes_cg {d d' : Nat → Int32} (h : ∀ i, i = 5 ∨ 298 ≤ i → d' i = d i) : codes d' = codes d := by
  have e : dN d' 5 = dN d 5 := by unfold dN; rw [h 5 (Or.inl rfl)]
  unfold codes
  rw [e]
  exact List.map_congr_left (fun j _ => h _ (Or.inr (by omega)))
theorem nf_450 {L a b n : Nat} (hL : L ≤ 900) (h : 2 * n + 1 ≤ a - b) (ha : a ≤ L) : n ≤ 449 := by omega
theorem D_selfW {A : Nat → Prop} {w : va_W} (h : va_D A w) : va_D (inL w) w := va_D_nod.mpr ⟨(va_D_nod.mp h).1, fun q hq => inL_mem hq⟩
theorem S_putW {s : State} {A : Nat → Prop} {w : va_W} {H H1 : Heap} {locs locs1 : List Loc} (hD : va_D A w) (hS : va_S A s.heap H locs) (hS1 : va_S (inL w) H H1 locs1) : va_S A s.heap H1 locs1 :=
  ⟨Nat.le_trans hS.1 hS1.1, fun q h1 h2 => (hS1.2.1 q (Nat.lt_of_lt_of_le h1 hS.1) (fun z => h2 (D_in hD z))).trans (hS.2.1 q h1 h2), fun q hq => D_in hD (hS1.2.2 q hq)⟩
