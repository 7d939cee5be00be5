/-! SPEC, part 7: the reference's words; expressions -/
set_option maxRecDepth 100000
def mI (i : Nat) : Nat := [101, 107, 109, 130, 132, 134, 139, 144, 148].getD i 0
def mT (i : Nat) : String := ["amount", "days", "errors", "partial", "transferable", "needs", "holiday", "credit", "fee"].getD i ""
def mBy (i : Nat) : List Int32 := [[97, 109, 111, 117, 110, 116], [100, 97, 121, 115], [101, 114, 114, 111, 114, 115], [112, 97, 114, 116, 105, 97, 108], [116, 114, 97, 110, 115, 102, 101, 114, 97, 98, 108, 101], [110, 101, 101, 100, 115], [104, 111, 108, 105, 100, 97, 121], [99, 114, 101, 100, 105, 116], [102, 101, 101]].getD i []
def mLen (i : Nat) : Nat := [6, 4, 6, 7, 12, 5, 7, 6, 3].getD i 0
def wd (i : Nat) : Nat → Int32 := chC (fun j => (mBy i).getD j 0)
def MS (A : Nat → Prop) (sA sV : Nat → Nat) (U : State) : Prop := EnX A U ∧ ∀ i, i < 9 → vk_R RX5 (mI i) (mT i) (sA i) U ∧ stX A (sA i) (sV i) (mLen i) (fun j => (mBy i).getD j 0) U
theorem mv2_MS {A : Nat → Prop} {sA sV : Nat → Nat} : mv2 (MS A sA sV) := fun u U e1 e2 q => ⟨mv_EnX.to2 u U e1 e2 q.1, fun i hi => ⟨vk_R.same e2 (q.2 i hi).1, mv_stX.to2 u U e1 e2 (q.2 i hi).2⟩⟩
theorem MS_to {A B : Nat → Prop} {sA sV : Nat → Nat} {s : State} {H : Heap} {locs : List Loc} (h : MS A sA sV s) (hS : va_S A s.heap H locs) (hB : ∀ q, B q → A q) (U : State) (hU : U.heap = H) (hW : s.WarmedH U.vm) : MS B sA sV U :=
  ⟨EnX_to h.1 hS hB U hU hW, fun i hi => ⟨(h.2 i hi).1.warm hW, stX_to (h.2 i hi).2 hS hB U hU hW⟩⟩
def TW (fb : Nat → Int32) (L i : Nat) (σ : PS) : Prop := twB fb L (mLen i) (wd i) σ
noncomputable def TS (fb : Nat → Int32) (L i : Nat) (σ : PS) : PS := twS fb L (mLen i) (wd i) σ
theorem wd_ne (i j : Nat) : ¬ wd i j = -1 := by
  unfold wd chC
  rw [sc_c2]
  intro h
  have h2 : ((mBy i).getD j 0 &&& 255).toBitVec.toNat = (-1 : Int32).toBitVec.toNat := by rw [h]
  have h3 : ((mBy i).getD j 0 &&& 255).toBitVec.toNat ≤ 255 := by
    rw [pk_and _ 8 (by decide), pk_tn (by omega)]
    omega
  rw [h2] at h3
  exact absurd h3 (by decide)
theorem mLen_le (i : Nat) : mLen i ≤ 12 := by
  unfold mLen
  rcases i with _ | _ | _ | _ | _ | _ | _ | _ | _ | i <;> simp [List.getD]
theorem okS_TS {fb : Nat → Int32} {L i : Nat} {σ : PS} (hL : L ≤ 900) (h : okS L σ) : okS L (TS fb L i σ) := okS_tw hL (by have := mLen_le i; omega) (fun j _ => wd_ne i j) h
theorem TS_no {fb : Nat → Int32} {L i : Nat} {σ : PS} (hg : σ.2.1 = 0) (h : ¬ TW fb L i σ) : TS fb L i σ = (sk fb L σ.1, σ.2) := by
  have : ¬ twP fb L (mLen i) (wd i) (sk fb L σ.1) := fun q => h ⟨hg, q⟩
  simp only [TS, twS, ifp_t hg, ifp_f this]
theorem TS_yes {fb : Nat → Int32} {L i : Nat} {σ : PS} (h : TW fb L i σ) : TS fb L i σ = (sk fb L σ.1 + mLen i, σ.2) := by
  simp only [TS, twS, ifp_t h.1, ifp_t h.2]
theorem TS_bad {fb : Nat → Int32} {L i : Nat} {σ : PS} (hg : ¬ σ.2.1 = 0) : TS fb L i σ = σ := by simp only [TS, twS, ifp_f hg]
theorem TS_er {fb : Nat → Int32} {L i : Nat} {σ : PS} : (TS fb L i σ).2 = σ.2 := by
  by_cases hg : σ.2.1 = 0
  · by_cases h : TW fb L i σ
    · rw [TS_yes h]
    · rw [TS_no hg h]
  · rw [TS_bad hg]
/-- codes, put one behind another -/
def emL (dr : Nat → Int32) : List Int32 → (Nat → Int32)
  | [] => dr
  | x :: xs => emL (em1 dr x) xs
theorem emL_app (dr : Nat → Int32) : ∀ (xs ys : List Int32), emL dr (xs ++ ys) = emL (emL dr xs) ys
  | [], ys => rfl
  | x :: xs, ys => emL_app (em1 dr x) xs ys
theorem em1_n {dr : Nat → Int32} {v : Int32} (h : dN dr 5 < 2000) : em1 dr v 5 = nI (dN (em1 dr v) 5) ∧ dN (em1 dr v) 5 = dN dr 5 + 1 := by
  have h1 : dN (em1 dr v) 5 = dN dr 5 + 1 := dN_nI (by omega)
  exact ⟨by rw [h1]; exact pk_us, h1⟩
theorem emL_n {dr : Nat → Int32} : ∀ (xs : List Int32), dr 5 = nI (dN dr 5) → dN dr 5 + xs.length < 2000 → emL dr xs 5 = nI (dN (emL dr xs) 5) ∧ dN (emL dr xs) 5 = dN dr 5 + xs.length := by
  intro xs
  induction xs generalizing dr with
  | nil => intro h _; exact ⟨h, rfl⟩
  | cons x xs ih =>
    intro h hb
    simp only [List.length_cons] at hb
    obtain ⟨a, b⟩ := em1_n (dr := dr) (v := x) (by omega)
    obtain ⟨c, d⟩ := ih (dr := em1 dr x) a (by omega)
    exact ⟨c, by rw [show emL dr (x :: xs) = emL (em1 dr x) xs from rfl, d, b, List.length_cons]; omega⟩
noncomputable def litS (fb : Nat → Int32) (L : Nat) (σ : PS) : PS × List Int32 := ((nmS fb L 0 9999 σ).2, ifp ((nmS fb L 0 9999 σ).2.2.1 = 0) [0, (nmS fb L 0 9999 σ).1] [])
noncomputable def px (fb : Nat → Int32) (L : Nat) : Nat → Nat → Nat → PS → PS × List Int32
  | 0, _, _, σ => (σ, [])
  | f + 1, 0, dp, σ => ifp (σ.2.1 = 0) (ifp (byt fb L (sk fb L σ.1) = 40)
      (ifp (dp = 4) ((sk fb L σ.1 + 1, -5, nI (sk fb L σ.1), σ.2.2.2), []) (exS fb L 41 (px fb L f 2 (dp + 1) (sk fb L σ.1 + 1, σ.2)).1, (px fb L f 2 (dp + 1) (sk fb L σ.1 + 1, σ.2)).2))
      (ifp (dig (byt fb L (sk fb L σ.1))) (litS fb L (sk fb L σ.1, σ.2)) (ifp (TW fb L 0 (sk fb L σ.1, σ.2)) (TS fb L 0 (sk fb L σ.1, σ.2), [1, 0]) (ifp (TW fb L 1 (sk fb L σ.1, σ.2)) (TS fb L 1 (sk fb L σ.1, σ.2), [1, 1]) (ifp (TW fb L 2 (sk fb L σ.1, σ.2)) (TS fb L 2 (sk fb L σ.1, σ.2), [1, 2]) (litS fb L (sk fb L σ.1, σ.2))))))) (σ, [])
  | f + 1, 1, dp, σ => ((px fb L f 3 dp (px fb L f 0 dp σ).1).1, (px fb L f 0 dp σ).2 ++ (px fb L f 3 dp (px fb L f 0 dp σ).1).2)
  | f + 1, 2, dp, σ => ((px fb L f 4 dp (px fb L f 1 dp σ).1).1, (px fb L f 1 dp σ).2 ++ (px fb L f 4 dp (px fb L f 1 dp σ).1).2)
  | f + 1, 3, dp, σ => ifp (σ.2.1 = 0) (ifp (byt fb L (sk fb L σ.1) = 42 ∨ byt fb L (sk fb L σ.1) = 47)
      ((px fb L f 3 dp (px fb L f 0 dp (sk fb L σ.1 + 1, σ.2)).1).1, ((px fb L f 0 dp (sk fb L σ.1 + 1, σ.2)).2 ++ ifp ((px fb L f 0 dp (sk fb L σ.1 + 1, σ.2)).1.2.1 = 0) [ifp (byt fb L (sk fb L σ.1) = 42) 4 5] []) ++ (px fb L f 3 dp (px fb L f 0 dp (sk fb L σ.1 + 1, σ.2)).1).2)
      ((sk fb L σ.1, σ.2), [])) (σ, [])
  | f + 1, _, dp, σ => ifp (σ.2.1 = 0) (ifp (byt fb L (sk fb L σ.1) = 43 ∨ byt fb L (sk fb L σ.1) = 45)
      ((px fb L f 4 dp (px fb L f 1 dp (sk fb L σ.1 + 1, σ.2)).1).1, ((px fb L f 1 dp (sk fb L σ.1 + 1, σ.2)).2 ++ ifp ((px fb L f 1 dp (sk fb L σ.1 + 1, σ.2)).1.2.1 = 0) [ifp (byt fb L (sk fb L σ.1) = 43) 2 3] []) ++ (px fb L f 4 dp (px fb L f 1 dp (sk fb L σ.1 + 1, σ.2)).1).2)
      ((sk fb L σ.1, σ.2), [])) (σ, [])
/-- a reading goes forward and makes few codes: 'one' for what reads at least a sign -/
def pxG (L : Nat) (one : Nat) (σ : PS) (r : PS × List Int32) : Prop := okS L r.1 ∧ (r.1.2.1 = 0 → σ.2.1 = 0 ∧ σ.1 + one ≤ r.1.1 ∧ r.1.1 ≤ L ∧ 2 * r.2.length + 3 * (L - r.1.1) ≤ 3 * (L - σ.1) + one)
theorem byt_lt {fb : Nat → Int32} {L p : Nat} {c : Int32} (h : byt fb L p = c) (hc : ¬ c = -1) : p < L := by
  rcases Nat.lt_or_ge p L with q | q
  · exact q
  · unfold byt at h
    rw [if_neg (by omega)] at h
    exact absurd h.symm hc
theorem px_bad {fb : Nat → Int32} {L : Nat} {σ : PS} (hb : ¬ σ.2.1 = 0) : ∀ (f kd dp : Nat), px fb L f kd dp σ = (σ, [])
  | 0, kd, dp => by simp only [px]
  | f + 1, 0, dp => by simp only [px, ifp_f hb]
  | f + 1, 1, dp => by simp only [px, px_bad hb f, List.append_nil]
  | f + 1, 2, dp => by simp only [px, px_bad hb f, List.append_nil]
  | f + 1, 3, dp => by simp only [px, ifp_f hb]
  | f + 1, kd + 4, dp => by simp only [px, ifp_f hb]
theorem pxG_bad {L one : Nat} {σ : PS} (hb : ¬ σ.2.1 = 0) (h : okS L σ) : pxG L one σ (σ, []) := ⟨h, fun q => absurd q hb⟩
theorem lit_ok {fb : Nat → Int32} {L : Nat} {σ : PS} (hL : L ≤ 900) (h : okS L σ) : pxG L 1 σ (litS fb L σ) := by
  refine ⟨okS_nm hL h, fun hg => ?_⟩
  have hg : (nmS fb L 0 9999 σ).2.2.1 = 0 := hg
  obtain ⟨g1, g2, -⟩ := nm_fwd h hg
  have g3 := (okS_nm (fb := fb) (lo := 0) (hi := 9999) hL h).1 hg
  simp only [litS, ifp_t hg]
  refine ⟨g1, g2, g3, ?_⟩
  simp only [List.length_cons, List.length_nil]
  omega
theorem word_ok {fb : Nat → Int32} {L i : Nat} {σ : PS} {x y : Int32} (hL : L ≤ 900) (hi : 2 ≤ mLen i) (h : okS L σ) (ht : TW fb L i σ) : pxG L 1 σ (TS fb L i σ, [x, y]) := by
  refine ⟨okS_TS hL h, fun hg => ?_⟩
  have hg0 : σ.2.1 = 0 := ht.1
  have hs := sk_in (fb := fb) (h.1 hg0)
  have g3 := (okS_TS (fb := fb) (i := i) hL h).1 hg
  have e := TS_yes ht
  rw [e] at g3 ⊢
  simp only at g3 ⊢
  refine ⟨hg0, by omega, g3, ?_⟩
  simp only [List.length_cons, List.length_nil]
  omega
theorem okS_sk {fb : Nat → Int32} {L : Nat} {σ : PS} (hL : L ≤ 900) (h : okS L σ) (hg : σ.2.1 = 0) : okS L (sk fb L σ.1, σ.2) := by
  have hs := sk_in (fb := fb) (h.1 hg)
  exact ⟨fun _ => hs.2, show sk fb L σ.1 ≤ 2000 by omega, h.2.2⟩
theorem okS_s1 {fb : Nat → Int32} {L : Nat} {σ : PS} {c : Int32} (hL : L ≤ 900) (h : okS L σ) (hb : byt fb L (sk fb L σ.1) = c) (hc : ¬ c = -1) : okS L (sk fb L σ.1 + 1, σ.2) := by
  have hl := byt_lt hb hc
  exact ⟨fun _ => show sk fb L σ.1 + 1 ≤ L by omega, show sk fb L σ.1 + 1 ≤ 2000 by omega, h.2.2⟩
theorem pxG_at {fb : Nat → Int32} {L : Nat} {σ : PS} {r : PS × List Int32} (h : okS L σ) (hg : σ.2.1 = 0) (q : pxG L 1 (sk fb L σ.1, σ.2) r) : pxG L 1 σ r := by
  have hs := sk_in (fb := fb) (h.1 hg)
  refine ⟨q.1, fun z => ?_⟩
  obtain ⟨q1, q2, q3, q4⟩ := q.2 z
  simp only at q2 q4
  exact ⟨hg, by omega, q3, by omega⟩
def nee (kd r : Nat) : Nat := if kd = 1 then 3 * r + 2 else if kd = 2 then 3 * r + 3 else 3 * r + 1
def onK (kd : Nat) : Nat := if kd ≤ 2 then 1 else 0
theorem px_ok {fb : Nat → Int32} {L : Nat} (hL : L ≤ 900) : ∀ (f kd dp : Nat) (σ : PS), okS L σ → (σ.2.1 = 0 → nee kd (L - σ.1) ≤ f) → pxG L (onK kd) σ (px fb L f kd dp σ) := by
  intro f
  induction f with
  | zero =>
    intro kd dp σ h hf
    by_cases hg : σ.2.1 = 0
    · have := hf hg
      unfold nee at this
      split at this <;> (try split at this) <;> omega
    · rw [px_bad hg]; exact pxG_bad hg h
  | succ f ih =>
    intro kd dp σ h hf
    by_cases hg : σ.2.1 = 0
    · have hp := h.1 hg
      have hs := sk_in (fb := fb) hp
      have hf := hf hg
      match kd with
      | 0 =>
        have hf : 3 * (L - σ.1) + 1 ≤ f + 1 := hf
        show pxG L 1 σ _
        simp only [px, ifp_t hg]
        by_cases h40 : byt fb L (sk fb L σ.1) = 40
        · have hl := byt_lt h40 (by decide)
          simp only [ifp_t h40]
          by_cases h4 : dp = 4
          · simp only [ifp_t h4]
            exact ⟨⟨fun q => absurd q (show ¬ ((-5 : Int32) = 0) by decide), show sk fb L σ.1 + 1 ≤ 2000 by omega, h.2.2⟩, fun q => absurd q (show ¬ ((-5 : Int32) = 0) by decide)⟩
          · simp only [ifp_f h4]
            have q := ih 2 (dp + 1) (sk fb L σ.1 + 1, σ.2) (okS_s1 hL h h40 (by decide)) (fun _ => by show 3 * (L - (sk fb L σ.1 + 1)) + 3 ≤ f; omega)
            refine ⟨okS_ex (by decide) hL q.1, fun z => ?_⟩
            by_cases he : (px fb L f 2 (dp + 1) (sk fb L σ.1 + 1, σ.2)).1.2.1 = 0
            · obtain ⟨q1, q2, q3, q4⟩ := q.2 he
              have q2 : sk fb L σ.1 + 1 + 1 ≤ (px fb L f 2 (dp + 1) (sk fb L σ.1 + 1, σ.2)).1.1 := q2
              have q4 : 2 * (px fb L f 2 (dp + 1) (sk fb L σ.1 + 1, σ.2)).2.length + 3 * (L - (px fb L f 2 (dp + 1) (sk fb L σ.1 + 1, σ.2)).1.1) ≤ 3 * (L - (sk fb L σ.1 + 1)) + 1 := q4
              have hs2 := sk_in (fb := fb) q3
              simp only [exS, ifp_t he] at z ⊢
              by_cases hc : byt fb L (sk fb L (px fb L f 2 (dp + 1) (sk fb L σ.1 + 1, σ.2)).1.1) = 41
              · have hl2 := byt_lt hc (by decide)
                simp only [ifp_t hc]
                exact ⟨hg, by omega, by omega, by omega⟩
              · simp only [ifp_f hc] at z
                exact absurd z (by decide)
            · simp only [exS, ifp_f he] at z
              exact absurd z he
        · simp only [ifp_f h40]
          by_cases hd : dig (byt fb L (sk fb L σ.1))
          · simp only [ifp_t hd]; exact pxG_at h hg (lit_ok hL (okS_sk hL h hg))
          · simp only [ifp_f hd]
            by_cases t0 : TW fb L 0 (sk fb L σ.1, σ.2)
            · simp only [ifp_t t0]; exact pxG_at h hg (word_ok hL (by decide) (okS_sk hL h hg) t0)
            · simp only [ifp_f t0]
              by_cases t1 : TW fb L 1 (sk fb L σ.1, σ.2)
              · simp only [ifp_t t1]; exact pxG_at h hg (word_ok hL (by decide) (okS_sk hL h hg) t1)
              · simp only [ifp_f t1]
                by_cases t2 : TW fb L 2 (sk fb L σ.1, σ.2)
                · simp only [ifp_t t2]; exact pxG_at h hg (word_ok hL (by decide) (okS_sk hL h hg) t2)
                · simp only [ifp_f t2]; exact pxG_at h hg (lit_ok hL (okS_sk hL h hg))
      | 1 =>
        have hf : 3 * (L - σ.1) + 2 ≤ f + 1 := hf
        show pxG L 1 σ _
        simp only [px]
        have q := ih 0 dp σ h (fun _ => by show 3 * (L - σ.1) + 1 ≤ f; omega)
        have r := ih 3 dp (px fb L f 0 dp σ).1 q.1 (fun z => by have := q.2 z; show 3 * (L - (px fb L f 0 dp σ).1.1) + 1 ≤ f; omega)
        refine ⟨r.1, fun z => ?_⟩
        obtain ⟨r1, r2, r3, r4⟩ := r.2 z
        obtain ⟨q1, q2, q3, q4⟩ := q.2 r1
        have r2 : (px fb L f 0 dp σ).1.1 + 0 ≤ _ := r2
        have q2 : σ.1 + 1 ≤ _ := q2
        have r4 : _ ≤ 3 * (L - (px fb L f 0 dp σ).1.1) + 0 := r4
        have q4 : _ ≤ 3 * (L - σ.1) + 1 := q4
        exact ⟨hg, by dsimp only; omega, r3, by dsimp only; rw [List.length_append]; omega⟩
      | 2 =>
        have hf : 3 * (L - σ.1) + 3 ≤ f + 1 := hf
        show pxG L 1 σ _
        simp only [px]
        have q := ih 1 dp σ h (fun _ => by show 3 * (L - σ.1) + 2 ≤ f; omega)
        have r := ih 4 dp (px fb L f 1 dp σ).1 q.1 (fun z => by have := q.2 z; show 3 * (L - (px fb L f 1 dp σ).1.1) + 1 ≤ f; omega)
        refine ⟨r.1, fun z => ?_⟩
        obtain ⟨r1, r2, r3, r4⟩ := r.2 z
        obtain ⟨q1, q2, q3, q4⟩ := q.2 r1
        have r2 : (px fb L f 1 dp σ).1.1 + 0 ≤ _ := r2
        have q2 : σ.1 + 1 ≤ _ := q2
        have r4 : _ ≤ 3 * (L - (px fb L f 1 dp σ).1.1) + 0 := r4
        have q4 : _ ≤ 3 * (L - σ.1) + 1 := q4
        exact ⟨hg, by dsimp only; omega, r3, by dsimp only; rw [List.length_append]; omega⟩
      | 3 =>
        have hf : 3 * (L - σ.1) + 1 ≤ f + 1 := hf
        show pxG L 0 σ _
        simp only [px, ifp_t hg]
        by_cases ho : byt fb L (sk fb L σ.1) = 42 ∨ byt fb L (sk fb L σ.1) = 47
        · have hl : sk fb L σ.1 < L := ho.elim (fun h => byt_lt h (by decide)) (fun h => byt_lt h (by decide))
          have hok : okS L (sk fb L σ.1 + 1, σ.2) := ho.elim (fun e => okS_s1 hL h e (by decide)) (fun e => okS_s1 hL h e (by decide))
          simp only [ifp_t ho]
          have q := ih 0 dp (sk fb L σ.1 + 1, σ.2) hok (fun _ => by show 3 * (L - (sk fb L σ.1 + 1)) + 1 ≤ f; omega)
          have r := ih 3 dp (px fb L f 0 dp (sk fb L σ.1 + 1, σ.2)).1 q.1 (fun z => by have := (q.2 z).2.1; have this : sk fb L σ.1 + 1 + 1 ≤ _ := this; show 3 * (L - (px fb L f 0 dp (sk fb L σ.1 + 1, σ.2)).1.1) + 1 ≤ f; omega)
          refine ⟨r.1, fun z => ?_⟩
          obtain ⟨r1, r2, r3, r4⟩ := r.2 z
          obtain ⟨q1, q2, q3, q4⟩ := q.2 r1
          have r2 : (px fb L f 0 dp (sk fb L σ.1 + 1, σ.2)).1.1 + 0 ≤ _ := r2
          have q2 : sk fb L σ.1 + 1 + 1 ≤ _ := q2
          have r4 : _ ≤ 3 * (L - (px fb L f 0 dp (sk fb L σ.1 + 1, σ.2)).1.1) + 0 := r4
          have q4 : _ ≤ 3 * (L - (sk fb L σ.1 + 1)) + 1 := q4
          rw [ifp_t r1]
          exact ⟨hg, by dsimp only; omega, r3, by dsimp only; rw [List.length_append, List.length_append]; simp only [List.length_cons, List.length_nil]; omega⟩
        · simp only [ifp_f ho]
          exact ⟨okS_sk hL h hg, fun _ => ⟨hg, hs.1, hs.2, by simp only [List.length_nil]; omega⟩⟩
      | kd + 4 =>
        have hf : 3 * (L - σ.1) + 1 ≤ f + 1 := by unfold nee at hf; rw [if_neg (by omega), if_neg (by omega)] at hf; exact hf
        have e1 : onK (kd + 4) = 0 := by unfold onK; rw [if_neg (by omega)]
        rw [e1]
        simp only [px, ifp_t hg]
        by_cases ho : byt fb L (sk fb L σ.1) = 43 ∨ byt fb L (sk fb L σ.1) = 45
        · have hl : sk fb L σ.1 < L := ho.elim (fun h => byt_lt h (by decide)) (fun h => byt_lt h (by decide))
          have hok : okS L (sk fb L σ.1 + 1, σ.2) := ho.elim (fun e => okS_s1 hL h e (by decide)) (fun e => okS_s1 hL h e (by decide))
          simp only [ifp_t ho]
          have q := ih 1 dp (sk fb L σ.1 + 1, σ.2) hok (fun _ => by show 3 * (L - (sk fb L σ.1 + 1)) + 2 ≤ f; omega)
          have r := ih 4 dp (px fb L f 1 dp (sk fb L σ.1 + 1, σ.2)).1 q.1 (fun z => by have := (q.2 z).2.1; have this : sk fb L σ.1 + 1 + 1 ≤ _ := this; show 3 * (L - (px fb L f 1 dp (sk fb L σ.1 + 1, σ.2)).1.1) + 1 ≤ f; omega)
          refine ⟨r.1, fun z => ?_⟩
          obtain ⟨r1, r2, r3, r4⟩ := r.2 z
          obtain ⟨q1, q2, q3, q4⟩ := q.2 r1
          have r2 : (px fb L f 1 dp (sk fb L σ.1 + 1, σ.2)).1.1 + 0 ≤ _ := r2
          have q2 : sk fb L σ.1 + 1 + 1 ≤ _ := q2
          have r4 : _ ≤ 3 * (L - (px fb L f 1 dp (sk fb L σ.1 + 1, σ.2)).1.1) + 0 := r4
          have q4 : _ ≤ 3 * (L - (sk fb L σ.1 + 1)) + 1 := q4
          rw [ifp_t r1]
          exact ⟨hg, by dsimp only; omega, r3, by dsimp only; rw [List.length_append, List.length_append]; simp only [List.length_cons, List.length_nil]; omega⟩
        · simp only [ifp_f ho]
          exact ⟨okS_sk hL h hg, fun _ => ⟨hg, hs.1, hs.2, by simp only [List.length_nil]; omega⟩⟩
    · rw [px_bad hg]; exact pxG_bad hg h
