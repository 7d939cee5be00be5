/-! BASE, part 31: a fee's tree while others are written; what the whole text gives -/
set_option maxRecDepth 100000
def feB (g : Nat → Nat) (lo hi n : Nat) (F : FeF) (z : Nat) (H : Heap) : Prop := ∀ H1 : Heap, (∀ q : Nat, lo ≤ q → q < hi → H1[q]? = H[q]?) → feW g lo n F z H1
theorem feB_of {g : Nat → Nat} {lo n : Nat} {F : FeF} {z : Nat} {H : Heap} (h : feW g lo n F z H) : feB g lo H.size n F z H := fun _ hk => feW_kept (fun q a b => hk q a b) h
theorem feB_W {g : Nat → Nat} {lo hi n : Nat} {F : FeF} {z : Nat} {H : Heap} (h : feB g lo hi n F z H) : feW g lo n F z H := h H (fun _ _ _ => rfl)
theorem feB_k {g : Nat → Nat} {lo hi n : Nat} {F : FeF} {z : Nat} {H H1 : Heap} (h : feB g lo hi n F z H) (hk : ∀ q : Nat, lo ≤ q → q < hi → H1[q]? = H[q]?) : feB g lo hi n F z H1 := fun H2 h2 => h H2 (fun q a b => (h2 q a b).trans (hk q a b))
theorem feB_call {g : Nat → Nat} {lo hi n : Nat} {F : FeF} {z : Nat} {H H1 : Heap} {w1 : va_W} (h : feB g lo hi n F z H) (hhi : hi ≤ H.size) (hw : ∀ q, inL w1 q → q < lo ∨ hi ≤ q) (hk : ∀ q : Nat, q < H.size → ¬ inL w1 q → H1[q]? = H[q]?) : feB g lo hi n F z H1 :=
  feB_k h (fun q a b => hk q (by omega) (fun z => by have := hw q z; omega))
theorem feB_0 {g : Nat → Nat} {lo hi n : Nat} {H : Heap} : feB g lo hi n (fun a _ _ => a / 1000) (g 4) H := by
  intro H1 _
  cases n with
  | zero => exact Or.inl ⟨rfl, rfl⟩
  | succ n => exact Or.inl (Or.inl ⟨rfl, rfl⟩)
theorem feW_lo {g : Nat → Nat} {lo lo' : Nat} {H : Heap} (h : lo' ≤ lo) : ∀ {n : Nat} {F : FeF} {z : Nat}, feW g lo n F z H → feW g lo' n F z H := by
  have hL : ∀ {F : FeF} {z : Nat}, feWL g lo F z H → feWL g lo' F z H := by
    intro F z q
    rcases q with q | q | q | q | ⟨hz, q⟩
    · exact Or.inl q
    · exact Or.inr (Or.inl q)
    · exact Or.inr (Or.inr (Or.inl q))
    · exact Or.inr (Or.inr (Or.inr (Or.inl q)))
    · exact Or.inr (Or.inr (Or.inr (Or.inr ⟨Nat.le_trans h hz, q⟩)))
  intro n
  induction n with
  | zero => intro F z q; exact hL q
  | succ n ih =>
    intro F z q
    rcases q with q | ⟨hz, cell, zl, zr, o, Fl, Fr, h1, h2, h3, h4, h5, h6, h7⟩
    · exact Or.inl (hL q)
    · exact Or.inr ⟨Nat.le_trans h hz, cell, zl, zr, o, Fl, Fr, h1, h2, h3, h4, ih h5, ih h6, h7⟩
theorem inL_6 {a b c d e f : Nat} {x1 x2 x3 x4 x5 x6 : va_E} {sg : va_W} {q : Nat} (h : inL ((a, x1) :: (b, x2) :: (c, x3) :: (d, x4) :: (e, x5) :: (f, x6) :: sg) q) : q ∈ [a, b, c, d, e, f] ∨ inL sg q := by
  simp only [inL, List.map_cons, List.mem_cons, List.not_mem_nil, or_false] at h ⊢
  rcases h with h | h | h | h | h | h | h <;> simp [h]
theorem inL_1 {a : Nat} {x : va_E} {q : Nat} (h : inL [(a, x)] q) : q = a := List.mem_singleton.mp h
/-- the fee that the codes stand for -/
def fI (d : Nat → Int32) (se : Int32) (F : FeF) : Prop := (d 4 = 0 ∧ ¬ onceP se ∧ F = fun a _ _ => a / 1000) ∨ (d 4 = 1 ∧ onceP se ∧ dnt (codes d) F)
theorem fI_same {d d' : Nat → Int32} {se : Int32} {F : FeF} (h : fI d se F) (e : ∀ i, i = 4 ∨ i = 5 ∨ 298 ≤ i → d' i = d i) : fI d' se F := by
  rcases h with ⟨h1, h2⟩ | ⟨h1, h2, h3⟩
  · exact Or.inl ⟨(e 4 (Or.inl rfl)).trans h1, h2⟩
  · exact Or.inr ⟨(e 4 (Or.inl rfl)).trans h1, h2, by rw [codes_cg (d := d) (fun i hi => e i (Or.inr hi))]; exact h3⟩
theorem byt_no {fb : Nat → Int32} {L x : Nat} (hf : okF fb) (h : x < L) : ¬ byt fb L x = -1 := by
  obtain ⟨n, hn, e⟩ := hf x
  rw [byt_in h, e]
  have key : ∀ n, n < 256 → ¬ nI n = -1 := by decide +kernel
  exact key n hn
theorem once_0 : ¬ onceP 0 := by unfold onceP; decide
theorem cs_L {fb : Nat → Int32} {L : Nat} {dr : Nat → Int32} {se : Int32} {σ : PS} (hL : L ≤ 900) (hok : okS L σ) (h0 : σ.2.1 = 0) : σ.1 + cst (L + 2) σ (stS fb L dr se σ).1 ≤ L + 4 ∧ ((stS fb L dr se σ).1.2.1 = 0 → cst (L + 2) σ (stS fb L dr se σ).1 = (stS fb L dr se σ).1.1 - σ.1 ∧ σ.1 < (stS fb L dr se σ).1.1) := by
  have hp := hok.1 h0
  have q := fwd_st (fb := fb) (dr := dr) (se := se) hL hok h0
  by_cases hz : (stS fb L dr se σ).1.2.1 = 0
  · have a := q.2 hz
    have b := q.1.1 hz
    rw [cst_g hz]
    exact ⟨by omega, fun _ => ⟨rfl, a⟩⟩
  · rw [cst_b hz]
    exact ⟨by omega, fun z => absurd z hz⟩
theorem ldF_end {fb : Nat → Int32} {L n : Nat} {σ : PS} {dr : Nat → Int32} {se : Int32} (hg : σ.2.1 = 0) (hb : byt fb L (sk fb L σ.1) = -1) : ldF fb L (n + 1) σ dr se = ((sk fb L σ.1, σ.2), dr, se) := by simp only [ldF, ifp_t hg, ifp_t hb]
theorem ldF_bad {fb : Nat → Int32} {L n : Nat} {σ : PS} {dr : Nat → Int32} {se : Int32} (hg : ¬ σ.2.1 = 0) : ldF fb L n σ dr se = (σ, dr, se) := by
  cases n with
  | zero => rfl
  | succ n => simp only [ldF, ifp_f hg]
section AFTER31
variable {p : Program} {l : Launch} {e : Env} {R : Room} {s : State} {m : MethodId} {args : Array Value} {below : List Frame} {meth : Method} {c : Code} {H : Heap} {locs : List Loc} {cells slots : Nat} {Q : State → Prop}
variable {pc : Nat} {ls : Array Slot} {rest st0 : List Value} {D : va_G} {A : Nat → Prop} {H0 : Heap}
variable {mc ms : Nat} {a0 : Array Value} {X : Type} {vv : X → Option Value} {B : X → Heap → Prop} {ws1 : X → va_W} {w1 w2 : va_W} {thr : String → Addr → Heap → Prop}
/-- as u_after; the cells that came back are live ones or new -/
theorem u_afterN (hr : vy_Run p l e R s m args below meth c H locs cells slots mc ms (F0 m pc ls st0) rest (jQ D vv B ws1 (inL w1) a0) (uX thr (inL w1)) (inL w1)) (hP : va_P D clA (w1 ++ w2) H) (hD : va_D A (w1 ++ w2)) (hS : va_S A H0 H locs) (hA : ∀ q, H0.size ≤ q → A q)
    (kx : ∀ (E : String) (ce : Cell) (q9 : Addr) (H1 : Heap) (locs1 : List Loc), thr E q9 H1 → va_S A H0 H1 locs1 → H.size ≤ H1.size → (∀ q : Nat, q < H.size → ¬ inL w1 q → H1[q]? = H[q]?) → H1[q9]? = some ce → ce.vm = .none → s.vm.findClass E = some ce.cls → vy_W p l e R s m args below meth c H1 locs1 (cells + mc) (slots + ms) Q (F0 m pc ls rest) q9)
    (kk : ∀ (x : X) (H1 : Heap) (locs1 : List Loc), va_D (NA (inL w1) H) (ws1 x) → B x H1 → va_P D clA (ws1 x ++ w2) H1 → va_D A (ws1 x ++ w2) → va_S A H0 H1 locs1 → H.size ≤ H1.size → (∀ q : Nat, q < H.size → ¬ inL w1 q → H1[q]? = H[q]?) → W p l e R s m args below meth c H1 locs1 (cells + mc) (slots + ms) Q (F0 m (pc + 3) ls ((vv x).toList ++ rest))) : W p l e R s m args below meth c H locs cells slots Q (F0 m pc ls st0) := by
  intro T hT X
  rcases hr T hT X with ⟨v', st₀, t, T', L, h0, X', hL, e1, e2, ⟨x, hv, hB, hPn, hDn, hz, hk⟩, st⟩ | ⟨q, st₀, t, T', L, E, ce, h0, X', hL, e1, e2, ⟨hth, hz, hk⟩, hce, hcv, hcl, st⟩
  · cases hv
    rw [h0] at hz hk hDn
    rw [← e1] at hz hk hPn hB
    obtain ⟨t2, a1, b1⟩ := kk x T'.heap (locs ++ L) hDn hB (P_join hP hD hk hPn) (D_join hP hD hS hA hDn) (S_join hD hS hz hk hL) hz hk T' rfl X'
    exact ⟨t2, st t2 a1, b1⟩
  · rw [h0] at hz hk
    rw [← e1] at hz hk hce hth
    obtain ⟨t2, a1, b1⟩ := kx E ce q T'.heap (locs ++ L) hth (S_join hD hS hz hk hL) hz hk hce hcv hcl T' rfl X'
    exact ⟨t2, st.trans a1, b1⟩
end AFTER31
