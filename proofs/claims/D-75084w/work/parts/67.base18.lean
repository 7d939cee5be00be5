/-! BASE, part 18: what the changed presentation looks like; new cells are none of L -/
set_option maxRecDepth 100000
theorem fr_lit {L : List Nat} {b t : va_W} (h : ∀ a ∈ (b ++ t).map Prod.fst, a ∉ L) : ∀ a ∈ b.map Prod.fst, a ∉ L := fun a ha => h a (by rw [List.map_append]; exact List.mem_append_left _ ha)
theorem fr_1 {L : List Nat} {b t : va_W} {n : Nat} {x : Nat × va_E} (h : ∀ a ∈ (b ++ (elO n x ++ t)).map Prod.fst, a ∉ L) (hn : 0 < n) : x.1 ∉ L := h _ (by rw [elO_1 hn]; simp)
theorem fr_2 {L : List Nat} {b t : va_W} {n : Nat} {x : Nat × va_E} (h : ∀ a ∈ (b ++ (t ++ elO n x)).map Prod.fst, a ∉ L) (hn : 0 < n) : x.1 ∉ L := h _ (by rw [elO_1 hn]; simp)
theorem fr_t {L : List Nat} {b : va_W} {n : Nat} {x : Nat × va_E} (h : ∀ a ∈ (b ++ elO n x).map Prod.fst, a ∉ L) (hn : 0 < n) : x.1 ∉ L := h _ (by rw [elO_1 hn]; simp)
theorem ref_ag (d : Nat → Int32) (q : Nat) : ag d (refD d q) (fun j => j = 154 + 6 * q + 4 ∨ j = 154 + 6 * q + 5) := ag_upd ag_rf (Or.inl rfl)
theorem hon_ag (d : Nat → Int32) (q : Nat) : ag d (honD d q) (fun j => j = 154 + 6 * q + 4 ∨ j = 154 + 6 * q + 5) := ag_upd (ag_upd ag_rf (Or.inl rfl)) (Or.inr rfl)
theorem exa_ag (d : Nat → Int32) (q : Nat) : ag d (exaD d q) (fun j => j = 154 + 6 * q + 4 ∨ j = 154 + 6 * q + 5) := by
  unfold exaD
  rcases Classical.em (honP d q) with h | h
  · rw [ifp_t h]; exact hon_ag d q
  · rw [ifp_f h]; exact ag_upd ag_rf (Or.inl rfl)
theorem pr4 {d d' : Nat → Int32} {q : Nat} (hag : ag d d' (fun j => j = 154 + 6 * q + 4 ∨ j = 154 + 6 * q + 5)) {st du : Int32} (h4 : pf d' q 4 = st) (hdu : due d' q = du) : prF d' q = [.int (pf d q 0), .int (pf d q 1), .int (pf d q 2), .int (pf d q 3), .int st, .int du] := by
  have e : ∀ i, i < 4 → pf d' q i = pf d q i := fun i hi => hag _ (by omega)
  unfold prF
  rw [e 0 (by decide), e 1 (by decide), e 2 (by decide), e 3 (by decide), h4, hdu]
theorem due_n2 {d : Nat → Int32} {q : Nat} {st : Int32} (h : pf d q 4 = st) (h2 : st ≠ 2) : due d q = -1 := by
  unfold due
  rw [if_neg (by rw [h]; exact h2)]
theorem ref_pr (d : Nat → Int32) (q : Nat) : prF (refD d q) q = [.int (pf d q 0), .int (pf d q 1), .int (pf d q 2), .int (pf d q 3), .int 3, .int (-1)] := pr4 (ref_ag d q) (st := 3) pk_us (due_n2 (st := 3) pk_us (by decide))
theorem ref_5 {d : Nat → Int32} (hd : okD d) {q : Nat} (hq : q < dN d 1) : isN (refD d q) (154 + 6 * q + 5) 9000 := isN_un (by omega) (hd.2.2.2 q hq).2.2.2.2
abbrev dueN (d : Nat → Int32) (q : Nat) : Nat := dN d 3 + dN d (22 + 11 * dN d (154 + 6 * q) + 6)
theorem hon_4 (d : Nat → Int32) (q : Nat) : pf (honD d q) q 4 = 2 := by
  unfold pf honD
  rw [pk_un (by omega), pk_us]
theorem hon_due {d : Nat → Int32} (hd : okD d) {q : Nat} (hq : q < dN d 1) : due (honD d q) q = nI (ext d (dueN d q)) := by
  have hag := hon_ag d q
  have hb := (hd.2.2.2 q hq).2.1
  have n0 := hd.1.1.2
  unfold due
  rw [if_pos (hon_4 d q), ag_dN hag (j := 154 + 6 * q) (by omega), ag_dN hag (j := 22 + 11 * dN d (154 + 6 * q) + 6) (by omega), ag_ext hag hd (fun j _ _ _ => by omega)]
  have e : dN (honD d q) (154 + 6 * q + 5) = dN d 3 := by unfold dN honD; rw [pk_us]
  rw [e]
theorem hon_pr {d : Nat → Int32} (hd : okD d) {q : Nat} (hq : q < dN d 1) : prF (honD d q) q = [.int (pf d q 0), .int (pf d q 1), .int (pf d q 2), .int (pf d q 3), .int 2, .int (nI (ext d (dueN d q)))] := pr4 (hon_ag d q) (hon_4 d q) (hon_due hd hq)
theorem hon_5 {d : Nat → Int32} (hd : okD d) {q : Nat} : isN (honD d q) (154 + 6 * q + 5) 9000 := isN_v (by unfold honD; exact pk_us) (by have h := hd.1.2.2.2.1; unfold isN dN at *; exact h)
theorem exa_pr {d : Nat → Int32} (hd : okD d) {q : Nat} (hq : q < dN d 1) : prF (exaD d q) q = [.int (pf d q 0), .int (pf d q 1), .int (pf d q 2), .int (pf d q 3), .int (ifp (honP d q) 2 1), .int (ifp (honP d q) (nI (ext d (dueN d q))) (-1))] := by
  rcases Classical.em (honP d q) with h | h
  · unfold exaD
    rw [ifp_t h, ifp_t h, ifp_t h]
    exact hon_pr hd hq
  · have e : exaD d q = upd d (154 + 6 * q + 4) 1 := ifp_f h
    have hag := exa_ag d q
    rw [e] at hag ⊢
    rw [ifp_f h, ifp_f h]
    exact pr4 hag (st := 1) pk_us (due_n2 (st := 1) pk_us (by decide))
theorem exa_5 {d : Nat → Int32} (hd : okD d) {q : Nat} (hq : q < dN d 1) : isN (exaD d q) (154 + 6 * q + 5) 9000 := by
  unfold exaD
  rcases Classical.em (honP d q) with h | h
  · rw [ifp_t h]; exact hon_5 hd
  · rw [ifp_f h]; exact isN_un (by omega) (hd.2.2.2 q hq).2.2.2.2
theorem pass_3 {d : Nat → Int32} (hd : okD d) {x : Int32} (h1 : inR x 1 365) (h2 : ¬ 9000 < d 3 + x) : isN (upd d 3 (d 3 + x)) 3 9000 := by
  obtain ⟨e3, n3⟩ := hd.1.2.2.2.1
  obtain ⟨j, hj, rfl⟩ := nI_of2 (n := 365) (x := x) rfl (Int32.not_lt.mpr (Int32.le_trans (by decide) h1.1)) h1.2
  rw [e3, nI_add] at h2 ⊢
  exact isN_nI (nI_nlt' (a := 9000) h2 (by decide) (by omega)) (by decide)
/-- the state of the argument, of the desk, for a transfer -/
def trA (d : Nat → Int32) (x am ex : Int32) : Prop := ¬ inR am 1 999999 ∨ ¬ inR ex 0 999 ∨ cf d (ci x) 3 < ex
def trS (d : Nat → Int32) (x am : Int32) : Prop := (cf d (ci x) 8 = 0 ∨ avail d (ci x) < am ∨ (cf d (ci x) 7 = 0 ∧ ¬ transf d x = 0)) ∨ d 0 = 12
theorem trA_i {d : Nat → Int32} (hd : okD d) {x am ex : Int32} (hc : ci x < dN d 0) : (inR am 1 999999 ∧ inR ex 0 (cf d (ci x) 3)) ↔ ¬ trA d x am ex := by
  have h3 := (hd.2.2.1 _ hc).1
  have h999 : cf d (ci x) 3 ≤ 999 := by
    show d (22 + 11 * ci x + 3) ≤ 999
    rw [h3.1]
    exact (nI_leI (b := 999) (by have := h3.2; omega) (by decide)).mpr h3.2
  unfold trA inR
  constructor
  · intro h z
    rcases z with z | z | z
    · exact z h.1
    · exact z ⟨h.2.1, Int32.le_trans h.2.2 h999⟩
    · exact absurd z (Int32.not_lt.mpr h.2.2)
  · intro h
    refine ⟨Classical.not_not.mp fun z => h (Or.inl z), ?_, Int32.not_lt.mp fun z => h (Or.inr (Or.inr z))⟩
    exact (Classical.not_not.mp fun z => h (Or.inr (Or.inl z))).1
theorem ex_n {d : Nat → Int32} {x am ex : Int32} (h : ¬ trA d x am ex) : isN (fun _ => ex) 0 999 := by
  have h2 : inR ex 0 999 := Classical.not_not.mp fun z => h (Or.inr (Or.inl z))
  obtain ⟨j, hj, rfl⟩ := nI_of2 (n := 999) (x := ex) rfl (Int32.not_lt.mpr h2.1) h2.2
  exact isN_nv hj (by decide)
