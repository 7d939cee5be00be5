/-! BASE, part 15: the desk behind a change -/
set_option maxRecDepth 100000
theorem fresh_L {L : List Nat} {H0 : Heap} {b : va_W} (hLs : ∀ q ∈ L, q < H0.size) (hb : ∀ q ∈ b, H0.size ≤ q.1) : ∀ a ∈ b.map Prod.fst, a ∉ L := by
  intro a ha hL
  obtain ⟨x, hx, rfl⟩ := List.mem_map.mp ha
  have h1 := hb x hx
  have h2 := hLs _ hL
  omega
/-- one presentation is set: its fields 4 and 5 -/
theorem fin_set {D : va_G} {k : Nat → ClassId} {g z : Nat → Nat} {hf d d' : Nat → Int32} {H : Heap} {L : List Nat} {q pr ds b1 l1 e1 m1 b2 l2 e2 m2 : Nat} (hz : dkN g z hf d) (hq : q < dN d 1) (hdk : dk D k z hf d H) (hE : dkE L z d)
    (hag : ag d d' (fun j => j = 154 + 6 * q + 4 ∨ j = 154 + 6 * q + 5)) (h5 : isN d' (154 + 6 * q + 5) 9000)
    (hP : va_P D clA [(ds, .inr (2, [.ref (z 1), .ref b1, .ref b2, .ref (z 9), .int (d 3)])), (b1, .inr (4, [.ref l1, .int 12])), (l1, .inr (12, [.int (nI (dN d 0)), .ref e1, .int (nI (dN d 0))])), (b2, .inr (4, [.ref l2, .int 24])), (l2, .inr (12, [.int (nI (dN d 1)), .ref e2, .int (nI (dN d 1))])), (e1, .inl (k 3, m1, .inr (.inr (.inr (.inr (rfs (dN d 0) (fun j => z (16 + j)))))))), (e2, .inl (k 3, m2, .inr (.inr (.inr (.inr (rfs (dN d 1) (adp (fun j => z (32 + j)) q pr))))))), (pr, .inr (10, prF d' q))] H)
    (hnew : ∀ a ∈ [ds, b1, l1, b2, l2, e1, e2, pr], a ∉ L) (hm1 : dN d 0 ≤ m1 ∧ m1 ≤ 40000) (hm2 : dN d 1 ≤ m2 ∧ m2 ≤ 40000) :
    dk D k (mkz ds (z 1) (z 2) b1 l1 e1 b2 l2 e2 (z 9) m1 m2 (dN d 0) (dN d 1) (fun j => z (16 + j)) (adp (fun j => z (32 + j)) q pr)) hf d' H ∧
    dkE L (mkz ds (z 1) (z 2) b1 l1 e1 b2 l2 e2 (z 9) m1 m2 (dN d 0) (dN d 1) (fun j => z (16 + j)) (adp (fun j => z (32 + j)) q pr)) d' ∧
    dkN g (mkz ds (z 1) (z 2) b1 l1 e1 b2 l2 e2 (z 9) m1 m2 (dN d 0) (dN d 1) (fun j => z (16 + j)) (adp (fun j => z (32 + j)) q pr)) hf d' := by
  have hd := hz.1
  have n0 := hd.1.1.2; have n1 := hd.1.2.1.2; have n2 := hd.1.2.2.1.2
  have ok' := okD_pr hd hq hag h5
  have e0 : dN d' 0 = dN d 0 := ag_dN hag (by omega)
  have e1' : dN d' 1 = dN d 1 := ag_dN hag (by omega)
  have e2' : d' 2 = d 2 := hag 2 (by omega)
  have e3 : d' 3 = d 3 := hag 3 (by omega)
  have hx : ∀ j, 2 ≤ j → j < 22 → j ≠ 3 → ¬ (j = 154 + 6 * q + 4 ∨ j = 154 + 6 * q + 5) := fun j _ _ _ => by omega
  obtain ⟨hp0, hp0b, -⟩ := hd.2.2.2 q hq
  refine ⟨dk_new (by rw [e0]; exact n0) ?_ ?_ ?_ ?_ ?_ ?_, dkE_new (by rw [e0]; exact n0) ?_ ?_ ?_, ⟨ok', ?_, ?_⟩⟩
  · rw [e0, e1', e3]
    exact hP.sub [0, 1, 2, 3, 4] rfl
  · rw [e2']
    exact hdk.1.sub [1, 2] rfl
  · intro _
    rw [e0]
    exact hP.sub [5] rfl
  · intro _
    rw [e1']
    exact hP.sub [6] rfl
  · intro j hj
    rw [e0] at hj
    rw [ag_cr hag (fun i hi => by omega)]
    exact hdk.2.2.2.1 j hj
  · intro j hj
    rw [e1'] at hj
    by_cases hjq : j = q
    · rw [hjq, adp_s]
      exact hP.sub [7] rfl
    · rw [adp_n hjq, ag_pr hag hd hx hj (fun i hi => by omega) (by have := (hd.2.2.2 j hj).2.1; omega)]
      exact hdk.2.2.2.2 j hj
  · intro a ha
    simp only [List.mem_cons, List.not_mem_nil, or_false] at ha
    rcases ha with h | h | h | h | h | h | h | h | h | h
    · exact hnew a (by simp [h])
    · rw [h]; exact hE.1 1 (by decide)
    · rw [h]; exact hE.1 2 (by decide)
    · exact hnew a (by simp [h])
    · exact hnew a (by simp [h])
    · exact hnew a (by simp [h])
    · exact hnew a (by simp [h])
    · exact hnew a (by simp [h])
    · exact hnew a (by simp [h])
    · rw [h]; exact hE.1 9 (by decide)
  · intro j hj
    rw [e0] at hj
    exact hE.2.1 j hj
  · intro j hj
    rw [e1'] at hj
    by_cases hjq : j = q
    · rw [hjq, adp_s]; exact hnew pr (by simp)
    · rw [adp_n hjq]; exact hE.2.2 j hj
  · intro j hj
    have en : dN d' 2 = dN d 2 := ag_dN hag (by omega)
    rw [en] at hj
    rw [hag _ (by omega)]
    exact hz.2.1 j hj
  · rw [e0, e1']
    exact ⟨hm1.1, hm1.2, hm2.1, hm2.2, fun h => absurd h (by omega), fun h => absurd h (by omega)⟩
/-- the element array of a copied list -/
theorem eA_new {L : List Nat} {n e0 : Nat} {x : Nat × va_E} {b : va_W} (h : ∀ a ∈ (b ++ elO n x).map Prod.fst, a ∉ L) (hn : 0 < n) : x.1 ∉ L := h _ (by rw [elO_1 hn]; simp)
/-- a new day -/
theorem fin_pass {D : va_G} {k : Nat → ClassId} {g z : Nat → Nat} {hf d d' : Nat → Int32} {H : Heap} {L : List Nat} {ds b1 l1 e1 m1 b2 l2 e2 m2 : Nat} (hz : dkN g z hf d) (hdk : dk D k z hf d H) (hE : dkE L z d)
    (hag : ag d d' (fun j => j = 3)) (h3 : isN d' 3 9000)
    (hP : va_P D clA [(ds, .inr (2, [.ref (z 1), .ref b1, .ref b2, .ref (z 9), .int (d' 3)])), (b1, .inr (4, [.ref l1, .int 12])), (l1, .inr (12, [.int (nI (dN d 0)), .ref e1, .int (nI (dN d 0))])), (b2, .inr (4, [.ref l2, .int 24])), (l2, .inr (12, [.int (nI (dN d 1)), .ref e2, .int (nI (dN d 1))]))] H)
    (h5 : 0 < dN d 0 → va_P D clA [(e1, .inl (k 3, m1, .inr (.inr (.inr (.inr (rfs (dN d 0) (fun j => z (16 + j))))))))] H) (h8 : 0 < dN d 1 → va_P D clA [(e2, .inl (k 3, m2, .inr (.inr (.inr (.inr (rfs (dN d 1) (fun j => z (32 + j))))))))] H)
    (hnew : ∀ a ∈ [ds, b1, l1, b2, l2], a ∉ L) (hn5 : 0 < dN d 0 → e1 ∉ L) (hn8 : 0 < dN d 1 → e2 ∉ L) (hm1 : dN d 0 ≤ m1 ∧ m1 ≤ 40000 ∧ (dN d 0 = 0 → e1 = g 1 ∧ m1 = 0)) (hm2 : dN d 1 ≤ m2 ∧ m2 ≤ 40000 ∧ (dN d 1 = 0 → e2 = g 1 ∧ m2 = 0)) :
    dk D k (cpz z d ds b1 l1 e1 m1 b2 l2 e2 m2) hf d' H ∧ dkE L (cpz z d ds b1 l1 e1 m1 b2 l2 e2 m2) d' ∧ dkN g (cpz z d ds b1 l1 e1 m1 b2 l2 e2 m2) hf d' := by
  have hd := hz.1
  have n0 := hd.1.1.2; have n1 := hd.1.2.1.2; have n2 := hd.1.2.2.1.2
  have e0 : dN d' 0 = dN d 0 := ag_dN hag (by omega)
  have e1' : dN d' 1 = dN d 1 := ag_dN hag (by omega)
  have e2' : d' 2 = d 2 := hag 2 (by omega)
  have en : dN d' 2 = dN d 2 := ag_dN hag (by omega)
  have hx : ∀ j, 2 ≤ j → j < 22 → j ≠ 3 → ¬ (j = 3) := fun j _ _ h => h
  have ok' : okD d' := by
    obtain ⟨⟨a0, a1, a2, a3, a5⟩, b, c, e⟩ := hd
    refine ⟨⟨ag_isN hag (by omega) a0, ag_isN hag (by omega) a1, ag_isN hag (by omega) a2, h3, ag_isN hag (by omega) a5⟩, ?_, ?_, ?_⟩
    · intro j hj
      rw [en] at hj
      exact ag_isN hag (by omega) (b j hj)
    · intro j hj
      rw [e0] at hj
      exact ⟨ag_isN hag (by omega) (c j hj).1, ag_isN hag (by omega) (c j hj).2.1, ag_isN hag (by omega) (c j hj).2.2⟩
    · intro j hj
      rw [e1'] at hj
      obtain ⟨x1, x2, x3, x4, x5⟩ := e j hj
      refine ⟨?_, ?_, ag_isN hag (by omega) x3, ag_isN hag (by omega) x4, ag_isN hag (by omega) x5⟩
      · rw [hag _ (by omega), ag_dN hag (by omega)]; exact x1
      · rw [ag_dN hag (by omega), e0]; exact x2
  have hz5 : e1 ∉ L := by
    by_cases h : 0 < dN d 0
    · exact hn5 h
    · rw [(hm1.2.2 (by omega)).1, ← (hz.2.2.2.2.2.2.1 (by omega)).1]
      exact hE.1 5 (by decide)
  have hz8 : e2 ∉ L := by
    by_cases h : 0 < dN d 1
    · exact hn8 h
    · rw [(hm2.2.2 (by omega)).1, ← (hz.2.2.2.2.2.2.2 (by omega)).1]
      exact hE.1 8 (by decide)
  have key : ∀ (a1 a2 : Nat), a1 = dN d 0 → a2 = dN d 1 → dk D k (mkz ds (z 1) (z 2) b1 l1 e1 b2 l2 e2 (z 9) m1 m2 a1 a2 (fun j => z (16 + j)) (fun j => z (32 + j))) hf d' H := by
    intro a1 a2 ha1 ha2
    subst ha1 ha2
    refine dk_new (by rw [e0]; exact n0) ?_ ?_ ?_ ?_ ?_ ?_
    · rw [e0, e1']
      exact hP
    · rw [e2']
      exact hdk.1.sub [1, 2] rfl
    · rw [e0]
      exact h5
    · rw [e1']
      exact h8
    · intro j hj
      rw [e0] at hj
      rw [ag_cr hag (fun i hi => by omega)]
      exact hdk.2.2.2.1 j hj
    · intro j hj
      rw [e1'] at hj
      rw [ag_pr hag hd hx hj (fun i hi => by omega) (by omega)]
      exact hdk.2.2.2.2 j hj
  refine ⟨key _ _ rfl rfl, dkE_new (by rw [e0]; exact n0) ?_ ?_ ?_, ⟨ok', ?_, ?_⟩⟩
  · intro a ha
    simp only [List.mem_cons, List.not_mem_nil, or_false] at ha
    rcases ha with h | h | h | h | h | h | h | h | h | h
    · exact hnew a (by simp [h])
    · rw [h]; exact hE.1 1 (by decide)
    · rw [h]; exact hE.1 2 (by decide)
    · exact hnew a (by simp [h])
    · exact hnew a (by simp [h])
    · rw [h]; exact hz5
    · exact hnew a (by simp [h])
    · exact hnew a (by simp [h])
    · rw [h]; exact hz8
    · rw [h]; exact hE.1 9 (by decide)
  · intro j hj
    rw [e0] at hj
    exact hE.2.1 j hj
  · intro j hj
    rw [e1'] at hj
    exact hE.2.2 j hj
  · intro j hj
    rw [en] at hj
    rw [hag _ (by omega)]
    exact hz.2.1 j hj
  · rw [e0, e1']
    exact ⟨hm1.1, hm1.2.1, hm2.1, hm2.2.1, hm1.2.2, hm2.2.2⟩
