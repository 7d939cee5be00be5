/-! BASE, part 17: the desk behind a transfer -/
set_option maxRecDepth 100000
theorem tr_ag (d : Nat → Int32) (q : Nat) (am ex : Int32) : ag d (trD d q am ex) (fun j => j = 0 ∨ (22 + 11 * dN d 0 ≤ j ∧ j < 22 + 11 * dN d 0 + 11)) := by
  unfold trD
  exact ag_upd (ag_upd (ag_upd (ag_upd (ag_upd (ag_upd (ag_upd (ag_upd (ag_upd (ag_upd (ag_upd (ag_upd (ag_upd (ag_upd (ag_upd (ag_upd (ag_upd (ag_upd (ag_upd ag_rf (by omega)) (by omega)) (by omega)) (by omega)) (by omega)) (by omega)) (by omega)) (by omega)) (by omega)) (by omega)) (by omega)) (by omega)) (by omega)) (by omega)) (by omega)) (by omega)) (by omega)) (by omega)) (by omega)
theorem upd_e (f : Nat → Int32) (i j : Nat) (v : Int32) : upd f i v j = if j = i then v else f j := by
  by_cases h : j = i
  · rw [if_pos h, h, pk_us]
  · rw [if_neg h, pk_un h]
set_option maxHeartbeats 2000000 in
theorem tr_at (d : Nat → Int32) (q : Nat) (am ex : Int32) : trD d q am ex 0 = nI (dN d 0 + 1) ∧ crF (trD d q am ex) (dN d 0) = [.int (nI q), .int am, .int 0, .int 0, .int ex, .int (mn (cf d q 4) ex), .int (cf d q 5), .int (cf d q 6), .int (cf d q 9), .int (cf d q 7), .int 0] := by
  have key : ∀ (N i : Nat), i < 11 → N = 22 + 11 * dN d 0 → trD d q am ex (N + i) = if i = 10 then nI q else if i = 8 then 0 else if i = 4 then mn (cf d q 4) ex else if i = 3 then ex else if i = 2 then 0 else if i = 1 then 0 else if i = 0 then am else cf d q i := by
    intro N i hi hN
    unfold trD
    rw [← hN]
    simp only [upd_e]
    have a : ∀ m, (N + i = N + m) = (i = m) := fun m => propext ⟨fun h => by omega, fun h => by omega⟩
    have a0 : (N + i = N) = (i = 0) := propext ⟨fun h => by omega, fun h => by omega⟩
    have a1 : (N + i = 0) = False := propext ⟨fun h => by omega, fun h => h.elim⟩
    simp only [a, a0, a1]
    match i, hi with
    | 0, _ => rfl
    | 1, _ => rfl
    | 2, _ => rfl
    | 3, _ => rfl
    | 4, _ => rfl
    | 5, _ => rfl
    | 6, _ => rfl
    | 7, _ => rfl
    | 8, _ => rfl
    | 9, _ => rfl
    | 10, _ => rfl
  refine ⟨?_, ?_⟩
  · unfold trD
    rw [pk_un (by omega), pk_un (by omega), pk_un (by omega), pk_un (by omega), pk_un (by omega), pk_un (by omega), pk_un (by omega), pk_un (by omega), pk_un (by omega), pk_un (by omega), pk_un (by omega), pk_un (by omega), pk_un (by omega), pk_un (by omega), pk_un (by omega), pk_un (by omega), pk_un (by omega), pk_un (by omega), pk_us]
  · unfold crF
    have e : ∀ i, i < 11 → cf (trD d q am ex) (dN d 0) i = _ := fun i hi => key _ i hi rfl
    rw [e 10 (by decide), e 0 (by decide), e 1 (by decide), e 2 (by decide), e 3 (by decide), e 4 (by decide), e 5 (by decide), e 6 (by decide), e 9 (by decide), e 7 (by decide), e 8 (by decide)]
    rfl
theorem cr_inj {d : Nat → Int32} {c : Nat} {v0 v1 v2 v3 v4 v5 v6 v7 v8 v9 v10 : Int32} (h : crF d c = [.int v0, .int v1, .int v2, .int v3, .int v4, .int v5, .int v6, .int v7, .int v8, .int v9, .int v10]) : d (22 + 11 * c + 3) = v4 ∧ d (22 + 11 * c + 5) = v6 ∧ d (22 + 11 * c + 6) = v7 := by
  unfold crF cf at h
  simp only [List.cons.injEq, Value.int.injEq, and_true] at h
  exact ⟨h.2.2.2.2.1, h.2.2.2.2.2.2.1, h.2.2.2.2.2.2.2.1⟩
/-- a credit more -/
theorem fin_tr {D : va_G} {k : Nat → ClassId} {g z : Nat → Nat} {hf d : Nat → Int32} {H : Heap} {L : List Nat} {q cr ds b1 l1 e1 m1 b2 l2 e2 m2 : Nat} {am ex : Int32} (hz : dkN g z hf d) (hq : q < dN d 0) (h12 : dN d 0 < 12) (hex : isN (fun _ => ex) 0 999) (hdk : dk D k z hf d H) (hE : dkE L z d)
    (hP : va_P D clA [(ds, .inr (2, [.ref (z 1), .ref b1, .ref b2, .ref (z 9), .int (d 3)])), (b1, .inr (4, [.ref l1, .int 12])), (l1, .inr (12, [.int (nI (dN d 0 + 1)), .ref e1, .int (nI (dN d 0 + 1))])), (b2, .inr (4, [.ref l2, .int 24])), (l2, .inr (12, [.int (nI (dN d 1)), .ref e2, .int (nI (dN d 1))])), (e1, .inl (k 3, m1, .inr (.inr (.inr (.inr (rfs (dN d 0 + 1) (adp (fun j => z (16 + j)) (dN d 0) cr))))))), (cr, .inr (8, [.int (nI q), .int am, .int 0, .int 0, .int ex, .int (mn (cf d q 4) ex), .int (cf d q 5), .int (cf d q 6), .int (cf d q 9), .int (cf d q 7), .int 0]))] H)
    (h8 : 0 < dN d 1 → va_P D clA [(e2, .inl (k 3, m2, .inr (.inr (.inr (.inr (rfs (dN d 1) (fun j => z (32 + j))))))))] H) (hn8 : 0 < dN d 1 → e2 ∉ L)
    (hnew : ∀ a ∈ [ds, b1, l1, b2, l2, e1, cr], a ∉ L) (hm1 : dN d 0 + 1 ≤ m1 ∧ m1 ≤ 40000) (hm2 : dN d 1 ≤ m2 ∧ m2 ≤ 40000 ∧ (dN d 1 = 0 → e2 = g 1 ∧ m2 = 0)) :
    dk D k (mkz ds (z 1) (z 2) b1 l1 e1 b2 l2 e2 (z 9) m1 m2 (dN d 0 + 1) (dN d 1) (adp (fun j => z (16 + j)) (dN d 0) cr) (fun j => z (32 + j))) hf (trD d q am ex) H ∧
    dkE L (mkz ds (z 1) (z 2) b1 l1 e1 b2 l2 e2 (z 9) m1 m2 (dN d 0 + 1) (dN d 1) (adp (fun j => z (16 + j)) (dN d 0) cr) (fun j => z (32 + j))) (trD d q am ex) ∧
    dkN g (mkz ds (z 1) (z 2) b1 l1 e1 b2 l2 e2 (z 9) m1 m2 (dN d 0 + 1) (dN d 1) (adp (fun j => z (16 + j)) (dN d 0) cr) (fun j => z (32 + j))) hf (trD d q am ex) := by
  have hd := hz.1
  have n1 := hd.1.2.1.2; have n2 := hd.1.2.2.1.2
  have hag := tr_ag d q am ex
  obtain ⟨p0, hcr⟩ := tr_at d q am ex
  obtain ⟨c3, c5, c6⟩ := cr_inj hcr
  generalize trD d q am ex = d' at hag p0 hcr c3 c5 c6 ⊢
  have e0 : dN d' 0 = dN d 0 + 1 := by unfold dN at *; rw [p0, nI_clamp (by omega)]
  have e1' : dN d' 1 = dN d 1 := ag_dN hag (by omega)
  have e2' : d' 2 = d 2 := hag 2 (by omega)
  have en : dN d' 2 = dN d 2 := ag_dN hag (by omega)
  have e3 : d' 3 = d 3 := hag 3 (by omega)
  have hx : ∀ j, 2 ≤ j → j < 22 → j ≠ 3 → ¬ (j = 0 ∨ (22 + 11 * dN d 0 ≤ j ∧ j < 22 + 11 * dN d 0 + 11)) := fun j _ _ _ => by omega
  have ok' : okD d' := by
    obtain ⟨⟨a0, a1, a2, a3, a5⟩, b, c', e⟩ := hd
    refine ⟨⟨isN_v p0 (isN_nv (by omega) (by decide)), ag_isN hag (by omega) a1, ag_isN hag (by omega) a2, ag_isN hag (by omega) a3, ag_isN hag (by omega) a5⟩, ?_, ?_, ?_⟩
    · intro j hj
      rw [en] at hj
      exact ag_isN hag (by omega) (b j hj)
    · intro j hj
      rw [e0] at hj
      by_cases hjn : j = dN d 0
      · rw [hjn]
        exact ⟨isN_v c3 hex, isN_v c5 (c' q hq).2.1, isN_v c6 (c' q hq).2.2⟩
      · exact ⟨ag_isN hag (by omega) (c' j (by omega)).1, ag_isN hag (by omega) (c' j (by omega)).2.1, ag_isN hag (by omega) (c' j (by omega)).2.2⟩
    · intro j hj
      rw [e1'] at hj
      obtain ⟨x1, x2, x3, x4, x5⟩ := e j hj
      refine ⟨?_, ?_, ag_isN hag (by omega) x3, ag_isN hag (by omega) x4, ag_isN hag (by omega) x5⟩
      · rw [hag _ (by omega), ag_dN hag (by omega)]; exact x1
      · rw [ag_dN hag (by omega), e0]; exact Nat.lt_succ_of_lt x2
  have hz8 : e2 ∉ L := by
    by_cases h : 0 < dN d 1
    · exact hn8 h
    · rw [(hm2.2.2 (by omega)).1, ← (hz.2.2.2.2.2.2.2 (by omega)).1]
      exact hE.1 8 (by decide)
  refine ⟨dk_new (by rw [e0]; omega) ?_ ?_ ?_ ?_ ?_ ?_, dkE_new (by rw [e0]; omega) ?_ ?_ ?_, ⟨ok', ?_, ?_⟩⟩
  · rw [e0, e1', e3]
    exact hP.sub [0, 1, 2, 3, 4] rfl
  · rw [e2']
    exact hdk.1.sub [1, 2] rfl
  · intro _
    rw [e0]
    exact hP.sub [5] rfl
  · rw [e1']
    exact h8
  · intro j hj
    rw [e0] at hj
    by_cases hjq : j = dN d 0
    · rw [hjq, adp_s, hcr]
      exact hP.sub [6] rfl
    · rw [adp_n hjq, ag_cr hag (fun i hi => by omega)]
      exact hdk.2.2.2.1 j (by omega)
  · intro j hj
    rw [e1'] at hj
    rw [ag_pr hag hd hx hj (fun i hi => by omega) (by have := (hd.2.2.2 j hj).2.1; omega)]
    exact hdk.2.2.2.2 j hj
  · intro a ha
    simp only [List.mem_cons, List.not_mem_nil, or_false] at ha
    rcases ha with h | h | h | h | h | h | h | h | h | h
    · exact hnew a (by simp [h])
    · rw [h]; exact hE.1 1 (by decide)
    · rw [h]; exact hE.1 2 (by decide)
    · exact hnew a (by simp [h])
    · exact hnew a (by simp [h])
    · exact hnew a (by simp [h])
    · exact hnew a (by simp [h])
    · exact hnew a (by simp [h])
    · rw [h]; exact hz8
    · rw [h]; exact hE.1 9 (by decide)
  · intro j hj
    rw [e0] at hj
    by_cases hjq : j = dN d 0
    · rw [hjq, adp_s]; exact hnew cr (by simp)
    · rw [adp_n hjq]; exact hE.2.1 j (by omega)
  · intro j hj
    rw [e1'] at hj
    exact hE.2.2 j hj
  · intro j hj
    rw [en] at hj
    rw [hag _ (by omega)]
    exact hz.2.1 j hj
  · rw [e0, e1']
    exact ⟨hm1.1, hm1.2, hm2.1, hm2.2.1, fun h => absurd h (by omega), hm2.2.2⟩
