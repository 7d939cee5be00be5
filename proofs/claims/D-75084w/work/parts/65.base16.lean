/-! BASE, part 16: the desk behind an addition -/
set_option maxRecDepth 100000
theorem pick_or (P : Prop) (x : Int32) : pick P x = (if bI P = 1 then x else 0) := by
  rcases bI_or (P := P) with ⟨h, e⟩ | ⟨h, e⟩
  · rw [pick_t h, e, if_pos rfl]
  · rw [pick_f h, e, if_neg (by decide)]
theorem or7 : ∀ b1 b2 b3 b4 b5 b6 b7 : Bool, isN (fun _ => (0 : Int32) ||| (if b1 then 1 else 0) ||| (if b2 then 2 else 0) ||| (if b3 then 4 else 0) ||| (if b4 then 8 else 0) ||| (if b5 then 16 else 0) ||| (if b6 then 32 else 0) ||| (if b7 then 64 else 0)) 0 127 := by
  unfold isN dN
  decide +kernel
theorem pick_b (P : Prop) (x : Int32) : ∃ b : Bool, pick P x = if b then x else 0 := by
  rcases Classical.em P with h | h
  · exact ⟨true, by rw [pick_t h]; rfl⟩
  · exact ⟨false, by rw [pick_f h]; rfl⟩
theorem faults_n (d : Nat → Int32) (c x : Nat) (am dc ins : Int32) : isN (fun _ => faults d c x am dc ins) 0 127 := by
  unfold faults
  obtain ⟨b1, h1⟩ := pick_b (cf d c 4 < nI x) 1
  obtain ⟨b2, h2⟩ := pick_b (lastD d c x < d 3) 2
  obtain ⟨b3, h3⟩ := pick_b (avail d c < am) 4
  obtain ⟨b4, h4⟩ := pick_b (cf d c 7 = 0 ∧ (am < least d c ∨ others d (nI c))) 8
  obtain ⟨b5, h5⟩ := pick_b (¬ cf d c 9 &&& (dc ^^^ (-1)) = 0) 16
  obtain ⟨b6, h6⟩ := pick_b ((cf d c 9 >>> ((7 : Int32) &&& 31)) &&& 1 = 1 ∧ ins < am + am / 10) 32
  obtain ⟨b7, h7⟩ := pick_b (d 3 < nI x) 64
  rw [h1, h2, h3, h4, h5, h6, h7]
  exact or7 b1 b2 b3 b4 b5 b6 b7
theorem isN_v {d : Nat → Int32} {j b : Nat} {v : Int32} (h : d j = v) (hv : isN (fun _ => v) 0 b) : isN d j b := by
  unfold isN dN at *
  rw [h]
  exact hv
theorem isN_nv {n b : Nat} (h : n ≤ b) (hb : b < 2 ^ 31) : isN (fun _ => nI n) 0 b := by
  unfold isN dN
  rw [nI_clamp (by omega)]
  exact ⟨rfl, h⟩
theorem pre_ag (d : Nat → Int32) (c : Nat) (am fl : Int32) : ag d (preD d c am fl) (fun j => j = 1 ∨ (154 + 6 * dN d 1 ≤ j ∧ j < 154 + 6 * dN d 1 + 6)) := by
  unfold preD
  exact ag_upd (ag_upd (ag_upd (ag_upd (ag_upd (ag_upd (ag_upd ag_rf (by omega)) (by omega)) (by omega)) (by omega)) (by omega)) (by omega)) (by omega)
theorem pre_at (d : Nat → Int32) (c : Nat) (am fl : Int32) : preD d c am fl 1 = nI (dN d 1 + 1) ∧ preD d c am fl (154 + 6 * dN d 1) = nI c ∧ preD d c am fl (154 + 6 * dN d 1 + 1) = d 3 ∧ preD d c am fl (154 + 6 * dN d 1 + 2) = am ∧ preD d c am fl (154 + 6 * dN d 1 + 3) = fl ∧ preD d c am fl (154 + 6 * dN d 1 + 4) = 0 ∧ preD d c am fl (154 + 6 * dN d 1 + 5) = 0 := by
  unfold preD
  refine ⟨?_, ?_, ?_, ?_, ?_, ?_, ?_⟩
  · rw [pk_un (by omega), pk_un (by omega), pk_un (by omega), pk_un (by omega), pk_un (by omega), pk_un (by omega), pk_us]
  · rw [pk_un (by omega), pk_un (by omega), pk_un (by omega), pk_un (by omega), pk_un (by omega), pk_us]
  · rw [pk_un (by omega), pk_un (by omega), pk_un (by omega), pk_un (by omega), pk_us]
  · rw [pk_un (by omega), pk_un (by omega), pk_un (by omega), pk_us]
  · rw [pk_un (by omega), pk_un (by omega), pk_us]
  · rw [pk_un (by omega), pk_us]
  · rw [pk_us]
/-- a presentation more -/
theorem fin_pre {D : va_G} {k : Nat → ClassId} {g z : Nat → Nat} {hf d : Nat → Int32} {H : Heap} {L : List Nat} {c pr ds b1 l1 e1 m1 b2 l2 e2 m2 : Nat} {am fl : Int32} (hz : dkN g z hf d) (hc : c < dN d 0) (h24 : dN d 1 < 24) (hfl : isN (fun _ => fl) 0 127) (hdk : dk D k z hf d H) (hE : dkE L z d)
    (hP : va_P D clA [(ds, .inr (2, [.ref (z 1), .ref b1, .ref b2, .ref (z 9), .int (d 3)])), (b1, .inr (4, [.ref l1, .int 12])), (l1, .inr (12, [.int (nI (dN d 0)), .ref e1, .int (nI (dN d 0))])), (b2, .inr (4, [.ref l2, .int 24])), (l2, .inr (12, [.int (nI (dN d 1 + 1)), .ref e2, .int (nI (dN d 1 + 1))])), (e1, .inl (k 3, m1, .inr (.inr (.inr (.inr (rfs (dN d 0) (fun j => z (16 + j)))))))), (e2, .inl (k 3, m2, .inr (.inr (.inr (.inr (rfs (dN d 1 + 1) (adp (fun j => z (32 + j)) (dN d 1) pr))))))), (pr, .inr (10, [.int (nI c), .int (d 3), .int am, .int fl, .int 0, .int (-1)]))] H)
    (hnew : ∀ a ∈ [ds, b1, l1, b2, l2, e1, e2, pr], a ∉ L) (hm1 : dN d 0 ≤ m1 ∧ m1 ≤ 40000) (hm2 : dN d 1 + 1 ≤ m2 ∧ m2 ≤ 40000) :
    dk D k (mkz ds (z 1) (z 2) b1 l1 e1 b2 l2 e2 (z 9) m1 m2 (dN d 0) (dN d 1 + 1) (fun j => z (16 + j)) (adp (fun j => z (32 + j)) (dN d 1) pr)) hf (preD d c am fl) H ∧
    dkE L (mkz ds (z 1) (z 2) b1 l1 e1 b2 l2 e2 (z 9) m1 m2 (dN d 0) (dN d 1 + 1) (fun j => z (16 + j)) (adp (fun j => z (32 + j)) (dN d 1) pr)) (preD d c am fl) ∧
    dkN g (mkz ds (z 1) (z 2) b1 l1 e1 b2 l2 e2 (z 9) m1 m2 (dN d 0) (dN d 1 + 1) (fun j => z (16 + j)) (adp (fun j => z (32 + j)) (dN d 1) pr)) hf (preD d c am fl) := by
  have hd := hz.1
  have n0 := hd.1.1.2; have n2 := hd.1.2.2.1.2
  have hag := pre_ag d c am fl
  obtain ⟨p1, q0, q1, q2, q3, q4, q5⟩ := pre_at d c am fl
  generalize preD d c am fl = d' at hag p1 q0 q1 q2 q3 q4 q5 ⊢
  have e0 : dN d' 0 = dN d 0 := ag_dN hag (by omega)
  have e1' : dN d' 1 = dN d 1 + 1 := by unfold dN at *; rw [p1, nI_clamp (by omega)]
  have e2' : d' 2 = d 2 := hag 2 (by omega)
  have en : dN d' 2 = dN d 2 := ag_dN hag (by omega)
  have e3 : d' 3 = d 3 := hag 3 (by omega)
  have hx : ∀ j, 2 ≤ j → j < 22 → j ≠ 3 → ¬ (j = 1 ∨ (154 + 6 * dN d 1 ≤ j ∧ j < 154 + 6 * dN d 1 + 6)) := fun j _ _ _ => by omega
  have hdue : due d' (dN d 1) = -1 := by
    unfold due pf
    rw [q4, if_neg (by decide)]
  have hpr : prF d' (dN d 1) = [.int (nI c), .int (d 3), .int am, .int fl, .int 0, .int (-1)] := by
    show [Value.int (d' (154 + 6 * dN d 1)), .int (d' (154 + 6 * dN d 1 + 1)), .int (d' (154 + 6 * dN d 1 + 2)), .int (d' (154 + 6 * dN d 1 + 3)), .int (d' (154 + 6 * dN d 1 + 4)), .int (due d' (dN d 1))] = _
    rw [q0, q1, q2, q3, q4, hdue]
  have ok' : okD d' := by
    obtain ⟨⟨a0, a1, a2, a3, a5⟩, b, c', e⟩ := hd
    refine ⟨⟨ag_isN hag (by omega) a0, isN_v p1 (isN_nv (by omega) (by decide)), ag_isN hag (by omega) a2, ag_isN hag (by omega) a3, ag_isN hag (by omega) a5⟩, ?_, ?_, ?_⟩
    · intro j hj
      rw [en] at hj
      exact ag_isN hag (by omega) (b j hj)
    · intro j hj
      rw [e0] at hj
      exact ⟨ag_isN hag (by omega) (c' j hj).1, ag_isN hag (by omega) (c' j hj).2.1, ag_isN hag (by omega) (c' j hj).2.2⟩
    · intro j hj
      rw [e1'] at hj
      by_cases hjn : j = dN d 1
      · rw [hjn]
        have ec : dN d' (154 + 6 * dN d 1) = c := by unfold dN at *; rw [q0, nI_clamp (by omega)]
        refine ⟨by rw [ec]; exact q0, by rw [ec, e0]; exact hc, isN_v q1 ?_, isN_v q3 hfl, isN_v q5 (isN_nv (n := 0) (by decide) (by decide))⟩
        unfold isN dN at a3 ⊢
        exact a3
      · obtain ⟨x1, x2, x3, x4, x5⟩ := e j (by omega)
        refine ⟨?_, ?_, ag_isN hag (by omega) x3, ag_isN hag (by omega) x4, ag_isN hag (by omega) x5⟩
        · rw [hag _ (by omega), ag_dN hag (by omega)]; exact x1
        · rw [ag_dN hag (by omega), e0]; exact x2
  refine ⟨dk_new (by rw [e0]; exact n0) ?_ ?_ ?_ ?_ ?_ ?_, dkE_new (by rw [e0]; exact n0) ?_ ?_ ?_, ⟨ok', ?_, ?_⟩⟩
  · rw [e0, e1', e3]
    exact hP.sub [0, 1, 2, 3, 4] rfl
  · rw [e2']
    exact hdk.1.sub [1, 2] rfl
  · intro _
    rw [e0]
    exact hP.sub [5] rfl
  · intro _
    rw [e1']
    exact hP.sub [6] rfl
  · intro j hj
    rw [e0] at hj
    rw [ag_cr hag (fun i hi => by omega)]
    exact hdk.2.2.2.1 j hj
  · intro j hj
    rw [e1'] at hj
    by_cases hjq : j = dN d 1
    · rw [hjq, adp_s, hpr]
      exact hP.sub [7] rfl
    · rw [adp_n hjq, ag_pr hag hd hx (by omega) (fun i hi => by omega) (by have := (hd.2.2.2 j (by omega)).2.1; omega)]
      exact hdk.2.2.2.2 j (by omega)
  · intro a ha
    simp only [List.mem_cons, List.not_mem_nil, or_false] at ha
    rcases ha with h | h | h | h | h | h | h | h | h | h
    · exact hnew a (by simp [h])
    · rw [h]; exact hE.1 1 (by decide)
    · rw [h]; exact hE.1 2 (by decide)
    · exact hnew a (by simp [h])
    · exact hnew a (by simp [h])
    · exact hnew a (by simp [h])
    · exact hnew a (by simp [h])
    · exact hnew a (by simp [h])
    · exact hnew a (by simp [h])
    · rw [h]; exact hE.1 9 (by decide)
  · intro j hj
    rw [e0] at hj
    exact hE.2.1 j hj
  · intro j hj
    rw [e1'] at hj
    by_cases hjq : j = dN d 1
    · rw [hjq, adp_s]; exact hnew pr (by simp)
    · rw [adp_n hjq]; exact hE.2.2 j (by omega)
  · intro j hj
    rw [en] at hj
    rw [hag _ (by omega)]
    exact hz.2.1 j hj
  · rw [e0, e1']
    exact ⟨hm1.1, hm1.2, hm2.1, hm2.2, fun h => absurd h (by omega), fun h => absurd h (by omega)⟩
