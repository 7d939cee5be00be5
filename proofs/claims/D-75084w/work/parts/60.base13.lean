/-! BASE, part 13: the desk as a whole: what is frozen of it, a new one put together -/
set_option maxRecDepth 100000
theorem FZ_nil {D : va_G} {fz : va_W} {H : Heap} (h : va_P D clA fz H) : FZ D [] fz H := ⟨h, fun _ _ z => by cases z⟩
/-- the desk's cells are none of L -/
def dkE (L : List Nat) (z : Nat → Nat) (d : Nat → Int32) : Prop := (∀ i, i < 10 → z i ∉ L) ∧ (∀ j, j < dN d 0 → z (16 + j) ∉ L) ∧ (∀ j, j < dN d 1 → z (32 + j) ∉ L)
theorem dk_FZ {D : va_G} {k : Nat → ClassId} {z : Nat → Nat} {hf d : Nat → Int32} {H : Heap} {L : List Nat} {w : va_W} (h : dk D k z hf d H) (hE : dkE L z d) (hL : ∀ q, inL w q → q ∈ L) : FZ D w (dkW z hf d k) H := by
  refine ⟨h.1, fun q hq hz => ?_⟩
  have hz := hL _ hz
  simp only [List.mem_cons, List.not_mem_nil, or_false] at hq
  rcases hq with e | e | e | e | e | e | e <;> subst e
  · exact hE.1 0 (by decide) hz
  · exact hE.1 1 (by decide) hz
  · exact hE.1 2 (by decide) hz
  · exact hE.1 3 (by decide) hz
  · exact hE.1 4 (by decide) hz
  · exact hE.1 6 (by decide) hz
  · exact hE.1 7 (by decide) hz
theorem FZ_one {D : va_G} {H : Heap} {L : List Nat} {w : va_W} {x : Nat × va_E} (h : va_P D clA [x] H) (hx : x.1 ∉ L) (hL : ∀ q, inL w q → q ∈ L) : FZ D w [x] H := ⟨h, fun q hq hz => by rw [List.mem_singleton.mp hq] at hz; exact hx (hL _ hz)⟩
/-- the desk stays -/
theorem dkx_at {D : va_G} {k : Nat → ClassId} {z : Nat → Nat} {hf d : Nat → Int32} {H0 H : Heap} {L : List Nat} {w : va_W} {A : Nat → Prop} {locs : List Loc} (hAe : A = NA (inL w) H0) (h : dk D k z hf d H0) (hE : dkE L z d) (hL : ∀ q, inL w q → q ∈ L) (hS : va_S A H0 H locs) : dk D k z hf d H :=
  ⟨FZ_at hAe (dk_FZ h hE hL) hS, fun q => FZ_at hAe (FZ_one (h.2.1 q) (hE.1 5 (by decide)) hL) hS, fun q => FZ_at hAe (FZ_one (h.2.2.1 q) (hE.1 8 (by decide)) hL) hS, fun j q => FZ_at hAe (FZ_one (h.2.2.2.1 j q) (hE.2.1 j q) hL) hS, fun j q => FZ_at hAe (FZ_one (h.2.2.2.2 j q) (hE.2.2 j q) hL) hS⟩
theorem dk_obC {D : va_G} {k : Nat → ClassId} {z : Nat → Nat} {hf d : Nat → Int32} {H : Heap} (h : dk D k z hf d H) : ∀ j, j < dN d 0 → obD D (z (16 + j)) H := fun j hj => obD_of (h.2.2.2.1 j hj) 0 rfl (Or.inl rfl)
theorem dk_obP {D : va_G} {k : Nat → ClassId} {z : Nat → Nat} {hf d : Nat → Int32} {H : Heap} (h : dk D k z hf d H) : ∀ j, j < dN d 1 → obD D (z (32 + j)) H := fun j hj => obD_of (h.2.2.2.2 j hj) 0 rfl (Or.inr (Or.inl rfl))
/-- the desk's addresses, one by one -/
def mkz (ds ca ha b1 l1 e1 b2 l2 e2 fe m1 m2 c1 c2 : Nat) (ad1 ad2 : Nat → Nat) : Nat → Nat
  | 0 => ds | 1 => ca | 2 => ha | 3 => b1 | 4 => l1 | 5 => e1 | 6 => b2 | 7 => l2 | 8 => e2 | 9 => fe | 10 => m1 | 11 => m2 | 12 => c1 | 13 => c2
  | i => if i < 32 then ad1 (i - 16) else ad2 (i - 32)
theorem mkz_c {ds ca ha b1 l1 e1 b2 l2 e2 fe m1 m2 c1 c2 : Nat} {ad1 ad2 : Nat → Nat} {j : Nat} (h : j < 16) : mkz ds ca ha b1 l1 e1 b2 l2 e2 fe m1 m2 c1 c2 ad1 ad2 (16 + j) = ad1 j := by
  rw [show 16 + j = j + 2 + 14 by omega]
  show (if j + 2 + 14 < 32 then ad1 (j + 2 + 14 - 16) else ad2 (j + 2 + 14 - 32)) = _
  rw [if_pos (by omega), show j + 2 + 14 - 16 = j by omega]
theorem mkz_p {ds ca ha b1 l1 e1 b2 l2 e2 fe m1 m2 c1 c2 : Nat} {ad1 ad2 : Nat → Nat} {j : Nat} : mkz ds ca ha b1 l1 e1 b2 l2 e2 fe m1 m2 c1 c2 ad1 ad2 (32 + j) = ad2 j := by
  rw [show 32 + j = j + 18 + 14 by omega]
  show (if j + 18 + 14 < 32 then ad1 (j + 18 + 14 - 16) else ad2 (j + 18 + 14 - 32)) = _
  rw [if_neg (by omega), show j + 18 + 14 - 32 = j by omega]
/-- a new desk -/
theorem dk_new {D : va_G} {k : Nat → ClassId} {hf d : Nat → Int32} {H : Heap} {ds ca ha b1 l1 e1 b2 l2 e2 fe m1 m2 c1 c2 : Nat} {ad1 ad2 : Nat → Nat} (h0 : dN d 0 ≤ 12)
    (hP : va_P D clA [(ds, .inr (2, [.ref ca, .ref b1, .ref b2, .ref fe, .int (d 3)])), (b1, .inr (4, [.ref l1, .int 12])), (l1, .inr (12, [.int (nI c1), .ref e1, .int (nI (dN d 0))])), (b2, .inr (4, [.ref l2, .int 24])), (l2, .inr (12, [.int (nI c2), .ref e2, .int (nI (dN d 1))]))] H)
    (hC : va_P D clA [(ca, .inr (3, [.ref ha, .int (d 2)])), (ha, .inl (k 0, 16, .inl hf))] H)
    (h5 : 0 < dN d 0 → va_P D clA [(e1, .inl (k 3, m1, .inr (.inr (.inr (.inr (rfs (dN d 0) ad1))))))] H) (h8 : 0 < dN d 1 → va_P D clA [(e2, .inl (k 3, m2, .inr (.inr (.inr (.inr (rfs (dN d 1) ad2))))))] H)
    (hc : ∀ j, j < dN d 0 → va_P D clA [(ad1 j, .inr (8, crF d j))] H) (hp : ∀ j, j < dN d 1 → va_P D clA [(ad2 j, .inr (10, prF d j))] H) : dk D k (mkz ds ca ha b1 l1 e1 b2 l2 e2 fe m1 m2 c1 c2 ad1 ad2) hf d H := by
  refine ⟨?_, ?_, ?_, ?_, ?_⟩
  · exact va_cons (hP 0 _ rfl) (va_cons (hC 0 _ rfl) (va_cons (hC 1 _ rfl) (va_cons (hP 1 _ rfl) (va_cons (hP 2 _ rfl) (va_cons (hP 3 _ rfl) (va_cons (hP 4 _ rfl) va_nil))))))
  · intro q
    rw [rfs_cg (ad' := ad1) (fun j hj => mkz_c (by omega))]
    exact h5 q
  · intro q
    rw [rfs_cg (ad' := ad2) (fun j hj => mkz_p)]
    exact h8 q
  · intro j hj
    rw [mkz_c (by omega)]
    exact hc j hj
  · intro j hj
    rw [mkz_p]
    exact hp j hj
theorem dkE_new {L : List Nat} {d : Nat → Int32} {ds ca ha b1 l1 e1 b2 l2 e2 fe m1 m2 c1 c2 : Nat} {ad1 ad2 : Nat → Nat} (h0 : dN d 0 ≤ 12) (h : ∀ q ∈ [ds, ca, ha, b1, l1, e1, b2, l2, e2, fe], q ∉ L) (hc : ∀ j, j < dN d 0 → ad1 j ∉ L) (hp : ∀ j, j < dN d 1 → ad2 j ∉ L) : dkE L (mkz ds ca ha b1 l1 e1 b2 l2 e2 fe m1 m2 c1 c2 ad1 ad2) d := by
  refine ⟨fun i hi => ?_, fun j hj => by rw [mkz_c (by omega)]; exact hc j hj, fun j hj => by rw [mkz_p]; exact hp j hj⟩
  match i, hi with
  | 0, _ => exact h ds (by simp)
  | 1, _ => exact h ca (by simp)
  | 2, _ => exact h ha (by simp)
  | 3, _ => exact h b1 (by simp)
  | 4, _ => exact h l1 (by simp)
  | 5, _ => exact h e1 (by simp)
  | 6, _ => exact h b2 (by simp)
  | 7, _ => exact h l2 (by simp)
  | 8, _ => exact h e2 (by simp)
  | 9, _ => exact h fe (by simp)
/-- the history's addresses when a desk is put behind it -/
def rpH (h n : Nat) : Nat := if n = 8 then (h + 1) % 17 else h
def rpA (n : Nat) (ad : Nat → Nat) (v : Nat) : Nat → Nat := fun j => if n = 8 then (if j < 7 then ad (j + 1) else v) else (if j = n then v else ad j)
theorem dq_rp8 {h : Nat} {ad : Nat → Nat} {v : Nat} : dqf ((h + 1) % 17) (7 + 1) (adp (fun i => ad (i + 1)) 7 v) = dqf (rpH h 8) (remU 8) (rpA 8 ad v) := by
  show dqf ((h + 1) % 17) 8 _ = dqf ((h + 1) % 17) 8 _
  refine dq_cg fun i hi => ?_
  unfold adp rpA
  by_cases e : i = 7
  · rw [if_pos e, if_pos rfl, if_neg (by omega)]
  · rw [if_neg e, if_pos rfl, if_pos (by omega)]
theorem dq_rp {h n : Nat} {ad : Nat → Nat} {v : Nat} (hn : ¬ n = 8) : dqf h (n + 1) (adp ad n v) = dqf (rpH h n) (remU n) (rpA n ad v) := by
  unfold rpH remU
  rw [if_neg hn, if_neg hn]
  refine dq_cg fun i hi => ?_
  unfold adp rpA
  rw [if_neg hn]
