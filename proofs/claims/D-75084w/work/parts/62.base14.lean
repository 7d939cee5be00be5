/-! BASE, part 14: a copied desk; plain words for the changed arrays -/
set_option maxRecDepth 100000
theorem P_drop {D : va_G} {cl : List vw_C} {ws : va_W} {H : Heap} (n : Nat) (h : va_P D cl ws H) : va_P D cl (ws.drop n) H := va_P_mem.mpr fun q hq => va_P_mem.mp h q (List.mem_of_mem_drop hq)
theorem P_elO {D : va_G} {cl : List vw_C} {n : Nat} {x : Nat × va_E} {H : Heap} (h : va_P D cl (elO n x) H) (hn : 0 < n) : va_P D cl [x] H := by rw [elO_1 hn] at h; exact h
theorem dk_keepF {D : va_G} {k : Nat → ClassId} {z : Nat → Nat} {hf d : Nat → Int32} {H H1 : Heap} (h : dk D k z hf d H) (hk : ∀ q : Nat, q < H.size → True → H1[q]? = H[q]?) : dk D k z hf d H1 := dk_kept h (fun fz hp => hp.kept (fun i q hi => hk q.1 (hp i q hi).lt trivial))
/-- addresses of a copied desk -/
abbrev cpz (z : Nat → Nat) (d : Nat → Int32) (ds b1 l1 e1 m1 b2 l2 e2 m2 : Nat) : Nat → Nat := mkz ds (z 1) (z 2) b1 l1 e1 b2 l2 e2 (z 9) m1 m2 (dN d 0) (dN d 1) (fun j => z (16 + j)) (fun j => z (32 + j))
theorem dk_copy {D : va_G} {k : Nat → ClassId} {z : Nat → Nat} {hf d : Nat → Int32} {H : Heap} {ds b1 l1 e1 m1 b2 l2 e2 m2 : Nat} (h0 : dN d 0 ≤ 12) (hdk : dk D k z hf d H)
    (hP : va_P D clA [(ds, .inr (2, [.ref (z 1), .ref b1, .ref b2, .ref (z 9), .int (d 3)])), (b1, .inr (4, [.ref l1, .int 12])), (l1, .inr (12, [.int (nI (dN d 0)), .ref e1, .int (nI (dN d 0))])), (b2, .inr (4, [.ref l2, .int 24])), (l2, .inr (12, [.int (nI (dN d 1)), .ref e2, .int (nI (dN d 1))]))] H)
    (h5 : 0 < dN d 0 → va_P D clA [(e1, .inl (k 3, m1, .inr (.inr (.inr (.inr (rfs (dN d 0) (fun j => z (16 + j))))))))] H) (h8 : 0 < dN d 1 → va_P D clA [(e2, .inl (k 3, m2, .inr (.inr (.inr (.inr (rfs (dN d 1) (fun j => z (32 + j))))))))] H) : dk D k (cpz z d ds b1 l1 e1 m1 b2 l2 e2 m2) hf d H :=
  dk_new h0 hP (hdk.1.sub [1, 2] rfl) h5 h8 hdk.2.2.2.1 hdk.2.2.2.2
theorem dkN_copy {g z : Nat → Nat} {hf d : Nat → Int32} {ds b1 l1 e1 m1 b2 l2 e2 m2 : Nat} (hz : dkN g z hf d) (h1 : dN d 0 ≤ m1 ∧ m1 ≤ 40000 ∧ (dN d 0 = 0 → e1 = g 1 ∧ m1 = 0)) (h2 : dN d 1 ≤ m2 ∧ m2 ≤ 40000 ∧ (dN d 1 = 0 → e2 = g 1 ∧ m2 = 0)) : dkN g (cpz z d ds b1 l1 e1 m1 b2 l2 e2 m2) hf d :=
  ⟨hz.1, hz.2.1, h1.1, h1.2.1, h2.1, h2.2.1, h1.2.2, h2.2.2⟩
/-- the same holidays: the same business days -/
theorem ext_cg {d d' : Nat → Int32} (h2 : d' 2 = d 2) (hh : ∀ j, j < dN d 2 → d' (6 + j) = d (6 + j)) (n : Nat) : ext d' n = ext d n := by
  have e : ∀ x, isBus d' x = isBus d x := by
    intro x
    unfold isBus
    have en : dN d' 2 = dN d 2 := by unfold dN; rw [h2]
    rw [en]
    refine propext ⟨fun h => ⟨h.1, fun j hj => ?_⟩, fun h => ⟨h.1, fun j hj => ?_⟩⟩
    · rw [← hh j hj]; exact h.2 j hj
    · rw [hh j hj]; exact h.2 j hj
  unfold ext
  simp only [e]
theorem due_cg {d d' : Nat → Int32} {r : Nat} (hx : ∀ n, ext d' n = ext d n) (h0 : d' (154 + 6 * r) = d (154 + 6 * r)) (h4 : d' (154 + 6 * r + 4) = d (154 + 6 * r + 4)) (h5 : d' (154 + 6 * r + 5) = d (154 + 6 * r + 5)) (ht : d' (22 + 11 * dN d (154 + 6 * r) + 6) = d (22 + 11 * dN d (154 + 6 * r) + 6)) : due d' r = due d r := by
  have e0 : dN d' (154 + 6 * r) = dN d (154 + 6 * r) := by unfold dN; rw [h0]
  have e5 : dN d' (154 + 6 * r + 5) = dN d (154 + 6 * r + 5) := by unfold dN; rw [h5]
  have et : dN d' (22 + 11 * dN d (154 + 6 * r) + 6) = dN d (22 + 11 * dN d (154 + 6 * r) + 6) := congrArg Int32.toNatClampNeg ht
  unfold due
  rw [e0, e5, et, hx]
  unfold pf
  rw [h4]
/-- d' is d but for what h names -/
def ag (d d' : Nat → Int32) (P : Nat → Prop) : Prop := ∀ j, ¬ P j → d' j = d j
theorem ag_dN {d d' : Nat → Int32} {P : Nat → Prop} (h : ag d d' P) {j : Nat} (hj : ¬ P j) : dN d' j = dN d j := by unfold dN; rw [h j hj]
theorem ag_isN {d d' : Nat → Int32} {P : Nat → Prop} (h : ag d d' P) {j b : Nat} (hj : ¬ P j) (hn : isN d j b) : isN d' j b := by unfold isN; rw [ag_dN h hj, h j hj]; exact hn
theorem ag_upd {d d' : Nat → Int32} {P : Nat → Prop} (h : ag d d' P) {i : Nat} {v : Int32} (hi : P i) : ag d (upd d' i v) P := fun j hj => by
  have hne : j ≠ i := fun e => hj (by rw [e]; exact hi)
  rw [pk_un hne]
  exact h j hj
theorem ag_rf {d : Nat → Int32} {P : Nat → Prop} : ag d d P := fun _ _ => rfl
theorem ag_ext {d d' : Nat → Int32} {P : Nat → Prop} (h : ag d d' P) (h2 : okD d) (hP : ∀ j, 2 ≤ j → j < 22 → j ≠ 3 → ¬ P j) (n : Nat) : ext d' n = ext d n :=
  ext_cg (h 2 (hP 2 (by decide) (by decide) (by decide))) (fun j hj => h _ (hP _ (by omega) (by have := h2.1.2.2.1.2; omega) (by omega))) n
/-- a credit's picture -/
theorem ag_cr {d d' : Nat → Int32} {P : Nat → Prop} (h : ag d d' P) {c : Nat} (hP : ∀ i, i < 11 → ¬ P (22 + 11 * c + i)) : crF d' c = crF d c := by
  have e : ∀ i, i < 11 → cf d' c i = cf d c i := fun i hi => h _ (hP i hi)
  unfold crF
  rw [e 10 (by decide), e 0 (by decide), e 1 (by decide), e 2 (by decide), e 3 (by decide), e 4 (by decide), e 5 (by decide), e 6 (by decide), e 9 (by decide), e 7 (by decide), e 8 (by decide)]
/-- a presentation's picture -/
theorem ag_pr {d d' : Nat → Int32} {P : Nat → Prop} (h : ag d d' P) (hd : okD d) (h2 : ∀ j, 2 ≤ j → j < 22 → j ≠ 3 → ¬ P j) {q : Nat} (hq : q < dN d 1) (hP : ∀ i, i < 6 → ¬ P (154 + 6 * q + i)) (hC : ¬ P (22 + 11 * dN d (154 + 6 * q) + 6)) : prF d' q = prF d q := by
  have e : ∀ i, i < 6 → pf d' q i = pf d q i := fun i hi => h _ (hP i hi)
  have e2 : due d' q = due d q := due_cg (ag_ext h hd h2) (h _ (hP 0 (by decide))) (h _ (hP 4 (by decide))) (h _ (hP 5 (by decide))) (h _ hC)
  unfold prF
  rw [e 0 (by decide), e 1 (by decide), e 2 (by decide), e 3 (by decide), e 4 (by decide), e2]
/-- a change within one presentation keeps the desk -/
theorem okD_pr {d d' : Nat → Int32} (hd : okD d) {q : Nat} (hq : q < dN d 1) (h : ag d d' (fun j => j = 154 + 6 * q + 4 ∨ j = 154 + 6 * q + 5)) (h5 : isN d' (154 + 6 * q + 5) 9000) : okD d' := by
  obtain ⟨⟨a0, a1, a2, a3, a5⟩, b, c, e⟩ := hd
  have n0 := a0.2; have n1 := a1.2; have n2 := a2.2
  refine ⟨⟨ag_isN h (by omega) a0, ag_isN h (by omega) a1, ag_isN h (by omega) a2, ag_isN h (by omega) a3, ag_isN h (by omega) a5⟩, ?_, ?_, ?_⟩
  · intro j hj
    rw [ag_dN h (by omega)] at hj
    exact ag_isN h (by omega) (b j hj)
  · intro j hj
    rw [ag_dN h (by omega)] at hj
    exact ⟨ag_isN h (by omega) (c j hj).1, ag_isN h (by omega) (c j hj).2.1, ag_isN h (by omega) (c j hj).2.2⟩
  · intro j hj
    rw [ag_dN h (by omega)] at hj
    obtain ⟨e1, e2, e3, e4, e5⟩ := e j hj
    refine ⟨?_, ?_, ag_isN h (by omega) e3, ag_isN h (by omega) e4, ?_⟩
    · rw [h _ (by omega), ag_dN h (by omega)]; exact e1
    · rw [ag_dN h (by omega), ag_dN h (by omega)]; exact e2
    · by_cases z : j = q
      · subst z; exact h5
      · exact ag_isN h (by omega) e5
