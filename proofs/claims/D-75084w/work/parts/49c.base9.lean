/-! BASE, part 9c: boxes, the desk -/
set_option maxRecDepth 100000
/-- a box at b that holds v: a made one or one of the cache's -/
def bx (D : va_G) (b : Nat) (v : Int32) (H : Heap) : Prop := ∃ cell : Cell, H[b]? = some cell ∧ cell.cls = D.1 15 ∧ cell.vm.isStatics = false ∧ cell.vm ≠ .unknown ∧ cell.slots[D.2 15 0]? = some (.int v)
theorem bx_made {D : va_G} {b : Nat} {v : Int32} {ws : va_W} {H : Heap} (h : va_P D clA ws H) (i : Nat) (hi : ws[i]? = some (b, .inr (15, [.int v]))) : bx D b v H := by
  obtain ⟨r, hr, cell, h1, h2, h3, h4⟩ := h i _ hi
  have hr' : r = (RJ18, TJ18, 1) := Option.some.inj (hr.symm.trans (show clA[15]? = some (RJ18, TJ18, 1) from rfl))
  subst hr'
  exact ⟨cell, h1, h2, (by rw [h3]; rfl), (by rw [h3]; intro z; cases z), h4 0 (by decide)⟩
theorem bx_old {D : va_G} {k : Nat → ClassId} {b : Nat} {v : Int32} {A : Nat → Prop} {s : State} {H : Heap} (hK : KA D k s) (h1 : va_O "java/lang/Integer" b A s H) (h2 : va_OF "java/lang/Integer" "value" "I" (.int v) b A s H) : bx D b v H := by
  obtain ⟨cell, a1, a2, a3, -⟩ := h1
  obtain ⟨cf, kf, fi, f, cell', b1, b2, b3, b4, b5, -⟩ := h2
  cases a1.symm.trans b3
  have hk := hK.1 15 _ rfl
  obtain ⟨cf', kf', fi', f', c1, c2⟩ := hk.1 0 (by decide)
  cases Option.some.inj (b1.symm.trans c1)
  exact ⟨cell, a1, Option.some.inj (a3.symm.trans hk.2.1), a2, b4, by rw [← c2]; exact b5⟩
theorem bx_O {D : va_G} {k : Nat → ClassId} {b : Nat} {v : Int32} {s : State} {H : Heap} (hK : KA D k s) (h : bx D b v H) : ∃ cell : Cell, H[b]? = some cell ∧ cell.vm.isStatics = false ∧ s.vm.findClass "java/lang/Integer" = some cell.cls := by
  obtain ⟨cell, a1, a2, a3, -⟩ := h
  exact ⟨cell, a1, a3, by rw [a2]; exact (hK.1 15 _ rfl).2.1⟩
theorem bx_OF {D : va_G} {k : Nat → ClassId} {b : Nat} {v : Int32} {A : Nat → Prop} {s : State} (hK : KA D k s) (hX : KI A s) (h : bx D b v s.heap) : va_OF "java/lang/Integer" "value" "I" (.int v) b FF s s.heap := by
  obtain ⟨cA, ad, -, -, -, hC⟩ := hX
  obtain ⟨cf, kf, fi, f, cell', b1, b2, -⟩ := hC.2 0 (by decide)
  obtain ⟨cell, a1, a2, a3, a4, a5⟩ := h
  obtain ⟨cf', kf', fi', f', c1, c2⟩ := (hK.1 15 _ rfl).1 0 (by decide)
  cases Option.some.inj (b1.symm.trans c1)
  exact ⟨cf, kf, fi, f, cell, b1, b2, a1, a4, by rw [c2]; exact a5, fun z => z⟩
theorem bx_kept {D : va_G} {b : Nat} {v : Int32} {H H1 : Heap} (h : bx D b v H) (hk : H1[b]? = H[b]?) : bx D b v H1 := by
  obtain ⟨cell, a1, a2⟩ := h
  exact ⟨cell, by rw [hk]; exact a1, a2⟩
/-! the desk's picture in the heap -/
abbrev crF (d : Nat → Int32) (c : Nat) : List Value := [.int (cf d c 10), .int (cf d c 0), .int (cf d c 1), .int (cf d c 2), .int (cf d c 3), .int (cf d c 4), .int (cf d c 5), .int (cf d c 6), .int (cf d c 9), .int (cf d c 7), .int (cf d c 8)]
noncomputable abbrev prF (d : Nat → Int32) (q : Nat) : List Value := [.int (pf d q 0), .int (pf d q 1), .int (pf d q 2), .int (pf d q 3), .int (pf d q 4), .int (due d q)]
abbrev rfs (n : Nat) (ad : Nat → Nat) : Nat → Option Nat := fun j => if j < n then some (ad j) else none
theorem rfs_at {n j : Nat} {ad : Nat → Nat} (h : j < n) : rfs n ad j = some (ad j) := if_pos h
abbrev dkW (z : Nat → Nat) (hf d : Nat → Int32) (k : Nat → ClassId) : va_W := [(z 0, .inr (2, [.ref (z 1), .ref (z 3), .ref (z 6), .ref (z 9), .int (d 3)])), (z 1, .inr (3, [.ref (z 2), .int (d 2)])), (z 2, .inl (k 0, 16, .inl hf)), (z 3, .inr (4, [.ref (z 4), .int 12])), (z 4, .inr (12, [.int (nI (z 12)), .ref (z 5), .int (nI (dN d 0))])), (z 6, .inr (4, [.ref (z 7), .int 24])), (z 7, .inr (12, [.int (nI (z 13)), .ref (z 8), .int (nI (dN d 1))]))]
/-- H holds the desk d at z (hf: the array of its holidays) -/
def dk (D : va_G) (k : Nat → ClassId) (z : Nat → Nat) (hf d : Nat → Int32) (H : Heap) : Prop :=
  va_P D clA (dkW z hf d k) H ∧
  (0 < dN d 0 → va_P D clA [(z 5, .inl (k 3, z 10, .inr (.inr (.inr (.inr (rfs (dN d 0) (fun j => z (16 + j))))))))] H) ∧
  (0 < dN d 1 → va_P D clA [(z 8, .inl (k 3, z 11, .inr (.inr (.inr (.inr (rfs (dN d 1) (fun j => z (32 + j))))))))] H) ∧
  (∀ j, j < dN d 0 → va_P D clA [(z (16 + j), .inr (8, crF d j))] H) ∧ (∀ j, j < dN d 1 → va_P D clA [(z (32 + j), .inr (10, prF d j))] H)
/-- the numbers beside the picture -/
def dkN (g z : Nat → Nat) (hf d : Nat → Int32) : Prop :=
  okD d ∧ (∀ j, j < dN d 2 → hf j = d (6 + j)) ∧ dN d 0 ≤ z 10 ∧ z 10 ≤ 40000 ∧ dN d 1 ≤ z 11 ∧ z 11 ≤ 40000 ∧ (dN d 0 = 0 → z 5 = g 1 ∧ z 10 = 0) ∧ (dN d 1 = 0 → z 8 = g 1 ∧ z 11 = 0)
theorem P_tl {D : va_G} {cl : List vw_C} {x : Nat × va_E} {ws : va_W} {H : Heap} (h : va_P D cl (x :: ws) H) : va_P D cl ws H := va_P_mem.mpr fun q hq => va_P_mem.mp h q (List.mem_cons_of_mem _ hq)
theorem D_tl {A : Nat → Prop} {x : Nat × va_E} {ws : va_W} (h : va_D A (x :: ws)) : va_D A ws := by
  have h := va_D_nod.mp h
  exact va_D_nod.mpr ⟨(List.nodup_cons.mp h.1).2, fun q hq => h.2 q (List.mem_cons_of_mem _ hq)⟩
theorem P_lt_mem {D : va_G} {cl : List vw_C} {ws : va_W} {H : Heap} {q : Nat × va_E} (h : va_P D cl ws H) (hq : q ∈ ws) : q.1 < H.size := (va_P_mem.mp h q hq).lt
theorem vb_in {x : Int32} (h1 : ¬ x < -128) (h2 : ¬ 127 < x) : ∃ j, j < 256 ∧ x = vb_c j := by
  have a1 : -128 ≤ x.toInt := by
    have := Int32.not_lt.mp h1
    rw [Int32.le_iff_toInt_le, show (-128 : Int32).toInt = -128 by decide] at this
    exact this
  have a2 : x.toInt ≤ 127 := by
    have := Int32.not_lt.mp h2
    rw [Int32.le_iff_toInt_le, show (127 : Int32).toInt = 127 by decide] at this
    exact this
  refine ⟨(x.toInt + 128).toNat, by omega, ?_⟩
  apply Int32.toInt_inj.mp
  have e : vb_c (x.toInt + 128).toNat = nI (x.toInt + 128).toNat - nI 128 := rfl
  rw [e, show (nI (x.toInt + 128).toNat - nI 128).toInt = (((x.toInt + 128).toNat : Int) - 128) from pk_sub_toInt (b := 128) (by omega) (by decide)]
  omega
theorem vb_add (j : Nat) : vb_c j + 128 = nI j := by
  show nI j - 128 + 128 = nI j
  rw [Int32.sub_add_cancel]
theorem dk_kept {D : va_G} {k : Nat → ClassId} {z : Nat → Nat} {hf d : Nat → Int32} {H H1 : Heap} (h : dk D k z hf d H) (hk : ∀ fz : va_W, va_P D clA fz H → va_P D clA fz H1) : dk D k z hf d H1 :=
  ⟨hk _ h.1, fun q => hk _ (h.2.1 q), fun q => hk _ (h.2.2.1 q), fun j q => hk _ (h.2.2.2.1 j q), fun j q => hk _ (h.2.2.2.2 j q)⟩
theorem dk_frF {D : va_G} {k : Nat → ClassId} {z : Nat → Nat} {hf d : Nat → Int32} {H0 H : Heap} {locs : List Loc} (h : dk D k z hf d H0) (hS : va_S (fun q => H0.size ≤ q) H0 H locs) : dk D k z hf d H := dk_kept h (fun _ hp => frzF hp hS)
