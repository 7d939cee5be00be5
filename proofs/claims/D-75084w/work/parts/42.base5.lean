/-! BASE, part 5: cells are made. A new cell stands ahead of the world; contracts nM of methods that make -/
set_option maxRecDepth 100000
theorem va_P_mem {D : va_G} {cl : List vw_C} {ws : va_W} {H : Heap} : va_P D cl ws H ↔ ∀ q ∈ ws, va_at D cl q H :=
  ⟨fun h q hq => by obtain ⟨i, hi⟩ := List.getElem?_of_mem hq; exact h i q hi, fun h i q hi => h q (List.mem_of_getElem? hi)⟩
theorem va_D_nod {A : Nat → Prop} {ws : va_W} : va_D A ws ↔ (ws.map Prod.fst).Nodup ∧ ∀ q ∈ ws, A q.1 := by
  constructor
  · intro h
    refine ⟨?_, fun q hq => by obtain ⟨i, hi⟩ := List.getElem?_of_mem hq; exact h.2 i q hi⟩
    rw [List.nodup_iff_pairwise_ne, List.pairwise_iff_getElem]
    intro i j hi hj hij e
    rw [List.length_map] at hi hj
    rw [List.getElem_map, List.getElem_map] at e
    have := h.1 i j ws[i] ws[j] (List.getElem?_eq_getElem hi) (List.getElem?_eq_getElem hj) e
    omega
  · intro h
    refine ⟨fun i j a b hi hj e => ?_, fun i q hi => h.2 q (List.mem_of_getElem? hi)⟩
    have h1 := h.1
    rw [List.nodup_iff_pairwise_ne, List.pairwise_iff_getElem] at h1
    obtain ⟨li, ei⟩ := List.getElem?_eq_some_iff.mp hi
    obtain ⟨lj, ej⟩ := List.getElem?_eq_some_iff.mp hj
    rcases Nat.lt_trichotomy i j with z | z | z
    · exact absurd (by rw [List.getElem_map, List.getElem_map, ei, ej]; exact e) (h1 i j (by rw [List.length_map]; exact li) (by rw [List.length_map]; exact lj) z)
    · exact z
    · exact absurd (by rw [List.getElem_map, List.getElem_map, ei, ej]; exact e.symm) (h1 j i (by rw [List.length_map]; exact lj) (by rw [List.length_map]; exact li) z)
theorem va_P_perm {D : va_G} {cl : List vw_C} {ws ws' : va_W} {H : Heap} (h : va_P D cl ws H) (hp : ws.Perm ws') : va_P D cl ws' H := va_P_mem.mpr (fun q hq => va_P_mem.mp h q (hp.mem_iff.mpr hq))
theorem va_D_perm {A : Nat → Prop} {ws ws' : va_W} (h : va_D A ws) (hp : ws.Perm ws') : va_D A ws' := by
  have h := va_D_nod.mp h
  exact va_D_nod.mpr ⟨(hp.map Prod.fst).nodup_iff.mp h.1, fun q hq => h.2 q (hp.mem_iff.mpr hq)⟩
theorem mid_perm (i : Nat) {x : Nat × va_E} {ws : va_W} : (x :: ws).Perm (ws.take i ++ x :: ws.drop i) := by
  have := (List.perm_middle (a := x) (l₁ := ws.take i) (l₂ := ws.drop i)).symm
  rwa [List.take_append_drop] at this
theorem P_mid (i : Nat) {D : va_G} {cl : List vw_C} {x : Nat × va_E} {ws : va_W} {H : Heap} (h : va_P D cl (x :: ws) H) : va_P D cl (ws.take i ++ x :: ws.drop i) H := va_P_perm h (mid_perm i)
theorem D_mid (i : Nat) {A : Nat → Prop} {x : Nat × va_E} {ws : va_W} (h : va_D A (x :: ws)) : va_D A (ws.take i ++ x :: ws.drop i) := va_D_perm h (mid_perm i)
theorem D_push {A : Nat → Prop} {ws : va_W} {a : Nat} {e : va_E} {D : va_G} {cl : List vw_C} {H : Heap} (hD : va_D A ws) (hP : va_P D cl ws H) (ha : a = H.size) (hA : A a) : va_D A ((a, e) :: ws) := va_D_perm (hD.push hP ha hA) (List.perm_append_comm (l₁ := ws) (l₂ := [(a, e)]))
section ROWS5
variable {p : Program} {l : Launch} {e : Env} {R : Room} {s : State} {m : MethodId} {args : Array Value} {below : List Frame} {meth : Method} {c : Code} {H : Heap} {locs : List Loc} {cells slots : Nat} {Q : State → Prop}
variable {cc : ByteArray} {nL : Nat} {ret : Option FieldType} {own : String} {pc : Nat} {ls : Array Slot} {rest st0 : List Value} {D : va_G} {k : Nat → ClassId} {A : Nat → Prop} {ws : va_W} {H0 : Heap}
theorem n_newa (hexec : p.tables.exec = Jvm.exec) (hb : c.code = cc) {atype : ArrayType} (harr : (Cond.arrayClass (newarray.typeOf atype)).before args s = true) (hK : KA D k s) (hP : va_P D clA ws H) (hD : va_D A ws) (hS : va_S A H0 H locs) (hA : ∀ q, H0.size ≤ q → A q) (j : Nat) (hj : (tyA k)[j]? = some (k j, newarray.typeOf atype))
    {n : Int32} {N' : Nat} {a0 : vp_A} (ha : ∀ cA : ClassId, vp_cell cA a0 = arrV cA N' (fun _ => defaultValue (newarray.typeOf atype))) (hn : ¬ n < 0) (hN : n.toNatClampNeg = N') (hbytes : N' * componentBytes (newarray.typeOf atype) ≤ 536870912) (hcells : cells + 1 ≤ R.cells) (hslots : slots + N' ≤ R.slots) (hdg : decode cc pc = .ok (.newarray atype, 2))
    (kk : ∀ (q : Nat) (H1 : Heap), H0.size ≤ q → va_P D clA ((q, .inl (k j, a0)) :: ws) H1 → va_D A ((q, .inl (k j, a0)) :: ws) → va_S A H0 H1 locs →
      W p l e R s m args below meth c H1 locs (cells + 1) (slots + N') Q (F0 m (pc + 2) ls (.ref q :: rest))) : W p l e R s m args below meth c H locs cells slots Q (F0 m pc ls (.int n :: rest)) := by
  refine va_newaK hexec hb harr rfl hdg rfl hn hN hbytes hcells hslots rfl fun H1 cA e1 z1 o1 hAr hNm => ?_
  have hcA : cA = k j := by
    have h := (hK.2 j _ hj).2
    have h : s.vm.findClass ("[" ++ (newarray.typeOf atype).toString) = some (k j) := by cases atype <;> exact h
    exact Option.some.inj (hNm.symm.trans h)
  subst hcA
  have hk : ∀ (k : Nat) (x : Nat × va_E), ws[k]? = some x → H1[x.1]? = H[x.1]? := fun k x hx => o1 x.1 ((hP k x hx).lt)
  refine kk H.size H1 hS.1 (va_cons ?_ (hP.kept hk)) (D_push hD hP rfl (hA _ hS.1)) ⟨Nat.le_trans hS.1 (by omega), fun x h1 h2 => (o1 x (Nat.lt_of_lt_of_le h1 hS.1)).trans (hS.2.1 x h1 h2), hS.2.2⟩
  show H1[H.size]? = some (vp_cell _ _)
  rw [ha]
  exact e1
theorem n_new {c0 : Code} (hexec : p.tables.exec = Jvm.exec) (hb : c0.code = cc) {C : String} {T : u_T} {N ci index : Nat} {Ts : List Cond} (hts : ∀ w ∈ Ts, w.before args s = true) (hin : ∀ w ∈ u_ws C T N, w ∈ Ts) (ty : Nat → FieldType) (hty : ∀ k, k < N → parseFieldDescriptor (T k).2.2.1 = some (ty k)) (hown : s.vm.findClass own = some m.cls) (hcl : (Cond.classLink own index C).before args s = true) (hinst : (Cond.instantiable C N).before args s = true) (hini : (Cond.initialized C).before args s = true)
    (hK : KA D k s) (hP : va_P D clA ws H) (hD : va_D A ws) (hS : va_S A H0 H locs) (hA : ∀ q, H0.size ≤ q → A q) (hc : clA[ci]? = some (C, T, N)) {fs : List Value} (hfs : ∀ j, j < N → defaultValue (ty j) = vp_V fs j) (hcells : cells + 1 ≤ R.cells) (hslots : slots + N ≤ R.slots) (hdg : decode cc pc = .ok (.new index, 3))
    (kk : ∀ (q : Nat) (H1 : Heap), H0.size ≤ q → va_P D clA ((q, .inr (ci, fs)) :: ws) H1 → va_D A ((q, .inr (ci, fs)) :: ws) → va_S A H0 H1 locs →
      W p l e R s m args below meth c0 H1 locs (cells + 1) (slots + N) Q (F0 m (pc + 3) ls (.ref q :: rest))) : W p l e R s m args below meth c0 H locs cells slots Q (F0 m pc ls rest) := by
  have hKn := hK.1 ci _ hc
  refine W.newcK hexec hb hown hcl hinst hini rfl hdg hcells hslots hKn.2.1 rfl fun H1 kC hkC e1 z1 o1 => ?_
  have hk : ∀ (k : Nat) (x : Nat × va_E), ws[k]? = some x → H1[x.1]? = H[x.1]? := fun k x hx => o1 x.1 ((hP k x hx).lt)
  exact kk H.size H1 hS.1 (va_cons ⟨_, hc, (u_born ty hts hin hKn hkC e1 hty).to hfs⟩ (hP.kept hk)) (D_push hD hP rfl (hA _ hS.1)) ⟨Nat.le_trans hS.1 (by omega), fun x h1 h2 => (o1 x (Nat.lt_of_lt_of_le h1 hS.1)).trans (hS.2.1 x h1 h2), hS.2.2⟩
end ROWS5
