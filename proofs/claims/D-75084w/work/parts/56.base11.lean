/-! BASE, part 11: Object[]s: made, written, copied; their elements are objects of our classes (obD) -/
set_option maxRecDepth 100000
/-- v is a Credit, a Presentation or a Desk -/
def obD (D : va_G) (v : Nat) (H : Heap) : Prop := ∃ cell : Cell, H[v]? = some cell ∧ cell.vm.isStatics = false ∧ (cell.cls = D.1 8 ∨ cell.cls = D.1 10 ∨ cell.cls = D.1 2)
theorem obD_of {D : va_G} {ws : va_W} {H : Heap} {v ci : Nat} {fs : List Value} (h : va_P D clA ws H) (i : Nat) (hi : ws[i]? = some (v, .inr (ci, fs))) (hc : ci = 8 ∨ ci = 10 ∨ ci = 2) : obD D v H := by
  obtain ⟨r, hr, cell, h1, h2, h3, h4⟩ := h i _ hi
  refine ⟨cell, h1, (by rw [h3]; rfl), ?_⟩
  rcases hc with h | h | h
  · subst h; exact Or.inl h2
  · subst h; exact Or.inr (Or.inl h2)
  · subst h; exact Or.inr (Or.inr h2)
theorem any_obD {D : va_G} {k : Nat → ClassId} {v : Nat} {s : State} {H : Heap} (hK : KA D k s) (hN : NW s) (h : obD D v H) : va_Any "java/lang/Object" s H v := by
  obtain ⟨cell, h1, h2, h3⟩ := h
  have key : ∀ (ci : Nat) (q : vw_C), clA[ci]? = some q → cell.cls = D.1 ci → va_Nw (.castable q.1 "java/lang/Object") s → va_Any "java/lang/Object" s H v := by
    intro ci q hq hc hw
    have hk := (hK.1 ci q hq).2
    obtain ⟨kC, hkC, -⟩ := hk.2
    refine ⟨cell, h1, h2, ⟨kC, by rw [hc]; exact hkC⟩, fun comp hcomp => ?_⟩
    obtain ⟨c0, t0, f1, f2, f3⟩ := Cond.castable_spec (va_Nw.use (A := #[]) rfl hw)
    cases Option.some.inj (hcomp.symm.trans f2)
    rw [hc]
    have e : c0 = D.1 ci := Option.some.inj (f1.symm.trans hk.1)
    rw [← e]
    exact f3
  rcases h3 with h | h | h
  · exact key 8 (RX10, TX10, 11) rfl h (hN _ q2076 rfl)
  · exact key 10 (RX12, TX12, 6) rfl h (hN _ q2083 rfl)
  · exact key 2 (RX2, TX2, 5) rfl h (hN _ q2064 rfl)
section ROWS11
variable {p : Program} {l : Launch} {e : Env} {R : Room} {s : State} {m : MethodId} {args : Array Value} {below : List Frame} {meth : Method} {c : Code} {H : Heap} {locs : List Loc} {cells slots : Nat} {Q : State → Prop}
variable {cc : ByteArray} {nL : Nat} {ret : Option FieldType} {own : String} {pc : Nat} {ls : Array Slot} {rest st0 : List Value} {D : va_G} {k : Nat → ClassId} {A : Nat → Prop} {ws : va_W} {H0 : Heap} {nc ns : Nat}
/-- an object keeps its class -/
theorem obD_now {T : State} (X : Stand p l e R s m args below meth c T locs cells slots) {v : Nat} (h : obD D v s.heap) : obD D v T.heap := by
  obtain ⟨cell, h1, h2, h3⟩ := h
  obtain ⟨cell', x1, x2, x3, -⟩ := X.same.2.2.2.2.2 v cell h1
  exact ⟨cell', x1, by rw [x2]; exact h2, by rw [x2]; exact h3⟩
theorem o_ast (hexec : p.tables.exec = Jvm.exec) (hb : c.code = cc) (hK : KA D k s) (hN : NW s) (hP : va_P D clA ws H) (hD : va_D A ws) (hS : va_S A H0 H locs) (q0 : Nat) {a n v : Nat} {f : Nat → Option Nat} (ha : ws[q0]? = some (a, .inl (k 3, n, .inr (.inr (.inr (.inr f)))))) (hr : obD D v s.heap) (j : Nat) {i : Int32} (hi : i = nI j) (hj : j < n) (hn : n < 2 ^ 31) (hdg : decode cc pc = .ok (.aastore, 1))
    (kk : ∀ (H1 : Heap) (locs1 : List Loc), va_P D clA (ws.set q0 (a, .inl (k 3, n, .inr (.inr (.inr (.inr (va_up f j (some v)))))))) H1 → va_D A (ws.set q0 (a, .inl (k 3, n, .inr (.inr (.inr (.inr (va_up f j (some v)))))))) → va_S A H0 H1 locs1 → W p l e R s m args below meth c H1 locs1 cells slots Q (F0 m (pc + 1) ls rest)) : W p l e R s m args below meth c H locs cells slots Q (F0 m pc ls (.ref v :: .int i :: .ref a :: rest)) := by
  subst hi
  intro T hT X
  have hany : va_Any "java/lang/Object" s H v := by
    have := any_obD hK hN (obD_now X hr)
    rwa [hT] at this
  refine (va_astqM hexec hb hK hP hD hS q0 3 ha rfl hany (vp_in_nI hj hn) hdg ?_) T hT X
  rw [nI_clamp (by omega)]
  exact kk
theorem n_newq (hexec : p.tables.exec = Jvm.exec) (hb : c.code = cc) {index : Nat} (hown : s.vm.findClass own = some m.cls) (hclink : (Cond.classLink own index "java/lang/Object").before args s = true) (hover : va_AO "java/lang/Object" s) (hK : KA D k s) (hP : va_P D clA ws H) (hD : va_D A ws) (hS : va_S A H0 H locs) (hA : ∀ q, H0.size ≤ q → A q)
    {n : Int32} {N' : Nat} (hn : ¬ n < 0) (hN : n.toNatClampNeg = N') (hbytes : N' * 4 ≤ 536870912) (hcells : cells + 1 ≤ R.cells) (hslots : slots + N' ≤ R.slots) (hdg : decode cc pc = .ok (.anewarray index, 3))
    (kk : ∀ (q : Nat) (H1 : Heap), va_P D clA ((q, .inl (k 3, N', .inr (.inr (.inr (.inr (fun _ => none)))))) :: ws) H1 → va_D A ((q, .inl (k 3, N', .inr (.inr (.inr (.inr (fun _ => none)))))) :: ws) → va_S A H0 H1 locs →
      W p l e R s m args below meth c H1 locs (cells + 1) (slots + N') Q (F0 m (pc + 3) ls (.ref q :: rest))) : W p l e R s m args below meth c H locs cells slots Q (F0 m pc ls (.int n :: rest)) := by
  refine va_newq hexec hb hown hclink hover hK hP hD hS hA hn hN hbytes hcells hslots hdg fun q cA H1 hK1 hP1 hD1 hS1 => ?_
  have h1 := (hK1.2 5 _ rfl).2
  have h2 := (hK.2 3 _ rfl).2
  obtain ⟨-, -, -, -, -, h4⟩ := h1
  obtain ⟨-, -, -, -, -, h5⟩ := h2
  have e : cA = k 3 := Option.some.inj (h4.symm.trans h5)
  subst e
  exact kk q H1 (va_P_perm hP1 List.perm_append_comm) (va_D_perm hD1 List.perm_append_comm) hS1
end ROWS11
