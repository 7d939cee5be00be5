/-! BASE, part 9: contracts kM (live cells, new ones, and facts of the heap), calls through an interface, KX (what the start gives) -/
set_option maxRecDepth 100000
theorem fm_range : ∀ (c : va_W), (List.range c.length).filterMap (fun i => c[i]?) = c
  | [] => rfl
  | a :: t => by
    rw [List.length_cons, List.range_succ_eq_map, List.filterMap_cons]
    simp only [List.getElem?_cons_zero, List.filterMap_map, Function.comp_def, List.getElem?_cons_succ, Nat.succ_eq_add_one]
    rw [fm_range t]
theorem prm_perm (π : List Nat) (n : Nat) {ws : va_W} (hn : (ws.take n).length = n) (h : π.Perm (List.range n)) : ws.Perm (π.filterMap (fun i => (ws.take n)[i]?) ++ ws.drop n) := by
  have e : (List.range n).filterMap (fun i => (ws.take n)[i]?) = ws.take n := by
    have := fm_range (ws.take n)
    rwa [hn] at this
  have h2 := List.Perm.filterMap (fun i => (ws.take n)[i]?) h.symm
  rw [e] at h2
  have h3 := List.Perm.append_right (ws.drop n) h2
  rwa [List.take_append_drop] at h3
theorem P_prm (π : List Nat) (n : Nat) {D : va_G} {cl : List vw_C} {ws : va_W} {H : Heap} (hn : (ws.take n).length = n) (h : π.Perm (List.range n)) (hP : va_P D cl ws H) : va_P D cl (π.filterMap (fun i => (ws.take n)[i]?) ++ ws.drop n) H := va_P_perm hP (prm_perm π n hn h)
theorem D_prm (π : List Nat) (n : Nat) {A : Nat → Prop} {ws : va_W} (hn : (ws.take n).length = n) (h : π.Perm (List.range n)) (hD : va_D A ws) : va_D A (π.filterMap (fun i => (ws.take n)[i]?) ++ ws.drop n) := va_D_perm hD (prm_perm π n hn h)
def kQ (D : va_G) {X : Type} (v : X → Option Value) (B : X → Heap → Prop) (ws1 : X → va_W) (A : Nat → Prop) : Array Value → State → Outcome → State → Prop := fun _ st o t => ∃ x, o = .returned (v x) ∧ B x t.heap ∧ va_P D clA (ws1 x) t.heap ∧ va_D A (ws1 x) ∧ va_F A st t
abbrev kM (l : Launch) (D : va_G) (k : Nat → ClassId) (y : MethodName) (cc : ByteArray) (nL : Nat) (ret : Option FieldType) (fr lo nc ns : Nat) (av : List Value) (ws0 : va_W) (Ph : State → Prop) {X : Type} (v : X → Option Value) (B : X → Heap → Prop) (ws1 : X → va_W) (A : Nat → Prop) : Prop :=
  Met l y (ws_ y cc nL ret) (Rm fr lo nc ns) (sP D k av (hPre D ws0 A Ph)) (kQ D v B ws1 A) nc ns A
theorem kM_of {l : Launch} {D : va_G} {k : Nat → ClassId} {y : MethodName} {cc : ByteArray} {nL : Nat} {ret : Option FieldType} {fr lo nc ns : Nat} {av : List Value} {ws0 : va_W} {Ph : State → Prop} {X : Type} {v : X → Option Value} {B : X → Heap → Prop} {ws1 : X → va_W} {A : Nat → Prop} (hy : plainName y.cls = true) (hn : (lg_sl av).length ≤ nL)
    (body : ∀ (p : Program) (e : Env) (s : State) (m : MethodId) (below : List Frame) (meth : Method) (c : Code) (ls : Array Slot), Cx p s m meth c cc nL ret y.cls av.toArray → meth.name = y.name → KA D k s → va_P D clA ws0 s.heap → (∀ q, s.heap.size ≤ q → A q) → Ph s → va_S A s.heap s.heap [] → lv_has ls nL (lv_args 0 av) → W p l e (Rm fr lo nc ns) s m av.toArray below meth c s.heap [] 0 0 (MQ below (kQ D v B ws1 A) av.toArray s nc ns A) (F0 m 0 ls [])) : kM l D k y cc nL ret fr lo nc ns av ws0 Ph v B ws1 A := by
  refine Met.ofW (cc := cc) (maxL := nL) (ret := ret) hy rfl ?_
  intro p e s m args below meth c s₁ B hml hv
  obtain ⟨rfl, ⟨hP, hA, hPh⟩, hK⟩ := hv
  have hts := atoms_spec (ws := ws_ y cc nL ret) B.pre
  have hts : ∀ w ∈ lw_all, w.before _ s = true := fun w h => hts w (List.mem_cons_of_mem _ h)
  have hown : s.vm.findClass y.cls = some m.cls := findClass_of_methodNamed B.named
  rw [lg_entry_eq]
  exact body p e s m below meth c _ ⟨B.exec, B.bytes, B.returns, hml, hown, hts, B.notSynchronized⟩ (name_of_methodNamed B.named B.method).1 hK hP hA hPh va_S.rf (lv_entry av hn)
section ROWS9
variable {p : Program} {l : Launch} {e : Env} {R : Room} {s : State} {m : MethodId} {args : Array Value} {below : List Frame} {meth : Method} {c : Code} {H : Heap} {locs : List Loc} {cells slots : Nat} {Q : State → Prop}
variable {cc : ByteArray} {nL : Nat} {ret : Option FieldType} {own : String} {pc : Nat} {ls : Array Slot} {rest st0 : List Value} {D : va_G} {k : Nat → ClassId} {A : Nat → Prop} {ws : va_W} {H0 : Heap} {nc ns : Nat}
section KRET
variable {X : Type} {vv : X → Option Value} {B : X → Heap → Prop} {ws1 : X → va_W}
theorem k_vret (C : Cx p s m meth c cc nL none own args) (x : X) (hv : vv x = none) (hB : B x H) (hP : va_P D clA (ws1 x) H) (hD : va_D A (ws1 x)) (hS : va_S A s.heap H locs) (hc : cells ≤ nc) (hs : slots ≤ ns) (hdg : decode cc pc = .ok (.return_, 1)) : W p l e R s m args below meth c H locs cells slots (MQ below (kQ D vv B ws1 A) args s nc ns A) (F0 m pc ls []) := by
  refine W_more hc hs ?_
  exact W.vret C.1 C.2.1 C.2.2.1 (fun t ht _ => ⟨x, by rw [hv], by rw [ht]; exact hB, by rw [ht]; exact hP, hD, hS.F ht⟩) hS.2.2 hdg C.2.2.2.2.2.2
theorem k_iret {z : Int32} (C : Cx p s m meth c cc nL (some .int) own args) (x : X) (hv : vv x = some (.int z)) (hB : B x H) (hP : va_P D clA (ws1 x) H) (hD : va_D A (ws1 x)) (hS : va_S A s.heap H locs) (hc : cells ≤ nc) (hs : slots ≤ ns) (hdg : decode cc pc = .ok (.ireturn, 1)) : W p l e R s m args below meth c H locs cells slots (MQ below (kQ D vv B ws1 A) args s nc ns A) (F0 m pc ls [.int z]) := by
  refine W_more hc hs ?_
  exact W.iret C.1 C.2.1 C.2.2.1 (fun t ht _ => ⟨x, by rw [hv], by rw [ht]; exact hB, by rw [ht]; exact hP, hD, hS.F ht⟩) hS.2.2 hdg C.2.2.2.2.2.2
theorem k_zret {P : Prop} {z : Int32} (C : Cx p s m meth c cc nL (some .boolean) own args) (x : X) (hz : z = bI P) (hv : vv x = some (.int (bI P))) (hB : B x H) (hP : va_P D clA (ws1 x) H) (hD : va_D A (ws1 x)) (hS : va_S A s.heap H locs) (hc : cells ≤ nc) (hs : slots ≤ ns) (hdg : decode cc pc = .ok (.ireturn, 1)) : W p l e R s m args below meth c H locs cells slots (MQ below (kQ D vv B ws1 A) args s nc ns A) (F0 m pc ls [.int z]) := by
  subst hz
  refine W_more hc hs ?_
  exact W.zret C.1 C.2.1 C.2.2.1 bI_nar (fun t ht _ => ⟨x, by rw [hv], by rw [ht]; exact hB, by rw [ht]; exact hP, hD, hS.F ht⟩) hS.2.2 hdg C.2.2.2.2.2.2
theorem k_lret {z : Int64} (C : Cx p s m meth c cc nL (some .long) own args) (x : X) (hv : vv x = some (.long z)) (hB : B x H) (hP : va_P D clA (ws1 x) H) (hD : va_D A (ws1 x)) (hS : va_S A s.heap H locs) (hc : cells ≤ nc) (hs : slots ≤ ns) (hdg : decode cc pc = .ok (.lreturn, 1)) : W p l e R s m args below meth c H locs cells slots (MQ below (kQ D vv B ws1 A) args s nc ns A) (F0 m pc ls [.long z]) := by
  refine W_more hc hs ?_
  exact W.lret C.1 C.2.1 C.2.2.1 (fun t ht _ => ⟨x, by rw [hv], by rw [ht]; exact hB, by rw [ht]; exact hP, hD, hS.F ht⟩) hS.2.2 hdg C.2.2.2.2.2.2
theorem k_aret {a : Nat} {rt : FieldType} (C : Cx p s m meth c cc nL (some rt) own args) (hrt : (∃ n, rt = .object n) ∨ ∃ t, rt = .array t) (x : X) (hv : vv x = some (.ref a)) (hB : B x H) (hP : va_P D clA (ws1 x) H) (hD : va_D A (ws1 x)) (hS : va_S A s.heap H locs) (hc : cells ≤ nc) (hs : slots ≤ ns) (hdg : decode cc pc = .ok (.areturn, 1)) : W p l e R s m args below meth c H locs cells slots (MQ below (kQ D vv B ws1 A) args s nc ns A) (F0 m pc ls [.ref a]) := by
  refine W_more hc hs ?_
  exact W.aret C.1 C.2.1 C.2.2.1 hrt (Or.inr ⟨a, rfl⟩) (fun t ht _ => ⟨x, by rw [hv], by rw [ht]; exact hB, by rw [ht]; exact hP, hD, hS.F ht⟩) hS.2.2 hdg C.2.2.2.2.2.2
end KRET
section AFTER9
variable {mc ms : Nat} {v : Option Value} {a0 : Array Value} {A1 : Nat → Prop} {X : Type} {vv : X → Option Value} {B : X → Heap → Prop} {ws1 : X → va_W}
theorem D_wide {A B : Nat → Prop} {ws : va_W} (h : va_D A ws) (hAB : ∀ q, A q → B q) : va_D B ws := ⟨h.1, fun k q hk => hAB _ (h.2 k q hk)⟩
theorem k_after (hr : va_Run p l e R s m args below meth c H locs cells slots mc ms (F0 m pc ls st0) rest (kQ D vv B ws1 A1 a0) A1) (hS : va_S A H0 H locs) (hAA : ∀ q, A1 q → A q)
    (kk : ∀ (x : X) (H1 : Heap) (locs1 : List Loc), B x H1 → va_P D clA (ws1 x) H1 → va_D A (ws1 x) → va_S A H0 H1 locs1 → H.size ≤ H1.size → (∀ q : Nat, q < H.size → ¬ A1 q → H1[q]? = H[q]?) → W p l e R s m args below meth c H1 locs1 (cells + mc) (slots + ms) Q (F0 m (pc + 3) ls ((vv x).toList ++ rest))) : W p l e R s m args below meth c H locs cells slots Q (F0 m pc ls st0) := by
  intro T hT X
  obtain ⟨v', st₀, t, T', L, h0, X', hL, e1, e2, ⟨x, hv, hB, hP, hD, hz, hk⟩, st⟩ := hr T hT X
  cases hv
  rw [h0] at hz hk
  rw [← e1] at hz hk hP hB
  obtain ⟨t2, a1, b1⟩ := kk x T'.heap (locs ++ L) hB hP (D_wide hD hAA) ⟨Nat.le_trans hS.1 hz, fun q h1 h2 => (hk q (Nat.lt_of_lt_of_le h1 hS.1) (fun z => h2 (hAA _ z))).trans (hS.2.1 q h1 h2), fun q hq => by
      rcases List.mem_append.mp hq with h | h
      · exact hS.2.2 q h
      · exact hAA _ (hL q h)⟩ hz hk T' rfl X'
  exact ⟨t2, st t2 a1, b1⟩
theorem r_after5 (hr : va_Run5 p l e R s m args below meth c H locs cells slots mc ms (F0 m pc ls st0) rest (rQ v a0) (fun _ => False))
    (kk : W p l e R s m args below meth c H locs (cells + mc) (slots + ms) Q (F0 m (pc + 5) ls (v.toList ++ rest))) : W p l e R s m args below meth c H locs cells slots Q (F0 m pc ls st0) := by
  intro T hT X
  obtain ⟨v', st₀, t, T', L, h0, X', hL, e1, e2, ⟨hv, hh⟩, st⟩ := hr T hT X
  cases hv
  obtain ⟨t2, a1, b1⟩ := kk T' (by rw [e1, hh, h0]) (Stand.forget X' (fun q h => (hL q h).elim))
  exact ⟨t2, st t2 a1, b1⟩
theorem k_after5 (hr : va_Run5 p l e R s m args below meth c H locs cells slots mc ms (F0 m pc ls st0) rest (kQ D vv B ws1 A1 a0) A1) (hS : va_S A H0 H locs) (hAA : ∀ q, A1 q → A q)
    (kk : ∀ (x : X) (H1 : Heap) (locs1 : List Loc), B x H1 → va_P D clA (ws1 x) H1 → va_D A (ws1 x) → va_S A H0 H1 locs1 → H.size ≤ H1.size → (∀ q : Nat, q < H.size → ¬ A1 q → H1[q]? = H[q]?) → W p l e R s m args below meth c H1 locs1 (cells + mc) (slots + ms) Q (F0 m (pc + 5) ls ((vv x).toList ++ rest))) : W p l e R s m args below meth c H locs cells slots Q (F0 m pc ls st0) := by
  intro T hT X
  obtain ⟨v', st₀, t, T', L, h0, X', hL, e1, e2, ⟨x, hv, hB, hP, hD, hz, hk⟩, st⟩ := hr T hT X
  cases hv
  rw [h0] at hz hk
  rw [← e1] at hz hk hP hB
  obtain ⟨t2, a1, b1⟩ := kk x T'.heap (locs ++ L) hB hP (D_wide hD hAA) ⟨Nat.le_trans hS.1 hz, fun q h1 h2 => (hk q (Nat.lt_of_lt_of_le h1 hS.1) (fun z => h2 (hAA _ z))).trans (hS.2.1 q h1 h2), fun q hq => by
      rcases List.mem_append.mp hq with h | h
      · exact hS.2.2 q h
      · exact hAA _ (hL q h)⟩ hz hk T' rfl X'
  exact ⟨t2, st t2 a1, b1⟩
end AFTER9
end ROWS9
