/-! BASE, part 7: contracts of methods that make: gM (garbage only), hM (live cells and new ones) -/
set_option maxRecDepth 100000
/-- what is frozen stays -/
theorem frz {D : va_G} {cl : List vw_C} {fz : va_W} {A : Nat → Prop} {H0 H : Heap} {locs : List Loc} (h : va_P D cl fz H0) (hn : ∀ q ∈ fz, ¬ A q.1) (hS : va_S A H0 H locs) : va_P D cl fz H :=
  h.kept (fun i q hi => hS.2.1 q.1 ((h i q hi).lt) (hn q (List.mem_of_getElem? hi)))
theorem frzF {D : va_G} {cl : List vw_C} {fz : va_W} {H0 H : Heap} {locs : List Loc} (h : va_P D cl fz H0) (hS : va_S (fun q => H0.size ≤ q) H0 H locs) : va_P D cl fz H :=
  h.kept (fun i q hi => hS.2.1 q.1 ((h i q hi).lt) (by have := (h i q hi).lt; omega))
/-- an answer; old cells are as they were -/
def gQ (v : Option Value) : Array Value → State → Outcome → State → Prop := fun _ st o t => o = .returned v ∧ va_F (fun _ => False) st t
abbrev gM (l : Launch) (D : va_G) (k : Nat → ClassId) (y : MethodName) (cc : ByteArray) (nL : Nat) (ret : Option FieldType) (fr lo nc ns : Nat) (av : List Value) (Ph : State → Prop) (v : Option Value) : Prop :=
  Met l y (ws_ y cc nL ret) (Rm fr lo nc ns) (sP D k av Ph) (gQ v) nc ns (fun _ => False)
def hQ (D : va_G) {X : Type} (v : X → Option Value) (ws1 : X → va_W) (A : Nat → Prop) : Array Value → State → Outcome → State → Prop := fun _ st o t => ∃ x, o = .returned (v x) ∧ va_P D clA (ws1 x) t.heap ∧ va_D A (ws1 x) ∧ va_F A st t
def hPre (D : va_G) (ws0 : va_W) (A : Nat → Prop) (Ph : State → Prop) (U : State) : Prop := va_P D clA ws0 U.heap ∧ (∀ q, U.heap.size ≤ q → A q) ∧ Ph U
abbrev hM (l : Launch) (D : va_G) (k : Nat → ClassId) (y : MethodName) (cc : ByteArray) (nL : Nat) (ret : Option FieldType) (fr lo nc ns : Nat) (av : List Value) (ws0 : va_W) (Ph : State → Prop) {X : Type} (v : X → Option Value) (ws1 : X → va_W) (A : Nat → Prop) : Prop :=
  Met l y (ws_ y cc nL ret) (Rm fr lo nc ns) (sP D k av (hPre D ws0 A Ph)) (hQ D v ws1 A) nc ns A
theorem gM_of {l : Launch} {D : va_G} {k : Nat → ClassId} {y : MethodName} {cc : ByteArray} {nL : Nat} {ret : Option FieldType} {fr lo nc ns : Nat} {av : List Value} {Ph : State → Prop} {v : Option Value} (hy : plainName y.cls = true) (hn : (lg_sl av).length ≤ nL)
    (body : ∀ (p : Program) (e : Env) (s : State) (m : MethodId) (below : List Frame) (meth : Method) (c : Code) (ls : Array Slot), Cx p s m meth c cc nL ret y.cls av.toArray → KA D k s → Ph s → va_S (fun q => s.heap.size ≤ q) s.heap s.heap [] → lv_has ls nL (lv_args 0 av) → W p l e (Rm fr lo nc ns) s m av.toArray below meth c s.heap [] 0 0 (MQ below (gQ v) av.toArray s nc ns (fun _ => False)) (F0 m 0 ls [])) : gM l D k y cc nL ret fr lo nc ns av Ph v := by
  refine Met.ofW (cc := cc) (maxL := nL) (ret := ret) hy rfl ?_
  intro p e s m args below meth c s₁ B hml hv
  obtain ⟨rfl, hP, hK⟩ := hv
  have hts := atoms_spec (ws := ws_ y cc nL ret) B.pre
  have hts : ∀ w ∈ lw_all, w.before _ s = true := fun w h => hts w (List.mem_cons_of_mem _ h)
  have hown : s.vm.findClass y.cls = some m.cls := findClass_of_methodNamed B.named
  rw [lg_entry_eq]
  exact body p e s m below meth c _ ⟨B.exec, B.bytes, B.returns, hml, hown, hts, B.notSynchronized⟩ hK hP va_S.rf (lv_entry av hn)
theorem hM_of {l : Launch} {D : va_G} {k : Nat → ClassId} {y : MethodName} {cc : ByteArray} {nL : Nat} {ret : Option FieldType} {fr lo nc ns : Nat} {av : List Value} {ws0 : va_W} {Ph : State → Prop} {X : Type} {v : X → Option Value} {ws1 : X → va_W} {A : Nat → Prop} (hy : plainName y.cls = true) (hn : (lg_sl av).length ≤ nL)
    (body : ∀ (p : Program) (e : Env) (s : State) (m : MethodId) (below : List Frame) (meth : Method) (c : Code) (ls : Array Slot), Cx p s m meth c cc nL ret y.cls av.toArray → meth.name = y.name → KA D k s → va_P D clA ws0 s.heap → (∀ q, s.heap.size ≤ q → A q) → Ph s → va_S A s.heap s.heap [] → lv_has ls nL (lv_args 0 av) → W p l e (Rm fr lo nc ns) s m av.toArray below meth c s.heap [] 0 0 (MQ below (hQ D v ws1 A) av.toArray s nc ns A) (F0 m 0 ls [])) : hM l D k y cc nL ret fr lo nc ns av ws0 Ph v ws1 A := by
  refine Met.ofW (cc := cc) (maxL := nL) (ret := ret) hy rfl ?_
  intro p e s m args below meth c s₁ B hml hv
  obtain ⟨rfl, ⟨hP, hA, hPh⟩, hK⟩ := hv
  have hts := atoms_spec (ws := ws_ y cc nL ret) B.pre
  have hts : ∀ w ∈ lw_all, w.before _ s = true := fun w h => hts w (List.mem_cons_of_mem _ h)
  have hown : s.vm.findClass y.cls = some m.cls := findClass_of_methodNamed B.named
  rw [lg_entry_eq]
  exact body p e s m below meth c _ ⟨B.exec, B.bytes, B.returns, hml, hown, hts, B.notSynchronized⟩ (name_of_methodNamed B.named B.method).1 hK hP hA hPh va_S.rf (lv_entry av hn)
theorem mv2_hPre {D : va_G} {ws0 : va_W} {A : Nat → Prop} {Ph : State → Prop} (h : mv2 Ph) : mv2 (hPre D ws0 A Ph) := fun u U e a q => ⟨by rw [e]; exact q.1, by rw [e]; exact q.2.1, h u U e a q.2.2⟩
theorem mv2_hp {P : Heap → Prop} : mv2 (fun U => P U.heap) := fun u U e _ q => by show P U.heap; rw [e]; exact q
theorem mv2_true : mv2 (fun _ => True) := fun _ _ _ _ _ => trivial
theorem mv_hPre {D : va_G} {ws0 : va_W} {A : Nat → Prop} {Ph : State → Prop} (h : mv Ph) : mv (hPre D ws0 A Ph) := fun u U e a q => ⟨by rw [e]; exact q.1, by rw [e]; exact q.2.1, h u U e a q.2.2⟩
section ROWS7
variable {p : Program} {l : Launch} {e : Env} {R : Room} {s : State} {m : MethodId} {args : Array Value} {below : List Frame} {meth : Method} {c : Code} {H : Heap} {locs : List Loc} {cells slots : Nat} {Q : State → Prop}
variable {cc : ByteArray} {nL : Nat} {ret : Option FieldType} {own : String} {pc : Nat} {ls : Array Slot} {rest st0 : List Value} {D : va_G} {k : Nat → ClassId} {A : Nat → Prop} {ws : va_W} {H0 : Heap} {nc ns : Nat}
theorem vaF_fresh {t : State} {A' : Nat → Prop} (hS : va_S (fun q => s.heap.size ≤ q) s.heap H locs) (ht : t.heap = H) : va_F A' s t := ⟨by rw [ht]; exact hS.1, fun q h _ => by rw [ht]; exact hS.2.1 q h (by omega)⟩
theorem W_more {g : JFrame} {cells' slots' : Nat} (h1 : cells ≤ cells') (h2 : slots ≤ slots') (kk : W p l e R s m args below meth c H locs cells' slots' Q g) : W p l e R s m args below meth c H locs cells slots Q g := fun T hT X => kk T hT (X.mono h1 h2)
theorem g_forget (hS : va_S (fun q => s.heap.size ≤ q) s.heap H locs) {g : JFrame} (kk : W p l e R s m args below meth c H [] cells slots Q g) : W p l e R s m args below meth c H locs cells slots Q g := va_forget hS.2.2 kk
theorem g_iret {v x : Int32} (C : Cx p s m meth c cc nL (some .int) own args) (hv : x = v) (hS : va_S (fun q => s.heap.size ≤ q) s.heap H locs) (hc : cells ≤ nc) (hs : slots ≤ ns) (hdg : decode cc pc = .ok (.ireturn, 1)) : W p l e R s m args below meth c H locs cells slots (MQ below (gQ (some (.int v))) args s nc ns (fun _ => False)) (F0 m pc ls [.int x]) := by
  subst hv
  refine g_forget hS (W_more hc hs ?_)
  exact W.iret C.1 C.2.1 C.2.2.1 (fun t ht _ => ⟨rfl, vaF_fresh hS ht⟩) (fun q h => by cases h) hdg C.2.2.2.2.2.2
theorem g_zret {P : Prop} {x : Int32} (C : Cx p s m meth c cc nL (some .boolean) own args) (hv : x = bI P) (hS : va_S (fun q => s.heap.size ≤ q) s.heap H locs) (hc : cells ≤ nc) (hs : slots ≤ ns) (hdg : decode cc pc = .ok (.ireturn, 1)) : W p l e R s m args below meth c H locs cells slots (MQ below (gQ (some (.int (bI P)))) args s nc ns (fun _ => False)) (F0 m pc ls [.int x]) := by
  subst hv
  refine g_forget hS (W_more hc hs ?_)
  exact W.zret C.1 C.2.1 C.2.2.1 bI_nar (fun t ht _ => ⟨rfl, vaF_fresh hS ht⟩) (fun q h => by cases h) hdg C.2.2.2.2.2.2
theorem g_lret {v x : Int64} (C : Cx p s m meth c cc nL (some .long) own args) (hv : x = v) (hS : va_S (fun q => s.heap.size ≤ q) s.heap H locs) (hc : cells ≤ nc) (hs : slots ≤ ns) (hdg : decode cc pc = .ok (.lreturn, 1)) : W p l e R s m args below meth c H locs cells slots (MQ below (gQ (some (.long v))) args s nc ns (fun _ => False)) (F0 m pc ls [.long x]) := by
  subst hv
  refine g_forget hS (W_more hc hs ?_)
  exact W.lret C.1 C.2.1 C.2.2.1 (fun t ht _ => ⟨rfl, vaF_fresh hS ht⟩) (fun q h => by cases h) hdg C.2.2.2.2.2.2
section HRET
variable {X : Type} {vv : X → Option Value} {ws1 : X → va_W}
theorem h_vret (C : Cx p s m meth c cc nL none own args) (x : X) (hv : vv x = none) (hP : va_P D clA (ws1 x) H) (hD : va_D A (ws1 x)) (hS : va_S A s.heap H locs) (hc : cells ≤ nc) (hs : slots ≤ ns) (hdg : decode cc pc = .ok (.return_, 1)) : W p l e R s m args below meth c H locs cells slots (MQ below (hQ D vv ws1 A) args s nc ns A) (F0 m pc ls []) := by
  refine W_more hc hs ?_
  exact W.vret C.1 C.2.1 C.2.2.1 (fun t ht _ => ⟨x, by rw [hv], by rw [ht]; exact hP, hD, hS.F ht⟩) hS.2.2 hdg C.2.2.2.2.2.2
theorem h_iret {z : Int32} (C : Cx p s m meth c cc nL (some .int) own args) (x : X) (hv : vv x = some (.int z)) (hP : va_P D clA (ws1 x) H) (hD : va_D A (ws1 x)) (hS : va_S A s.heap H locs) (hc : cells ≤ nc) (hs : slots ≤ ns) (hdg : decode cc pc = .ok (.ireturn, 1)) : W p l e R s m args below meth c H locs cells slots (MQ below (hQ D vv ws1 A) args s nc ns A) (F0 m pc ls [.int z]) := by
  refine W_more hc hs ?_
  exact W.iret C.1 C.2.1 C.2.2.1 (fun t ht _ => ⟨x, by rw [hv], by rw [ht]; exact hP, hD, hS.F ht⟩) hS.2.2 hdg C.2.2.2.2.2.2
theorem h_zret {P : Prop} {z : Int32} (C : Cx p s m meth c cc nL (some .boolean) own args) (x : X) (hz : z = bI P) (hv : vv x = some (.int (bI P))) (hP : va_P D clA (ws1 x) H) (hD : va_D A (ws1 x)) (hS : va_S A s.heap H locs) (hc : cells ≤ nc) (hs : slots ≤ ns) (hdg : decode cc pc = .ok (.ireturn, 1)) : W p l e R s m args below meth c H locs cells slots (MQ below (hQ D vv ws1 A) args s nc ns A) (F0 m pc ls [.int z]) := by
  subst hz
  refine W_more hc hs ?_
  exact W.zret C.1 C.2.1 C.2.2.1 bI_nar (fun t ht _ => ⟨x, by rw [hv], by rw [ht]; exact hP, hD, hS.F ht⟩) hS.2.2 hdg C.2.2.2.2.2.2
theorem h_aret {a : Nat} {rt : FieldType} (C : Cx p s m meth c cc nL (some rt) own args) (hrt : (∃ n, rt = .object n) ∨ ∃ t, rt = .array t) (x : X) (hv : vv x = some (.ref a)) (hP : va_P D clA (ws1 x) H) (hD : va_D A (ws1 x)) (hS : va_S A s.heap H locs) (hc : cells ≤ nc) (hs : slots ≤ ns) (hdg : decode cc pc = .ok (.areturn, 1)) : W p l e R s m args below meth c H locs cells slots (MQ below (hQ D vv ws1 A) args s nc ns A) (F0 m pc ls [.ref a]) := by
  refine W_more hc hs ?_
  exact W.aret C.1 C.2.1 C.2.2.1 hrt (Or.inr ⟨a, rfl⟩) (fun t ht _ => ⟨x, by rw [hv], by rw [ht]; exact hP, hD, hS.F ht⟩) hS.2.2 hdg C.2.2.2.2.2.2
end HRET
theorem preS {Ph : State → Prop} {As : List Value} (hm : mv2 Ph) (hK : KA D k s) (hp : ∀ U : State, U.heap = H → s.WarmedH U.vm → Ph U) : PreS s H (sP D k As Ph) As := ⟨sP_blind2 hm, fun U hU hW => ⟨rfl, hp U hU hW, va_K.moved hW.alike hK⟩⟩
theorem preV {Ph : State → Prop} {Cn : String} {b : Addr} {As : List Value} (hm : mv2 Ph) (hK : KA D k s) (hrc : ∃ cell : Cell, H[b]? = some cell ∧ cell.vm.isStatics = false ∧ s.vm.findClass Cn = some cell.cls) (hp : ∀ U : State, U.heap = H → s.WarmedH U.vm → Ph U) : PreV s H Cn b (sP D k (.ref b :: As) Ph) As := ⟨sP_blind2 hm, hrc, fun U hU hW => ⟨rfl, hp U hU hW, va_K.moved hW.alike hK⟩⟩
theorem preR {Ph : Heap → Prop} {As : List Value} (hK : KA D k s) (hp : Ph H) : PreS s H (rP D k As Ph) As := ⟨rP_blind, fun U hU hW => ⟨rfl, by rw [hU]; exact hp, va_K.moved hW.alike hK⟩⟩
theorem preRV {Ph : Heap → Prop} {Cn : String} {b : Addr} {As : List Value} (hK : KA D k s) (hrc : ∃ cell : Cell, H[b]? = some cell ∧ cell.vm.isStatics = false ∧ s.vm.findClass Cn = some cell.cls) (hp : Ph H) : PreV s H Cn b (rP D k (.ref b :: As) Ph) As := ⟨rP_blind, hrc, fun U hU hW => ⟨rfl, by rw [hU]; exact hp, va_K.moved hW.alike hK⟩⟩
section AFTER
variable {mc ms : Nat} {v : Option Value} {a0 : Array Value}
theorem r_after (hr : va_Run p l e R s m args below meth c H locs cells slots mc ms (F0 m pc ls st0) rest (rQ v a0) (fun _ => False))
    (kk : W p l e R s m args below meth c H locs (cells + mc) (slots + ms) Q (F0 m (pc + 3) ls (v.toList ++ rest))) : W p l e R s m args below meth c H locs cells slots Q (F0 m pc ls st0) := by
  intro T hT X
  obtain ⟨v', st₀, t, T', L, h0, X', hL, e1, e2, ⟨hv, hh⟩, st⟩ := hr T hT X
  cases hv
  obtain ⟨t2, a1, b1⟩ := kk T' (by rw [e1, hh, h0]) (Stand.forget X' (fun q h => (hL q h).elim))
  exact ⟨t2, st t2 a1, b1⟩
theorem g_after (hr : va_Run p l e R s m args below meth c H locs cells slots mc ms (F0 m pc ls st0) rest (gQ v a0) (fun _ => False)) (hS : va_S A H0 H locs)
    (kk : ∀ H1 : Heap, va_S A H0 H1 locs → H.size ≤ H1.size → (∀ q : Nat, q < H.size → H1[q]? = H[q]?) → W p l e R s m args below meth c H1 locs (cells + mc) (slots + ms) Q (F0 m (pc + 3) ls (v.toList ++ rest))) : W p l e R s m args below meth c H locs cells slots Q (F0 m pc ls st0) := by
  intro T hT X
  obtain ⟨v', st₀, t, T', L, h0, X', hL, e1, e2, ⟨hv, hz, hk⟩, st⟩ := hr T hT X
  cases hv
  rw [h0] at hz hk
  rw [← e1] at hz hk
  obtain ⟨t2, a1, b1⟩ := kk T'.heap ⟨Nat.le_trans hS.1 hz, fun q h1 h2 => (hk q (Nat.lt_of_lt_of_le h1 hS.1) (fun z => z)).trans (hS.2.1 q h1 h2), hS.2.2⟩ hz (fun q hq => hk q hq (fun z => z)) T' rfl (Stand.forget X' (fun q h => (hL q h).elim))
  exact ⟨t2, st t2 a1, b1⟩
theorem h_after {X : Type} {vv : X → Option Value} {ws1 : X → va_W} (hr : va_Run p l e R s m args below meth c H locs cells slots mc ms (F0 m pc ls st0) rest (hQ D vv ws1 A a0) A) (hS : va_S A H0 H locs)
    (kk : ∀ (x : X) (H1 : Heap) (locs1 : List Loc), va_P D clA (ws1 x) H1 → va_D A (ws1 x) → va_S A H0 H1 locs1 → W p l e R s m args below meth c H1 locs1 (cells + mc) (slots + ms) Q (F0 m (pc + 3) ls ((vv x).toList ++ rest))) : W p l e R s m args below meth c H locs cells slots Q (F0 m pc ls st0) := by
  intro T hT X
  obtain ⟨v', st₀, t, T', L, h0, X', hL, e1, e2, ⟨x, hv, hP, hD, hz, hk⟩, st⟩ := hr T hT X
  cases hv
  rw [h0] at hz hk
  rw [← e1] at hz hk hP
  obtain ⟨t2, a1, b1⟩ := kk x T'.heap (locs ++ L) hP hD ⟨Nat.le_trans hS.1 hz, fun q h1 h2 => (hk q (Nat.lt_of_lt_of_le h1 hS.1) h2).trans (hS.2.1 q h1 h2), fun q hq => by
      rcases List.mem_append.mp hq with h | h
      · exact hS.2.2 q h
      · exact hL q h⟩ T' rfl X'
  exact ⟨t2, st t2 a1, b1⟩
end AFTER
end ROWS7
