/-! BASE: the system's classes, the two forms of contract (reading: rM; writing: wM), rows with a named result -/
set_option maxRecDepth 100000
abbrev clA : List vw_C := [(RX5, TX5, 16), (RX1, TX1, 5), (RX2, TX2, 5), (RX3, TX3, 2), (RX4, TX4, 2), (RX6, TX6, 8), (RX8, TX8, 7), (RX9, TX9, 8), (RX10, TX10, 11), (RX11, TX11, 3), (RX12, TX12, 6), (RJ1, TJ1, 3), (RJ3, TJ3, 3), (RJ9, TJ9, 4), (RJ10, TJ10, 4), (RJ18, TJ18, 1)]
abbrev tyA (k : Nat → ClassId) : List (ClassId × FieldType) := [(k 0, .int), (k 1, .byte), (k 2, .long), (k 3, .object "java/lang/Object"), (k 4, .array .int)]
abbrev KA (D : va_G) (k : Nat → ClassId) (U : State) : Prop := va_K D clA (tyA k) U
/-- what holds all through a method's body -/
abbrev Cx (p : Program) (s : State) (m : MethodId) (meth : Method) (c : Code) (cc : ByteArray) (nL : Nat) (ret : Option FieldType) (own : String) (args : Array Value) : Prop :=
  p.tables.exec = Jvm.exec ∧ c.code = cc ∧ meth.sig.returnType = ret ∧ c.maxLocals = nL ∧ s.vm.findClass own = some m.cls ∧ (∀ w ∈ lw_all, w.before args s = true) ∧ meth.locks = false
theorem Cx.fix {p : Program} {s : State} {m : MethodId} {meth : Method} {c : Code} {cc : ByteArray} {nL : Nat} {ret : Option FieldType} {own : String} {args : Array Value} (C : Cx p s m meth c cc nL ret own args) : CallFix p m c cc nL s args lw_all own :=
  ⟨C.1, C.2.1, C.2.2.2.1, C.2.2.2.2.1, C.2.2.2.2.2.1⟩
/-- an answer, and the heap as it was -/
def rQ (v : Option Value) : Array Value → State → Outcome → State → Prop := fun _ st o t => o = .returned v ∧ t.heap = st.heap
abbrev rP (D : va_G) (k : Nat → ClassId) (av : List Value) (Ph : Heap → Prop) : Array Value → State → Prop := va_Pc av (fun U => Ph U.heap ∧ KA D k U)
abbrev Rm (fr lo cl sl : Nat) : Room := { frames := fr, cells := cl, slots := sl, locals := lo }
/-- a contract that reads -/
abbrev rM (l : Launch) (D : va_G) (k : Nat → ClassId) (y : MethodName) (cc : ByteArray) (nL : Nat) (ret : Option FieldType) (fr lo : Nat) (av : List Value) (Ph : Heap → Prop) (v : Option Value) : Prop :=
  Met l y (ws_ y cc nL ret) (Rm fr lo 0 0) (rP D k av Ph) (rQ v) 0 0 (fun _ => False)
theorem rP_blind {D : va_G} {k : Nat → ClassId} {av : List Value} {Ph : Heap → Prop} : FrameBlind (rP D k av Ph) :=
  fun a U g mk q => ⟨q.1, q.2.1, va_K.moved (u := U) (U := U.calling g mk a) (Vm.Alike.refl U.vm) q.2.2⟩
theorem rM_of {l : Launch} {D : va_G} {k : Nat → ClassId} {y : MethodName} {cc : ByteArray} {nL : Nat} {ret : Option FieldType} {fr lo : Nat} {av : List Value} {Ph : Heap → Prop} {v : Option Value} (hy : plainName y.cls = true) (hn : (lg_sl av).length ≤ nL)
    (body : ∀ (p : Program) (e : Env) (s : State) (m : MethodId) (below : List Frame) (meth : Method) (c : Code) (ls : Array Slot), Cx p s m meth c cc nL ret y.cls av.toArray → KA D k s → Ph s.heap → lv_has ls nL (lv_args 0 av) → W p l e (Rm fr lo 0 0) s m av.toArray below meth c s.heap [] 0 0 (MQ below (rQ v) av.toArray s 0 0 (fun _ => False)) (F0 m 0 ls [])) : rM l D k y cc nL ret fr lo av Ph v := by
  refine Met.ofW (cc := cc) (maxL := nL) (ret := ret) hy rfl ?_
  intro p e s m args below meth c s₁ B hml hv
  obtain ⟨rfl, hP, hK⟩ := hv
  have hts := atoms_spec (ws := ws_ y cc nL ret) B.pre
  have hts : ∀ w ∈ lw_all, w.before _ s = true := fun w h => hts w (List.mem_cons_of_mem _ h)
  have hown : s.vm.findClass y.cls = some m.cls := findClass_of_methodNamed B.named
  rw [lg_entry_eq]
  exact body p e s m below meth c _ ⟨B.exec, B.bytes, B.returns, hml, hown, hts, B.notSynchronized⟩ hK hP (lv_entry av hn)
/-- a contract that writes: the cells ws0 become ws1, no others change, none are made -/
def wQ (D : va_G) (v : Option Value) (ws1 : va_W) (A : Nat → Prop) : Array Value → State → Outcome → State → Prop := fun _ st o t => o = .returned v ∧ va_P D clA ws1 t.heap ∧ va_F A st t
abbrev wM (l : Launch) (D : va_G) (k : Nat → ClassId) (y : MethodName) (cc : ByteArray) (nL : Nat) (ret : Option FieldType) (fr lo : Nat) (av : List Value) (ws0 : va_W) (v : Option Value) (ws1 : va_W) (A : Nat → Prop) : Prop :=
  Met l y (ws_ y cc nL ret) (Rm fr lo 0 0) (rP D k av (va_P D clA ws0)) (wQ D v ws1 A) 0 0 A
theorem wM_of {l : Launch} {D : va_G} {k : Nat → ClassId} {y : MethodName} {cc : ByteArray} {nL : Nat} {ret : Option FieldType} {fr lo : Nat} {av : List Value} {ws0 ws1 : va_W} {v : Option Value} {A : Nat → Prop} (hy : plainName y.cls = true) (hn : (lg_sl av).length ≤ nL)
    (body : ∀ (p : Program) (e : Env) (s : State) (m : MethodId) (below : List Frame) (meth : Method) (c : Code) (ls : Array Slot), Cx p s m meth c cc nL ret y.cls av.toArray → KA D k s → va_P D clA ws0 s.heap → va_S A s.heap s.heap [] → lv_has ls nL (lv_args 0 av) → W p l e (Rm fr lo 0 0) s m av.toArray below meth c s.heap [] 0 0 (MQ below (wQ D v ws1 A) av.toArray s 0 0 A) (F0 m 0 ls [])) : wM l D k y cc nL ret fr lo av ws0 v ws1 A := by
  refine Met.ofW (cc := cc) (maxL := nL) (ret := ret) hy rfl ?_
  intro p e s m args below meth c s₁ B hml hv
  obtain ⟨rfl, hP, hK⟩ := hv
  have hts := atoms_spec (ws := ws_ y cc nL ret) B.pre
  have hts : ∀ w ∈ lw_all, w.before _ s = true := fun w h => hts w (List.mem_cons_of_mem _ h)
  have hown : s.vm.findClass y.cls = some m.cls := findClass_of_methodNamed B.named
  rw [lg_entry_eq]
  exact body p e s m below meth c _ ⟨B.exec, B.bytes, B.returns, hml, hown, hts, B.notSynchronized⟩ hK hP va_S.rf (lv_entry av hn)
noncomputable def bI (P : Prop) : Int32 := @ite _ P (Classical.propDecidable P) 1 0
theorem bI_t {P : Prop} (h : P) : 1 = bI P := by simp [bI, h]
theorem bI_f {P : Prop} (h : ¬ P) : 0 = bI P := by simp [bI, h]
theorem bI_1 {P : Prop} : bI P = 1 ↔ P := by unfold bI; split <;> simp_all
theorem bI_0 {P : Prop} : bI P = 0 ↔ ¬ P := by unfold bI; split <;> simp_all
theorem bI_nar {P : Prop} : narrow .boolean (.int (bI P)) = .int (bI P) := by unfold bI; split <;> rfl
theorem bI_cg {P Q : Prop} (h : P ↔ Q) : bI P = bI Q := by rw [propext h]
theorem bI_or {P : Prop} : (P ∧ bI P = 1) ∨ (¬ P ∧ bI P = 0) := by
  rcases Classical.em P with h | h
  · exact Or.inl ⟨h, (bI_t h).symm⟩
  · exact Or.inr ⟨h, (bI_f h).symm⟩
section ROWS
variable {p : Program} {l : Launch} {e : Env} {R : Room} {s : State} {m : MethodId} {args : Array Value} {below : List Frame} {meth : Method} {c : Code} {H : Heap} {locs : List Loc} {cells slots : Nat} {Q : State → Prop}
variable {cc : ByteArray} {nL : Nat} {ret : Option FieldType} {own : String} {pc : Nat} {ls : Array Slot} {rest st0 : List Value} {D : va_G} {k : Nat → ClassId} {A : Nat → Prop}
/-- the top of the stack by another name -/
theorem w_top {v v' : Value} (h : v = v') (kk : W p l e R s m args below meth c H locs cells slots Q (F0 m pc ls (v' :: rest))) : W p l e R s m args below meth c H locs cells slots Q (F0 m pc ls (v :: rest)) := h ▸ kk
theorem w_topi {x y : Int32} (h : x = y) (kk : W p l e R s m args below meth c H locs cells slots Q (F0 m pc ls (.int y :: rest))) : W p l e R s m args below meth c H locs cells slots Q (F0 m pc ls (.int x :: rest)) := h ▸ kk
theorem w_topl {x y : Int64} (h : x = y) (kk : W p l e R s m args below meth c H locs cells slots Q (F0 m pc ls (.long y :: rest))) : W p l e R s m args below meth c H locs cells slots Q (F0 m pc ls (.long x :: rest)) := h ▸ kk
theorem r_iret {v x : Int32} (C : Cx p s m meth c cc nL (some .int) own args) (hv : x = v) (hdg : decode cc pc = .ok (.ireturn, 1)) : W p l e R s m args below meth c s.heap [] 0 0 (MQ below (rQ (some (.int v))) args s 0 0 (fun _ => False)) (F0 m pc ls [.int x]) := by
  subst hv
  exact W.iret C.1 C.2.1 C.2.2.1 (fun t ht _ => ⟨rfl, ht⟩) (fun q h => by cases h) hdg C.2.2.2.2.2.2
theorem r_zret {P : Prop} {x : Int32} (C : Cx p s m meth c cc nL (some .boolean) own args) (hv : x = bI P) (hdg : decode cc pc = .ok (.ireturn, 1)) : W p l e R s m args below meth c s.heap [] 0 0 (MQ below (rQ (some (.int (bI P)))) args s 0 0 (fun _ => False)) (F0 m pc ls [.int x]) := by
  subst hv
  exact W.zret C.1 C.2.1 C.2.2.1 bI_nar (fun t ht _ => ⟨rfl, ht⟩) (fun q h => by cases h) hdg C.2.2.2.2.2.2
theorem r_lret {v x : Int64} (C : Cx p s m meth c cc nL (some .long) own args) (hv : x = v) (hdg : decode cc pc = .ok (.lreturn, 1)) : W p l e R s m args below meth c s.heap [] 0 0 (MQ below (rQ (some (.long v))) args s 0 0 (fun _ => False)) (F0 m pc ls [.long x]) := by
  subst hv
  exact W.lret C.1 C.2.1 C.2.2.1 (fun t ht _ => ⟨rfl, ht⟩) (fun q h => by cases h) hdg C.2.2.2.2.2.2
theorem w_iret {v x : Int32} {ws1 : va_W} (C : Cx p s m meth c cc nL (some .int) own args) (hv : x = v) (hP : va_P D clA ws1 H) (hS : va_S A s.heap H locs) (hdg : decode cc pc = .ok (.ireturn, 1)) : W p l e R s m args below meth c H locs 0 0 (MQ below (wQ D (some (.int v)) ws1 A) args s 0 0 A) (F0 m pc ls [.int x]) := by
  subst hv
  exact W.iret C.1 C.2.1 C.2.2.1 (fun t ht _ => ⟨rfl, by rw [ht]; exact hP, hS.F ht⟩) hS.2.2 hdg C.2.2.2.2.2.2
theorem w_zret {P : Prop} {x : Int32} {ws1 : va_W} (C : Cx p s m meth c cc nL (some .boolean) own args) (hv : x = bI P) (hP : va_P D clA ws1 H) (hS : va_S A s.heap H locs) (hdg : decode cc pc = .ok (.ireturn, 1)) : W p l e R s m args below meth c H locs 0 0 (MQ below (wQ D (some (.int (bI P))) ws1 A) args s 0 0 A) (F0 m pc ls [.int x]) := by
  subst hv
  exact W.zret C.1 C.2.1 C.2.2.1 bI_nar (fun t ht _ => ⟨rfl, by rw [ht]; exact hP, hS.F ht⟩) hS.2.2 hdg C.2.2.2.2.2.2
theorem w_lret {v x : Int64} {ws1 : va_W} (C : Cx p s m meth c cc nL (some .long) own args) (hv : x = v) (hP : va_P D clA ws1 H) (hS : va_S A s.heap H locs) (hdg : decode cc pc = .ok (.lreturn, 1)) : W p l e R s m args below meth c H locs 0 0 (MQ below (wQ D (some (.long v)) ws1 A) args s 0 0 A) (F0 m pc ls [.long x]) := by
  subst hv
  exact W.lret C.1 C.2.1 C.2.2.1 (fun t ht _ => ⟨rfl, by rw [ht]; exact hP, hS.F ht⟩) hS.2.2 hdg C.2.2.2.2.2.2
theorem w_vret {ws1 : va_W} (C : Cx p s m meth c cc nL none own args) (hP : va_P D clA ws1 H) (hS : va_S A s.heap H locs) (hdg : decode cc pc = .ok (.return_, 1)) : W p l e R s m args below meth c H locs 0 0 (MQ below (wQ D none ws1 A) args s 0 0 A) (F0 m pc ls []) :=
  W.vret C.1 C.2.1 C.2.2.1 (fun t ht _ => ⟨rfl, by rw [ht]; exact hP, hS.F ht⟩) hS.2.2 hdg C.2.2.2.2.2.2
/-- a call that reads, static -/
theorem r_callS {y : MethodName} {bytes : ByteArray} {maxL fr lo n idx : Nat} {rt : Option FieldType} {As : List Value} {Ph : Heap → Prop} {v : Option Value} (C : Cx p s m meth c cc nL ret own args) (hM : rM l D k y bytes maxL rt fr lo As Ph v)
    (cw : CallB R s args own idx y bytes maxL rt (ws_ y bytes maxL rt) (Rm fr lo 0 0) 0 0 n ∧ (Cond.static y).before args s = true) (hK : KA D k s) (hP : Ph H) (hn : As.length = n) (hl : ls.size = nL) (hst : st0 = As.reverse ++ rest) (hW : (rest.map fun v => v.category).sum ≤ 8) (hdg : decode cc pc = .ok (.invokestatic idx, 3)) (hf : cells ≤ R.cells ∧ slots ≤ R.slots)
    (kk : W p l e R s m args below meth c H locs cells slots Q (F0 m (pc + 3) ls (v.toList ++ rest))) : W p l e R s m args below meth c H locs cells slots Q (F0 m pc ls st0) := by
  have hr := W.runS (e := e) (meth := meth) (below := below) (locs := locs) (H := H) (g := F0 m pc ls st0) (rest := rest) C.fix hM cw ⟨rP_blind, fun U hU hW => ⟨rfl, by rw [hU]; exact hP, va_K.moved hW.alike hK⟩⟩ rfl hn hl hst (lv_room hW) hdg hf
  intro T hT X
  obtain ⟨v', st₀, t, T', L, h0, X', hL, e1, ⟨hv, hh⟩, st⟩ := hr T hT X
  cases hv
  obtain ⟨t2, a1, b1⟩ := kk T' (by rw [e1, hh, h0]) (Stand.forget X' (fun q h => (hL q h).elim))
  exact ⟨t2, st t2 a1, b1⟩
theorem r_callV {y : MethodName} {Cn : String} {bytes : ByteArray} {maxL fr lo n idx : Nat} {rt : Option FieldType} {b : Addr} {As : List Value} {Ph : Heap → Prop} {v : Option Value} (C : Cx p s m meth c cc nL ret own args) (hM : rM l D k y bytes maxL rt fr lo (.ref b :: As) Ph v)
    (cw : CallW R s args own Cn idx y bytes maxL rt (ws_ y bytes maxL rt) (Rm fr lo 0 0) 0 0 n) (hK : KA D k s) (hrc : ∃ cell : Cell, H[b]? = some cell ∧ cell.vm.isStatics = false ∧ s.vm.findClass Cn = some cell.cls) (hP : Ph H) (hn : As.length = n) (hl : ls.size = nL) (hst : st0 = As.reverse ++ .ref b :: rest) (hW : (rest.map fun v => v.category).sum ≤ 8) (hdg : decode cc pc = .ok (.invokevirtual idx, 3)) (hf : cells ≤ R.cells ∧ slots ≤ R.slots)
    (kk : W p l e R s m args below meth c H locs cells slots Q (F0 m (pc + 3) ls (v.toList ++ rest))) : W p l e R s m args below meth c H locs cells slots Q (F0 m pc ls st0) := by
  have hr := W.runV (e := e) (meth := meth) (below := below) (locs := locs) (H := H) (g := F0 m pc ls st0) (rest := rest) C.fix hM cw ⟨rP_blind, hrc, fun U hU hW => ⟨rfl, by rw [hU]; exact hP, va_K.moved hW.alike hK⟩⟩ rfl hn hl hst (lv_room hW) hdg hf
  intro T hT X
  obtain ⟨v', st₀, t, T', L, h0, X', hL, e1, ⟨hv, hh⟩, st⟩ := hr T hT X
  cases hv
  obtain ⟨t2, a1, b1⟩ := kk T' (by rw [e1, hh, h0]) (Stand.forget X' (fun q h => (hL q h).elim))
  exact ⟨t2, st t2 a1, b1⟩
/-- a call that writes, through an object; the caller's own frame A -/
theorem w_callV {y : MethodName} {Cn : String} {bytes : ByteArray} {maxL fr lo n idx : Nat} {rt : Option FieldType} {b : Addr} {As : List Value} {ws0 ws1 : va_W} {v : Option Value} {A1 : Nat → Prop} {H0 : Heap} (C : Cx p s m meth c cc nL ret own args) (hM : wM l D k y bytes maxL rt fr lo (.ref b :: As) ws0 v ws1 A1)
    (cw : CallW R s args own Cn idx y bytes maxL rt (ws_ y bytes maxL rt) (Rm fr lo 0 0) 0 0 n) (hK : KA D k s) (hrc : ∃ cell : Cell, H[b]? = some cell ∧ cell.vm.isStatics = false ∧ s.vm.findClass Cn = some cell.cls) (hP : va_P D clA ws0 H) (hS : va_S A H0 H locs) (hA : ∀ q, A1 q → A q) (hn : As.length = n) (hl : ls.size = nL) (hst : st0 = As.reverse ++ .ref b :: rest) (hW : (rest.map fun v => v.category).sum ≤ 8) (hdg : decode cc pc = .ok (.invokevirtual idx, 3)) (hf : cells ≤ R.cells ∧ slots ≤ R.slots)
    (kk : ∀ (H1 : Heap) (locs1 : List Loc), va_P D clA ws1 H1 → va_S A H0 H1 locs1 → H.size ≤ H1.size → (∀ q : Nat, q < H.size → ¬ A1 q → H1[q]? = H[q]?) → W p l e R s m args below meth c H1 locs1 cells slots Q (F0 m (pc + 3) ls (v.toList ++ rest))) : W p l e R s m args below meth c H locs cells slots Q (F0 m pc ls st0) := by
  have hr := W.runV (e := e) (meth := meth) (below := below) (locs := locs) (H := H) (g := F0 m pc ls st0) (rest := rest) C.fix hM cw ⟨rP_blind, hrc, fun U hU hW => ⟨rfl, by rw [hU]; exact hP, va_K.moved hW.alike hK⟩⟩ rfl hn hl hst (lv_room hW) hdg hf
  intro T hT X
  obtain ⟨v', st₀, t, T', L, h0, X', hL, e1, ⟨hv, hp, hz, hk⟩, st⟩ := hr T hT X
  cases hv
  rw [h0] at hz hk
  obtain ⟨t2, a1, b1⟩ := kk T'.heap (locs ++ L) (by rw [e1]; exact hp) ⟨Nat.le_trans hS.1 (by rw [e1]; exact hz), fun q h1 h2 => by rw [e1, hk q (Nat.lt_of_lt_of_le h1 hS.1) (fun z => h2 (hA q z))]; exact hS.2.1 q h1 h2, fun q hq => by
      rcases List.mem_append.mp hq with h | h
      · exact hS.2.2 q h
      · exact hA _ (hL q h)⟩ (by rw [e1]; exact hz) (fun q h1 h2 => by rw [e1]; exact hk q h1 h2) T' rfl X'
  exact ⟨t2, st t2 a1, b1⟩
theorem w_callS {y : MethodName} {bytes : ByteArray} {maxL fr lo n idx : Nat} {rt : Option FieldType} {As : List Value} {ws0 ws1 : va_W} {v : Option Value} {A1 : Nat → Prop} {H0 : Heap} (C : Cx p s m meth c cc nL ret own args) (hM : wM l D k y bytes maxL rt fr lo As ws0 v ws1 A1)
    (cw : CallB R s args own idx y bytes maxL rt (ws_ y bytes maxL rt) (Rm fr lo 0 0) 0 0 n ∧ (Cond.static y).before args s = true) (hK : KA D k s) (hP : va_P D clA ws0 H) (hS : va_S A H0 H locs) (hA : ∀ q, A1 q → A q) (hn : As.length = n) (hl : ls.size = nL) (hst : st0 = As.reverse ++ rest) (hW : (rest.map fun v => v.category).sum ≤ 8) (hdg : decode cc pc = .ok (.invokestatic idx, 3)) (hf : cells ≤ R.cells ∧ slots ≤ R.slots)
    (kk : ∀ (H1 : Heap) (locs1 : List Loc), va_P D clA ws1 H1 → va_S A H0 H1 locs1 → H.size ≤ H1.size → (∀ q : Nat, q < H.size → ¬ A1 q → H1[q]? = H[q]?) → W p l e R s m args below meth c H1 locs1 cells slots Q (F0 m (pc + 3) ls (v.toList ++ rest))) : W p l e R s m args below meth c H locs cells slots Q (F0 m pc ls st0) := by
  have hr := W.runS (e := e) (meth := meth) (below := below) (locs := locs) (H := H) (g := F0 m pc ls st0) (rest := rest) C.fix hM cw ⟨rP_blind, fun U hU hW => ⟨rfl, by rw [hU]; exact hP, va_K.moved hW.alike hK⟩⟩ rfl hn hl hst (lv_room hW) hdg hf
  intro T hT X
  obtain ⟨v', st₀, t, T', L, h0, X', hL, e1, ⟨hv, hp, hz, hk⟩, st⟩ := hr T hT X
  cases hv
  rw [h0] at hz hk
  obtain ⟨t2, a1, b1⟩ := kk T'.heap (locs ++ L) (by rw [e1]; exact hp) ⟨Nat.le_trans hS.1 (by rw [e1]; exact hz), fun q h1 h2 => by rw [e1, hk q (Nat.lt_of_lt_of_le h1 hS.1) (fun z => h2 (hA q z))]; exact hS.2.1 q h1 h2, fun q hq => by
      rcases List.mem_append.mp hq with h | h
      · exact hS.2.2 q h
      · exact hA _ (hL q h)⟩ (by rw [e1]; exact hz) (fun q h1 h2 => by rw [e1]; exact hk q h1 h2) T' rfl X'
  exact ⟨t2, st t2 a1, b1⟩
/-- arrays at a place that is a natural number -/
theorem w_iald {ws : va_W} {a : Nat} (hexec : p.tables.exec = Jvm.exec) (hb : c.code = cc) (hK : KA D k s) (hP : va_P D clA ws H) (q0 : Nat) {n : Nat} {f : Nat → Int32} (ha : ws[q0]? = some (a, .inl (k 0, n, .inl f))) {i : Int32} (j : Nat) (hi : i = nI j) (hj : j < n) (hn : n < 2 ^ 31) (hdg : decode cc pc = .ok (.iaload, 1))
    (kk : W p l e R s m args below meth c H locs cells slots Q (F0 m (pc + 1) ls (.int (f j) :: rest))) : W p l e R s m args below meth c H locs cells slots Q (F0 m pc ls (.int i :: .ref a :: rest)) := by
  subst hi
  refine va_iald hexec hb hK hP q0 0 ha rfl (vp_in_nI hj hn) hdg ?_
  rw [nI_clamp (Nat.lt_trans hj hn)]
  exact kk
theorem w_lald {ws : va_W} {a : Nat} (hexec : p.tables.exec = Jvm.exec) (hb : c.code = cc) (hK : KA D k s) (hP : va_P D clA ws H) (q0 : Nat) {n : Nat} {f : Nat → Int64} (ha : ws[q0]? = some (a, .inl (k 2, n, .inr (.inl f)))) {i : Int32} (j : Nat) (hi : i = nI j) (hj : j < n) (hn : n < 2 ^ 31) (hdg : decode cc pc = .ok (.laload, 1))
    (kk : W p l e R s m args below meth c H locs cells slots Q (F0 m (pc + 1) ls (.long (f j) :: rest))) : W p l e R s m args below meth c H locs cells slots Q (F0 m pc ls (.int i :: .ref a :: rest)) := by
  subst hi
  refine va_lald hexec hb hK hP q0 2 ha rfl (vp_in_nI hj hn) hdg ?_
  rw [nI_clamp (Nat.lt_trans hj hn)]
  exact kk
theorem w_iast {ws : va_W} {a : Nat} {H0 : Heap} (hexec : p.tables.exec = Jvm.exec) (hb : c.code = cc) (hK : KA D k s) (hP : va_P D clA ws H) (hD : va_D A ws) (hS : va_S A H0 H locs) (q0 : Nat) {n : Nat} {f : Nat → Int32} (ha : ws[q0]? = some (a, .inl (k 0, n, .inl f))) {i x : Int32} (j : Nat) (hi : i = nI j) (hj : j < n) (hn : n < 2 ^ 31) (hdg : decode cc pc = .ok (.iastore, 1))
    (kk : ∀ (H1 : Heap) (locs1 : List Loc), va_P D clA (ws.set q0 (a, .inl (k 0, n, .inl (upd f j x)))) H1 → va_D A (ws.set q0 (a, .inl (k 0, n, .inl (upd f j x)))) → va_S A H0 H1 locs1 → W p l e R s m args below meth c H1 locs1 cells slots Q (F0 m (pc + 1) ls rest)) : W p l e R s m args below meth c H locs cells slots Q (F0 m pc ls (.int x :: .int i :: .ref a :: rest)) := by
  subst hi
  refine va_iast hexec hb hK hP hD hS q0 0 ha rfl (vp_in_nI hj hn) hdg ?_
  rw [nI_clamp (Nat.lt_trans hj hn)]
  exact kk
theorem w_last {ws : va_W} {a : Nat} {H0 : Heap} (hexec : p.tables.exec = Jvm.exec) (hb : c.code = cc) (hK : KA D k s) (hP : va_P D clA ws H) (hD : va_D A ws) (hS : va_S A H0 H locs) (q0 : Nat) {n : Nat} {f : Nat → Int64} (ha : ws[q0]? = some (a, .inl (k 2, n, .inr (.inl f)))) {i : Int32} {x : Int64} (j : Nat) (hi : i = nI j) (hj : j < n) (hn : n < 2 ^ 31) (hdg : decode cc pc = .ok (.lastore, 1))
    (kk : ∀ (H1 : Heap) (locs1 : List Loc), va_P D clA (ws.set q0 (a, .inl (k 2, n, .inr (.inl (vp_updL f j x))))) H1 → va_D A (ws.set q0 (a, .inl (k 2, n, .inr (.inl (vp_updL f j x))))) → va_S A H0 H1 locs1 → W p l e R s m args below meth c H1 locs1 cells slots Q (F0 m (pc + 1) ls rest)) : W p l e R s m args below meth c H locs cells slots Q (F0 m pc ls (.long x :: .int i :: .ref a :: rest)) := by
  subst hi
  refine va_last hexec hb hK hP hD hS q0 2 ha rfl (vp_in_nI hj hn) hdg ?_
  rw [nI_clamp (Nat.lt_trans hj hn)]
  exact kk
end ROWS
/-- apartness speaks of the addresses alone -/
theorem va_D_of {A : Nat → Prop} {ws ws' : va_W} (h : va_D A ws) (e : ws.map Prod.fst = ws'.map Prod.fst) : va_D A ws' := by
  have key : ∀ (i : Nat) (q : Nat × va_E), ws'[i]? = some q → ∃ q0, ws[i]? = some q0 ∧ q0.1 = q.1 := by
    intro i q hq
    have h1 : (ws'.map Prod.fst)[i]? = some q.1 := by rw [List.getElem?_map, hq]; rfl
    rw [← e, List.getElem?_map] at h1
    cases hw : ws[i]? with
    | none => rw [hw] at h1; cases h1
    | some q0 => rw [hw] at h1; exact ⟨q0, rfl, Option.some.inj h1⟩
  refine ⟨fun i j x y hi hj hxy => ?_, fun i q hi => ?_⟩
  · obtain ⟨x0, h1, h2⟩ := key i x hi
    obtain ⟨y0, h3, h4⟩ := key j y hj
    exact h.1 i j x0 y0 h1 h3 (h2.trans (hxy.trans h4.symm))
  · obtain ⟨q0, h1, h2⟩ := key i q hi
    rw [← h2]
    exact h.2 i q0 h1
