/-! BASE, part 3: contracts that read what the start gives (String constants, statics): their words speak of a state -/
set_option maxRecDepth 100000
abbrev FF : Nat → Prop := fun _ => False
def mv (Ph : State → Prop) : Prop := ∀ u U : State, U.heap = u.heap → u.vm.Alike U.vm → Ph u → Ph U
theorem mv_and {P Q : State → Prop} (h1 : mv P) (h2 : mv Q) : mv (fun U => P U ∧ Q U) := fun u U e a q => ⟨h1 u U e a q.1, h2 u U e a q.2⟩
theorem mv_hp {P : Heap → Prop} : mv (fun U => P U.heap) := fun u U e _ q => by show P U.heap; rw [e]; exact q
theorem mv_true : mv (fun _ => True) := fun _ _ _ _ _ => trivial
abbrev sP (D : va_G) (k : Nat → ClassId) (av : List Value) (Ph : State → Prop) : Array Value → State → Prop := va_Pc av (fun U => Ph U ∧ KA D k U)
abbrev sM (l : Launch) (D : va_G) (k : Nat → ClassId) (y : MethodName) (cc : ByteArray) (nL : Nat) (ret : Option FieldType) (fr lo : Nat) (av : List Value) (Ph : State → Prop) (v : Option Value) : Prop :=
  Met l y (ws_ y cc nL ret) (Rm fr lo 0 0) (sP D k av Ph) (rQ v) 0 0 (fun _ => False)
theorem sP_blind {D : va_G} {k : Nat → ClassId} {av : List Value} {Ph : State → Prop} (h : mv Ph) : FrameBlind (sP D k av Ph) :=
  fun a U g mk q => ⟨q.1, h U _ rfl (Vm.Alike.refl U.vm) q.2.1, va_K.moved (u := U) (U := U.calling g mk a) (Vm.Alike.refl U.vm) q.2.2⟩
theorem sM_of {l : Launch} {D : va_G} {k : Nat → ClassId} {y : MethodName} {cc : ByteArray} {nL : Nat} {ret : Option FieldType} {fr lo : Nat} {av : List Value} {Ph : State → Prop} {v : Option Value} (hy : plainName y.cls = true) (hn : (lg_sl av).length ≤ nL)
    (body : ∀ (p : Program) (e : Env) (s : State) (m : MethodId) (below : List Frame) (meth : Method) (c : Code) (ls : Array Slot), Cx p s m meth c cc nL ret y.cls av.toArray → KA D k s → Ph s → lv_has ls nL (lv_args 0 av) → W p l e (Rm fr lo 0 0) s m av.toArray below meth c s.heap [] 0 0 (MQ below (rQ v) av.toArray s 0 0 (fun _ => False)) (F0 m 0 ls [])) : sM l D k y cc nL ret fr lo av Ph v := by
  refine Met.ofW (cc := cc) (maxL := nL) (ret := ret) hy rfl ?_
  intro p e s m args below meth c s₁ B hml hv
  obtain ⟨rfl, hP, hK⟩ := hv
  have hts := atoms_spec (ws := ws_ y cc nL ret) B.pre
  have hts : ∀ w ∈ lw_all, w.before _ s = true := fun w h => hts w (List.mem_cons_of_mem _ h)
  have hown : s.vm.findClass y.cls = some m.cls := findClass_of_methodNamed B.named
  rw [lg_entry_eq]
  exact body p e s m below meth c _ ⟨B.exec, B.bytes, B.returns, hml, hown, hts, B.notSynchronized⟩ hK hP (lv_entry av hn)
section ROWS3
variable {p : Program} {l : Launch} {e : Env} {R : Room} {s : State} {m : MethodId} {args : Array Value} {below : List Frame} {meth : Method} {c : Code} {H : Heap} {locs : List Loc} {cells slots : Nat} {Q : State → Prop}
variable {cc : ByteArray} {nL : Nat} {ret : Option FieldType} {own : String} {pc : Nat} {ls : Array Slot} {rest st0 : List Value} {D : va_G} {k : Nat → ClassId} {A : Nat → Prop}
theorem s_callS {y : MethodName} {bytes : ByteArray} {maxL fr lo n idx : Nat} {rt : Option FieldType} {As : List Value} {Ph : State → Prop} {v : Option Value} (C : Cx p s m meth c cc nL ret own args) (hM : sM l D k y bytes maxL rt fr lo As Ph v)
    (cw : CallB R s args own idx y bytes maxL rt (ws_ y bytes maxL rt) (Rm fr lo 0 0) 0 0 n ∧ (Cond.static y).before args s = true) (hK : KA D k s) (hmv : mv Ph) (hP : ∀ U : State, U.heap = H → s.WarmedH U.vm → Ph U) (hn : As.length = n) (hl : ls.size = nL) (hst : st0 = As.reverse ++ rest) (hW : (rest.map fun v => v.category).sum ≤ 8) (hdg : decode cc pc = .ok (.invokestatic idx, 3)) (hf : cells ≤ R.cells ∧ slots ≤ R.slots)
    (kk : W p l e R s m args below meth c H locs cells slots Q (F0 m (pc + 3) ls (v.toList ++ rest))) : W p l e R s m args below meth c H locs cells slots Q (F0 m pc ls st0) := by
  have hr := W.runS (e := e) (meth := meth) (below := below) (locs := locs) (H := H) (g := F0 m pc ls st0) (rest := rest) C.fix hM cw ⟨sP_blind hmv, fun U hU hW => ⟨rfl, hP U hU hW, va_K.moved hW.alike hK⟩⟩ rfl hn hl hst (lv_room hW) hdg hf
  intro T hT X
  obtain ⟨v', st₀, t, T', L, h0, X', hL, e1, ⟨hv, hh⟩, st⟩ := hr T hT X
  cases hv
  obtain ⟨t2, a1, b1⟩ := kk T' (by rw [e1, hh, h0]) (Stand.forget X' (fun q h => (hL q h).elim))
  exact ⟨t2, st t2 a1, b1⟩
theorem s_callV {y : MethodName} {Cn : String} {bytes : ByteArray} {maxL fr lo n idx : Nat} {rt : Option FieldType} {b : Addr} {As : List Value} {Ph : State → Prop} {v : Option Value} (C : Cx p s m meth c cc nL ret own args) (hM : sM l D k y bytes maxL rt fr lo (.ref b :: As) Ph v)
    (cw : CallW R s args own Cn idx y bytes maxL rt (ws_ y bytes maxL rt) (Rm fr lo 0 0) 0 0 n) (hK : KA D k s) (hrc : ∃ cell : Cell, H[b]? = some cell ∧ cell.vm.isStatics = false ∧ s.vm.findClass Cn = some cell.cls) (hmv : mv Ph) (hP : ∀ U : State, U.heap = H → s.WarmedH U.vm → Ph U) (hn : As.length = n) (hl : ls.size = nL) (hst : st0 = As.reverse ++ .ref b :: rest) (hW : (rest.map fun v => v.category).sum ≤ 8) (hdg : decode cc pc = .ok (.invokevirtual idx, 3)) (hf : cells ≤ R.cells ∧ slots ≤ R.slots)
    (kk : W p l e R s m args below meth c H locs cells slots Q (F0 m (pc + 3) ls (v.toList ++ rest))) : W p l e R s m args below meth c H locs cells slots Q (F0 m pc ls st0) := by
  have hr := W.runV (e := e) (meth := meth) (below := below) (locs := locs) (H := H) (g := F0 m pc ls st0) (rest := rest) C.fix hM cw ⟨sP_blind hmv, hrc, fun U hU hW => ⟨rfl, hP U hU hW, va_K.moved hW.alike hK⟩⟩ rfl hn hl hst (lv_room hW) hdg hf
  intro T hT X
  obtain ⟨v', st₀, t, T', L, h0, X', hL, e1, ⟨hv, hh⟩, st⟩ := hr T hT X
  cases hv
  obtain ⟨t2, a1, b1⟩ := kk T' (by rw [e1, hh, h0]) (Stand.forget X' (fun q h => (hL q h).elim))
  exact ⟨t2, st t2 a1, b1⟩
theorem r_nret {v x : Int32} {ty : FieldType} (C : Cx p s m meth c cc nL (some ty) own args) (hv : x = v) (hn : narrow ty (.int v) = .int v) (hdg : decode cc pc = .ok (.ireturn, 1)) : W p l e R s m args below meth c s.heap [] 0 0 (MQ below (rQ (some (.int v))) args s 0 0 (fun _ => False)) (F0 m pc ls [.int x]) := by
  subst hv
  exact W.zret C.1 C.2.1 C.2.2.1 hn (fun t ht _ => ⟨rfl, ht⟩) (fun q h => by cases h) hdg C.2.2.2.2.2.2
theorem r_vret (C : Cx p s m meth c cc nL none own args) (hdg : decode cc pc = .ok (.return_, 1)) : W p l e R s m args below meth c s.heap [] 0 0 (MQ below (rQ none) args s 0 0 (fun _ => False)) (F0 m pc ls []) :=
  W.vret C.1 C.2.1 C.2.2.1 (fun t ht _ => ⟨rfl, ht⟩) (fun q h => by cases h) hdg C.2.2.2.2.2.2
end ROWS3
/-- a text at a: its n bytes f at v -/
def stC (a v n : Nat) (f : Nat → Int32) (U : State) : Prop := va_O "java/lang/String" a FF U U.heap ∧ va_OF "java/lang/String" "coder" "B" (.int 0) a FF U U.heap ∧ va_OF "java/lang/String" "value" "[B" (.ref v) a FF U U.heap ∧ va_T .byte v n (fun j => .int (f j)) FF U U.heap
theorem mv_stC {a v n : Nat} {f : Nat → Int32} : mv (stC a v n f) := fun u U e h q => by
  obtain ⟨q1, q2, q3, q4⟩ := q
  unfold stC
  rw [e]
  exact ⟨q1.moved h, q2.moved h, q3.moved h, q4.moved h⟩
def baC (v n : Nat) (f : Nat → Int32) (U : State) : Prop := va_T .byte v n (fun j => .int (f j)) FF U U.heap
theorem mv_baC {v n : Nat} {f : Nat → Int32} : mv (baC v n f) := fun u U e h q => by
  unfold baC at *
  rw [e]
  exact q.moved h
/-- statics that the text's methods read -/
def EnS (U : State) : Prop := va_Z "java/lang/String" "COMPACT_STRINGS" "Z" (.int 1) FF U U.heap ∧ va_Zq "jdk/internal/util/Preconditions" "SIOOBE_FORMATTER" "Ljava/util/function/BiFunction;" FF U U.heap
theorem mv_EnS : mv EnS := fun u U e h q => by
  unfold EnS at *
  rw [e]
  exact ⟨q.1.moved h, q.2.moved h⟩
theorem mv_at {Ph : State → Prop} {s : State} (hm : mv Ph) (h : Ph s) : ∀ U : State, U.heap = s.heap → s.WarmedH U.vm → Ph U := fun U hU hW => hm s U hU hW.alike h
