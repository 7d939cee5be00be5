/-! BASE, part 21: rows in a forwarder; a call of a lambda's object -/
set_option maxRecDepth 100000
theorem c0_0 : decode cf0 0 = .ok (.lload_n 1, 1) := by decide +kernel
theorem c0_1 : decode cf0 1 = .ok (.lload_n 3, 1) := by decide +kernel
theorem c0_2 : decode cf0 2 = .ok (.lload 5, 2) := by decide +kernel
theorem c0_4 : decode cf0 4 = .ok (.invokestatic 17, 3) := by decide +kernel
theorem c0_7 : decode cf0 7 = .ok (.lreturn, 1) := by decide +kernel
theorem c1_0 : decode cf1 0 = .ok (.aload_n 0, 1) := by decide +kernel
theorem c1_1 : decode cf1 1 = .ok (.getfield 15, 3) := by decide +kernel
theorem c1_4 : decode cf1 4 = .ok (.lload_n 1, 1) := by decide +kernel
theorem c1_5 : decode cf1 5 = .ok (.lload_n 3, 1) := by decide +kernel
theorem c1_6 : decode cf1 6 = .ok (.lload 5, 2) := by decide +kernel
theorem c1_8 : decode cf1 8 = .ok (.invokestatic 23, 3) := by decide +kernel
theorem c1_11 : decode cf1 11 = .ok (.lreturn, 1) := by decide +kernel
theorem c3_0 : decode cf3 0 = .ok (.aload_n 0, 1) := by decide +kernel
theorem c3_1 : decode cf3 1 = .ok (.getfield 18, 3) := by decide +kernel
theorem c3_4 : decode cf3 4 = .ok (.aload_n 0, 1) := by decide +kernel
theorem c3_5 : decode cf3 5 = .ok (.getfield 20, 3) := by decide +kernel
theorem c3_8 : decode cf3 8 = .ok (.aload_n 0, 1) := by decide +kernel
theorem c3_9 : decode cf3 9 = .ok (.getfield 22, 3) := by decide +kernel
theorem c3_12 : decode cf3 12 = .ok (.lload_n 1, 1) := by decide +kernel
theorem c3_13 : decode cf3 13 = .ok (.lload_n 3, 1) := by decide +kernel
theorem c3_14 : decode cf3 14 = .ok (.lload 5, 2) := by decide +kernel
theorem c3_16 : decode cf3 16 = .ok (.invokestatic 30, 3) := by decide +kernel
theorem c3_19 : decode cf3 19 = .ok (.lreturn, 1) := by decide +kernel
section ROWS21
variable {p : Program} {l : Launch} {e : Env} {R : Room} {s : State} {m : MethodId} {args : Array Value} {below : List Frame} {meth : Method} {c : Code} {H : Heap} {locs : List Loc} {cells slots : Nat} {Q : State → Prop}
variable {cc : ByteArray} {nL : Nat} {own : String} {pc : Nat} {ls : Array Slot} {rest st0 : List Value} {D : va_G} {k : Nat → ClassId}
/-- a field whose entry is resolved -/
theorem w_getR {fi j a : Nat} {cell : Cell} {v : Value} (hexec : p.tables.exec = Jvm.exec) (hb : c.code = cc) (hf : ∀ vm' : Vm, s.WarmedH vm' → ∃ f : Field, vm'.fieldReady m.cls fi m.cls f ∧ f.isStatic = false ∧ f.slot = j) (hcell : H[a]? = some cell) (hk : cell.vm ≠ .unknown) (hv : cell.slots[j]? = some v) (hdg : decode cc pc = .ok (.getfield fi, 3))
    (kk : W p l e R s m args below meth c H locs cells slots Q (F0 m (pc + 3) ls (v :: rest))) : W p l e R s m args below meth c H locs cells slots Q (F0 m pc ls (.ref a :: rest)) := by
  intro T hT X
  obtain ⟨t, a1, b1⟩ := kk T hT X
  obtain ⟨f, h1, h2, h3⟩ := hf T.vm X.warmed
  refine ⟨t, ?_, b1⟩
  jvm_step X.here [hexec, hb, hdg, getfield.wp_ready (e := e) (s := T) (c := m.cls) (field := f) (a := a) (rest := rest) (cell := cell) (v := v) (f := F0 m pc ls (.ref a :: rest)) X.here.top h1 h2 rfl (by rw [hT]; exact hcell) hk (by rw [h3]; exact hv)]
  exact a1
/-- what a static call through a resolved entry asks -/
def rdy (e : Env) (s : State) (d : ClassId) (idx n : Nat) (y : MethodName) : Prop :=
  ∀ T : State, s.WarmedH T.vm → ∃ (t : MethodId) (kt : Class) (metht : Method), plainRef T e d idx ∧ T.vm.methodReady d idx t ∧ T.vm.classes[t.cls]? = some kt ∧ T.vm.method? t = some metht ∧ signaturePolymorphic kt metht = false ∧ metht.isStatic = true ∧ kt.init = .initialized ∧ n = metht.sig.parameters.length ∧ T.methodNamed? y = some t
theorem w_callR {y : MethodName} {bytes : ByteArray} {maxL fr lo nc ns n idx : Nat} {rt : Option FieldType} {As : List Value} {Ph : State → Prop} {v : Option Value} (hexec : p.tables.exec = Jvm.exec) (hb : c.code = cc) (hml : c.maxLocals = ls.size) (hM : gM l D k y bytes maxL rt fr lo nc ns As Ph v) (hm2 : mv2 Ph)
    (hR : fr + 1 ≤ R.frames ∧ 8 + (maxL + 11) + lo ≤ R.locals) (hlw : ∀ w ∈ lw_all, w.before args s = true) (hcode : Cond.code y bytes maxL rt ∈ lw_all) (hini : Cond.initialized y.cls ∈ lw_all) (hrd : rdy e s m.cls idx n y) (hK : KA D k s) (hp : ∀ U : State, U.heap = H → s.WarmedH U.vm → Ph U)
    (hn : As.length = n) (hst : st0 = As.reverse ++ rest) (hW : (rest.map fun v => v.category).sum ≤ 8) (hdg : decode cc pc = .ok (.invokestatic idx, 3)) (hf : cells + nc ≤ R.cells ∧ slots + ns ≤ R.slots) :
    va_Run p l e R s m args below meth c H locs cells slots nc ns (F0 m pc ls st0) rest (gQ v As.toArray) (fun _ => False) := by
  have hws : ∀ w ∈ ws_ y bytes maxL rt, ∀ (a' : Array Value) (U : State), s.WarmedH U.vm → w.before a' U = true := pay_in hlw (lw_meth hcode)
  have hBk : Back l R p e below s args y 3 8 (PreOf R nc ns (sP D k As Ph)) (PostOf (gQ v) nc ns (fun _ => False)) :=
    back_of (bytes := bytes) (maxL := maxL) (ret := rt) hM (sP_blind2 hm2) rfl rfl hR.1 hR.2 hws List.mem_cons_self (fun a' U hU => word_at hU (Or.inl (by first | rfl | simp [Cond.onTables, Cond.keeps, Cond.steady])) (hlw _ hini))
  intro T hT X
  obtain ⟨t, kt, metht, r1, r2, r3, r4, r5, r6, r7, r8, r9⟩ := hrd T X.warmed
  obtain ⟨v', B, X', hpost, hsteps⟩ := hBk m meth c ⟨T, locs, cells, slots⟩ (F0 m pc ls rest) (.invokestatic idx) t As.toArray X rfl hml.symm (by rw [hb]; exact hdg) (lv_room hW) r9 ⟨hf.1, hf.2, rfl, hp T hT X.warmed, va_K.moved X.warmed.alike hK⟩
  obtain ⟨U', l2, c2, s2⟩ := B
  obtain ⟨g', mk, t2, L, e1, e2, hq, h1, hL, h2, h3⟩ := hpost
  dsimp only [Pt.U, Pt.locs, Pt.cells, Pt.slots] at X' e1 e2 h1 h2 h3 hsteps
  subst h1; subst h2; subst h3
  refine ⟨v', T.calling g' mk As.toArray, t2, U', L, hT, X', hL, e1, e2, hq, fun target h => ?_⟩
  subst hst
  jvm_step X.here [hexec, hb, hdg, invokestatic.wp_ready (e := e) (s := T) (m := t) (k := kt) (meth := metht) (args := As) (rest := rest) (f := F0 m pc ls (As.reverse ++ rest)) X.here.top r1 r2 r3 r4 r5 r6 r7 (hn.trans r8) rfl]
  intro acts
  rw [doInvoke_state]
  exact hsteps.trans h
end ROWS21
