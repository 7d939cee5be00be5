/-! BASE, part 22: a call of a lambda's object -/
set_option maxRecDepth 100000
/-- Object has no fields -/
theorem obj0 {args : Array Value} {s : State} (hts : ∀ w ∈ lw_all, w.before args s = true) {vm' : Vm} (hW : s.WarmedH vm') : ∀ o ok, vm'.findClass "java/lang/Object" = some o → vm'.classes[o]? = some ok → ok.instanceTypes.size = 0 := by
  intro o ok h1 h2
  obtain ⟨c, k, h3, h4, -, -, -, h5⟩ := Cond.instantiable_spec (hts _ q2095)
  have h3' : vm'.findClass "java/lang/Object" = some c := by rw [hW.alike.findClass]; exact h3
  cases h3'.symm.trans h1
  obtain ⟨k', hk', he⟩ := hW.alike.2.2 _ _ h4
  cases hk'.symm.trans h2
  rw [he]
  exact h5
/-- a site's class, in warmer tables -/
theorem LF.made {x : MethodName} {pcS idx : Nat} {σ : Lambda.Shape} {cK : ClassId} {one : Option Addr} {caller : String} {cc : ByteArray} {mi ci nt nu : Nat} {args : Array Value} {s : State} (hL : LF x pcS idx σ cK one s) (hx : x.cls = caller) (K : lmOK σ caller cc mi ci nt nu) (hts : ∀ w ∈ lw_all, w.before args s = true) {vm' : Vm} (hW : s.WarmedH vm') :
    ∃ (k tk : Class) (file : ClassFile) (methk : Method) (ck : Code) (toy : ClassId) (t : MethodId),
      vm'.classes[cK]? = some k ∧ k.name = caller ++ "$$Lambda" ∧ k.cf = some file ∧ file.constantPool = (lmD σ caller).constantPool ∧
      vm'.method? ⟨cK, 1⟩ = some methk ∧ methk.code = some ck ∧ ck.code = cc ∧ ck.maxLocals = 7 ∧ methk.locks = false ∧ methk.accessFlags = 0x0001 ∧ methk.sig.returnType = some .long ∧
      vm'.findClass σ.implClass = some toy ∧ vm'.classes[toy]? = some tk ∧ ((methodIn toy σ.implName σ.implDesc.toString tk.isInterface none).ask noCP vm').1 = .ok t ∧
      vm'.methodReady cK mi t ∧ vm'.classReady cK ci toy ∧
      (∀ (fi fnt j : Nat) (nm ds : String) (g0 : Field), (lmD σ caller).constantPool[fi]? = some (.fieldref 2 fnt) → (lmD σ caller).constantPool.nameAndType? fnt = some (nm, ds) → (lmL σ caller).1.findIdx? (·.name == nm) = some j → (lmL σ caller).1[j]? = some g0 → vm'.fieldReady cK fi cK g0) ∧
      k.instanceTypes = (lmL σ caller).2.1 ∧ k.kind = .ordinary := by
  obtain ⟨m, kd, cf, i0, p0, l0, h1, h2, -, -, -, h6, -, -⟩ := hL
  obtain ⟨kd2, hk2, hn2⟩ := className_of_methodNamed h1
  cases h2.symm.trans hk2
  obtain ⟨kd', hkd', he⟩ := hW.alike.2.2 _ _ h2
  exact made_gen hkd' (by rw [he]; exact hn2.trans hx) (Lambda.isMade_warmer hW h6) (obj0 hts hW) K
theorem LF.rdy {x : MethodName} {pcS idx : Nat} {σ : Lambda.Shape} {cK : ClassId} {one : Option Addr} {caller : String} {cc bytes : ByteArray} {mi ci nt nu maxL n : Nat} {rt : Option FieldType} {args : Array Value} {s : State} {e : Env} {y : MethodName} (hL : LF x pcS idx σ cK one s) (hx : x.cls = caller) (K : lmOK σ caller cc mi ci nt nu) (hts : ∀ w ∈ lw_all, w.before args s = true)
    (hy : y = ⟨σ.implClass, σ.implName, σ.implDesc.toString⟩) (hcode : Cond.code y bytes maxL rt ∈ lw_all) (hstat : Cond.static y ∈ lw_all) (hini : Cond.initialized y.cls ∈ lw_all) (hmh : y.cls ≠ "java/lang/invoke/MethodHandle" ∧ y.cls ≠ "java/lang/invoke/VarHandle") (hn : (parseMethodDescriptor y.desc).map (fun d => d.parameters.length) = some n) : rdy e s cK mi n y := by
  intro T hW
  obtain ⟨k, tk, file, methk, ck, toy, t, hk, hkn, hfile, hpool, -, -, -, -, -, -, -, htoy, htk, hlook, hready, hclsR, -, -, -⟩ := LF.made hL hx K hts hW
  obtain ⟨mT, hmT⟩ := Cond.code_named (hts _ hcode)
  obtain ⟨methT, cT, hmethT, -, -, -, -, -, -, hsigT⟩ := Cond.code_spec hmT (hts _ hcode)
  have hstT : methT.isStatic = true := Cond.static_spec hmT hmethT (hts _ hstat)
  obtain ⟨kT, hkT, hnT⟩ := className_of_methodNamed hmT
  have hfT : s.vm.findClass y.cls = some mT.cls := findClass_of_methodNamed hmT
  have hinitT : kT.init = .initialized := Cond.initialized_spec hfT hkT (hts _ hini)
  have hfT' : T.vm.findClass y.cls = some mT.cls := by rw [hW.alike.findClass]; exact hfT
  have hyc : y.cls = σ.implClass := by rw [hy]
  rw [hyc] at hfT'
  cases htoy.symm.trans hfT'
  obtain ⟨kT', hkT', heT⟩ := hW.alike.2.2 _ _ hkT
  cases htk.symm.trans hkT'
  have ht : t = mT := by
    have h1 : (s.setVm T.vm).methodFound? y.cls y.name y.desc = some mT := by rw [State.methodFound?_setVm hW.alike]; exact State.methodFound?_of_named hmT hmh
    rw [hy] at h1
    simp only [State.methodFound?, State.vm_setVm, htoy, htk, Option.bind_eq_bind, Option.bind_some] at h1
    rw [hlook] at h1
    exact Option.some.inj h1
  subst ht
  have hmT' : T.methodNamed? y = some t := by
    have h := State.methodNamed?_setVm (s := s) hW.alike y
    rw [hmT] at h
    exact h
  have hnm : tk.name ≠ "java/lang/invoke/MethodHandle" ∧ tk.name ≠ "java/lang/invoke/VarHandle" := by
    have hh : tk.name = y.cls := by rw [heT]; exact hnT
    rw [hh]
    exact hmh
  have hsp : ∀ z : Method, signaturePolymorphic tk z = false := fun z => by simp [signaturePolymorphic, hnm.1, hnm.2]
  obtain ⟨-, -, -, eM, -⟩ := K
  obtain ⟨b, hmem⟩ := memberRef_ask' (e := e) (vm := T.vm) (d := cK) (index := mi) hk hfile (Or.inl (by rw [hpool]; exact eM.1)) (by rw [hpool]; exact eM.2.2)
  refine ⟨t, tk, methT, ⟨ci, _, _, b, t.cls, tk, hmem, hclsR, htk, by simp [hsp]⟩, hready, htk, by rw [hW.alike.method?]; exact hmethT, hsp _, hstT, by rw [heT]; exact hinitT, ?_, hmT'⟩
  rw [hsigT] at hn
  exact (Option.some.inj hn).symm
section ROWS22
variable {p : Program} {l : Launch} {e : Env} {R : Room} {s : State} {m : MethodId} {args : Array Value} {below : List Frame} {meth : Method} {c : Code} {H : Heap} {locs : List Loc} {cells slots : Nat} {Q : State → Prop}
variable {cc : ByteArray} {nL : Nat} {own : String} {pc : Nat} {ls : Array Slot} {rest st0 : List Value} {D : va_G} {k : Nat → ClassId}
theorem lam_run {x : MethodName} {pcS idx index count mc ms fr lo : Nat} {σ : Lambda.Shape} {cK : ClassId} {one : Option Addr} {caller : String} {ccF : ByteArray} {mi ci nt nu z : Nat} {a b c0 v : Int64} {cell : Cell} (hexec : p.tables.exec = Jvm.exec) (hb : c.code = cc) (hml : c.maxLocals = ls.size) (hown : s.vm.findClass own = some m.cls) (hts : ∀ w ∈ lw_all, w.before args s = true)
    (hL : LF x pcS idx σ cK one s) (hx : x.cls = caller) (K : lmOK σ caller ccF mi ci nt nu) (hpl : plainName (caller ++ "$$Lambda") = true) (hif : σ.iface = FeeN ∧ σ.name = "of" ∧ σ.sam.toString = "(JJJ)J") (hI : fIM s) (hlink : (Cond.methodLink own index yFee).before args s = true) (hcell : H[z]? = some cell) (hcls : cell.cls = cK) (hvm : cell.vm = .none)
    (hR : fr + 1 ≤ R.frames ∧ 26 + lo ≤ R.locals) (hW : (rest.map fun v => v.category).sum ≤ 8) (hf : cells + mc ≤ R.cells ∧ slots + ms ≤ R.slots) (hdg : decode cc pc = .ok (.invokeinterface index count, 5))
    (body : ∀ (sK : State) (methk : Method) (ck : Code), sK.heap = H → s.WarmedH sK.vm → ck.code = ccF → ck.maxLocals = 7 → methk.locks = false → methk.sig.returnType = some .long →
      W p l e (Rm fr lo mc ms) sK ⟨cK, 1⟩ #[.ref z, .long a, .long b, .long c0] (.java (F0 m pc ls rest) :: below) methk ck H [] 0 0 (MQ (.java (F0 m pc ls rest) :: below) (gQ (some (.long v))) #[.ref z, .long a, .long b, .long c0] sK mc ms (fun _ => False)) (entryFrame ⟨cK, 1⟩ #[.ref z, .long a, .long b, .long c0] 7)) :
    va_Run5 p l e R s m args below meth c H locs cells slots mc ms (F0 m pc ls (.long c0 :: .long b :: .long a :: .ref z :: rest)) rest (gQ (some (.long v)) #[.ref z, .long a, .long b, .long c0]) (fun _ => False) := by
  intro T hT X
  obtain ⟨kK, tk, file, methk, ckK, toy, t, hkK, hkn, hfile, hpool, hmk, hckK, hbytes, hmlK, hlk, hfl, hretk, htoy, htk, hlook, hready, hclsR, -, -, -⟩ := LF.made hL hx K hts (State.WarmedH.refl s)
  obtain ⟨m', kd, cfD, i0, p0, l0, hmD, hkD, hcfD, -, -, hmade, hcan, -⟩ := id hL
  obtain ⟨r0, r, hn, hrm, hstR, hsigR⟩ := Cond.declares_spec hI.1
  obtain ⟨cL, kL, r1, hcL, hkL, hiL, hfoundL, hn1⟩ := Cond.interfaceMethod_spec hI.2
  cases hn.symm.trans hn1
  have hr0cls : r0.cls = cL := Option.some.inj ((findClass_of_methodNamed hn).symm.trans hcL)
  obtain ⟨hnameR, hdescR⟩ := name_of_methodNamed hn hrm
  obtain ⟨-, -, -, -, -, -, -, iface', -, -, -, -, found, -, -, -, -, -, hi', -, -, -, -, -, -, hfound', -, -, -, -, -, -, -, -, -, -, hsel⟩ := Lambda.isMade_spec hmade
  rw [hif.1] at hi'
  cases hcL.symm.trans hi'
  have hfr : found = r0 := by
    have hcL' : s.vm.findClass FeeN = some cL := hcL
    have h1 : s.methodFound? FeeN "of" "(JJJ)J" = some r0 := hfoundL
    simp only [State.methodFound?, hcL', hkL, hiL, Option.bind_eq_bind, Option.bind_some] at h1
    have h2 : ((methodIn cL σ.name σ.sam.toString true none).ask { classPath := fun _ => none } s.vm).1 = .ok found := hfound'
    rw [hif.2.1, hif.2.2] at h2
    rw [h2] at h1
    exact Option.some.inj h1
  subst hfr
  obtain ⟨i2, hi2, hasg, hway⟩ := State.lambdaCallable_spec hcan
  rw [hif.1] at hi2
  cases hcL.symm.trans hi2
  subst hcls
  have hcell₁ : T.heap[z]? = some cell := by rw [hT]; exact hcell
  have hsigI : r.sig = ⟨[.long, .long, .long], some .long⟩ := (Option.some.inj ((by decide +kernel : parseMethodDescriptor "(JJJ)J" = some ⟨[.long, .long, .long], some .long⟩).symm.trans hsigR)).symm
  obtain ⟨vm₁, X₁, hstep₁⟩ := X.invokeinterface hexec hown hlink hn hrm hstR (by rw [hr0cls]; exact hkL) hiL (by decide) (a := z) (cell := cell) (kcell := kK) hcell₁ (fun q h => by rw [hvm] at h; cases h) hkK (by rw [hr0cls]; exact hasg)
    (m' := ⟨cell.cls, 1⟩) (meth' := methk) (by rw [Launch.admits_selectMethod X.admits]; exact hsel) hmk (by rw [hnameR, hdescR]; rw [hif.2.1, hif.2.2] at hway; exact hway) (by rw [hfl]; decide) (by simp [Method.isAbstract, hfl, hasFlag, Acc.abstract])
    (g := F0 m pc ls (.long c0 :: .long b :: .long a :: .ref z :: rest)) rfl (argsL := [.long a, .long b, .long c0]) (rest := rest) (by rw [hsigI]; rfl) rfl (by rw [hb]; exact hdg)
  have hW₁ : s.WarmedH vm₁ := X₁.warmed
  obtain ⟨kK₁, tk₁, file₁, methk₁, ckK₁, toy₁, t₁, hkK₁, hkn₁, -, -, hmk₁, hckK₁, hbytes₁, hml₁, hlk₁, hfl₁, hretk₁, -⟩ := LF.made hL hx K hts hW₁
  have hpk : (T.setVm vm₁).plainMethod ⟨cell.cls, 1⟩ := State.plainMethod.of_name (fun k' hk' => by cases hkK₁.symm.trans hk'; rw [hkn₁]; exact hpl)
  have hdg2 : decode c.code pc = .ok (.invokeinterface index count, 5) := by rw [hb]; exact hdg
  obtain ⟨Y₀, hin⟩ := X₁.into (g := F0 m pc ls rest) rfl hml.symm hdg2 #[.ref z, .long a, .long b, .long c0] (R' := Rm fr lo mc ms) hmk₁ hckK₁ hlk₁ hpk hR.1 (by rw [hml₁]; show 2 * 0 + (rest.map fun v => v.category).sum + (7 + 11) + lo ≤ R.locals; omega) hf.1 hf.2
  obtain ⟨t2, hst, o, hrun, hended, hq, L, ⟨hret, hWe, hsame⟩, hfree⟩ := body ((T.setVm vm₁).calling (F0 m pc ls rest) ⟨cell.cls, 1⟩ #[.ref z, .long a, .long b, .long c0]) methk₁ ckK₁ hT hW₁ hbytes₁ hml₁ hlk₁ hretk₁ (((T.setVm vm₁).setTop (F0 m pc ls rest)).pushFrame (.java (entryFrame ⟨cell.cls, 1⟩ #[.ref z, .long a, .long b, .long c0] ckK₁.maxLocals))) hT Y₀
  obtain ⟨hv, hFF⟩ := id hq
  subst hv
  obtain ⟨T', X', hW', -, ht⟩ := X₁.outOf (g := F0 m pc ls rest) rfl hdg2 hended hWe hsame
  refine ⟨some (.long v), (T.setVm vm₁).calling (F0 m pc ls rest) ⟨cell.cls, 1⟩ #[.ref z, .long a, .long b, .long c0], t2, T', L, hT, X', hfree, by rw [ht]; rfl, by rw [ht]; rfl, hq, fun target h => hstep₁ _ fun acts => ?_⟩
  have e1 := hin acts
  have e2 : (doInvoke e ((T.setVm vm₁).setTop { F0 m pc ls (.long c0 :: .long b :: .long a :: .ref z :: rest) with stack := rest }) acts ⟨cell.cls, 1⟩ (Value.ref z :: [.long a, .long b, .long c0]).toArray).1 = (((T.setVm vm₁).setTop (F0 m pc ls rest)).pushFrame (.java (entryFrame ⟨cell.cls, 1⟩ #[.ref z, .long a, .long b, .long c0] ckK₁.maxLocals))).setTop (entryFrame ⟨cell.cls, 1⟩ #[.ref z, .long a, .long b, .long c0] ckK₁.maxLocals) := e1
  rw [e2, hml₁]
  rw [hml₁] at hst
  have hst2 := Steps.weaken (mid := [.java (F0 m pc ls rest)]) hst
  refine hst2.trans ?_
  rw [ht]
  exact h
end ROWS22
