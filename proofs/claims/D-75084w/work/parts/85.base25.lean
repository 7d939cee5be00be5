/-! BASE, part 25: calls of a private method of the class above; calls of the method above -/
set_option maxRecDepth 100000
theorem sel_pv {args : Array Value} {s : State} {y : MethodName} {c : ClassId} (hts : ∀ w ∈ lw_all, w.before args s = true) (hc : s.vm.findClass "java/lang/StringBuilder" = some c) (hpv : (Cond.privateMethod y).before #[] s = true) (hi : (Cond.instanceMethod y).before args s = true) (hyc : y.cls = "java/lang/AbstractStringBuilder") : (Cond.selects "java/lang/StringBuilder" y y).before args s = true := by
  obtain ⟨mk, methM, hnamed, hmethM, -, -⟩ := Cond.instanceMethod_spec hi
  have hfound : s.methodFound? y.cls y.name y.desc = some mk := State.methodFound?_of_named hnamed (by rw [hyc]; decide)
  have hsel : selectMethod {} s.vm c mk = .method mk := selectMethod_private hmethM ((Cond.privateMethod_at hpv) mk methM hnamed hmethM)
  obtain ⟨c2, r2, m2, q1, q2, q3, q4, kP, hkP, hkPi⟩ := Cond.selects_spec (hts _ q586)
  have h1 : s.vm.findClass "java/lang/AbstractStringBuilder" = some m2.cls := findClass_of_methodNamed q3
  have h2 : s.vm.findClass "java/lang/AbstractStringBuilder" = some mk.cls := by rw [← hyc]; exact findClass_of_methodNamed hnamed
  have e : m2.cls = mk.cls := Option.some.inj (h1.symm.trans h2)
  rw [e] at hkP
  simp only [Cond.before, Cond.holds, Cond.value, hc, hfound, hnamed, hsel, hkP]
  simp; exact hkPi
theorem cwQ {R : Room} {s : State} {args : Array Value} {own C : String} {index : Nat} {y : MethodName} {bytes : ByteArray} {maxL mc ms : Nat} {ret : Option FieldType} {rm : Room} (n : Nat) (ht : ∀ w ∈ lw_all, w.before args s = true) (h1 : Cond.methodLink own index y ∈ lw_all) (h2 : Cond.instanceMethod y ∈ lw_all) (h3 : Cond.initialized y.cls ∈ lw_all) (h4 : Cond.code y bytes maxL ret ∈ lw_all) (hsel : (Cond.selects C y y).before args s = true) (hrc : rm.cells = mc) (hrs : rm.slots = ms)
    (hd : y.cls ≠ "java/lang/invoke/MethodHandle" ∧ y.cls ≠ "java/lang/invoke/VarHandle" ∧ (parseMethodDescriptor y.desc).map (fun d => d.parameters.length) = some n) (hR : rm.frames + 1 ≤ R.frames ∧ 8 + (maxL + 11) + rm.locals ≤ R.locals) :
    CallW R s args own C index y bytes maxL ret (ws_ y bytes maxL ret) rm mc ms n :=
  ⟨callB_of n ht (lw_meth h4) rfl hrc hrs (ht _ h3) (ht _ h1) hd hR, ht _ h2, hsel⟩
section RUNP
variable {p : Program} {l : Launch} {e : Env} {R : Room} {s : State} {m : MethodId} {args : Array Value} {below : List Frame} {meth : Method} {c : Code} {H : Heap} {locs : List Loc} {cells slots : Nat} {cc : ByteArray} {nL : Nat} {own : String} {Ts : List Cond}
theorem va_runP {y : MethodName} {ws : List Cond} {rm : Room} {Pc : Array Value → State → Prop} {Qc : Array Value → State → Outcome → State → Prop} {mc ms n index maxL : Nat} {free : Addr → Prop} {bytes : ByteArray} {ret : Option FieldType} {As rest : List Value} {g : JFrame} {b : Addr} (S : CallFix p m c cc nL s args Ts own) (hM : Met l y ws rm Pc Qc mc ms free) (cw : CallB R s args own index y bytes maxL ret ws rm mc ms n) (hnoi : y.name ≠ "<init>") (hin : (Cond.instanceMethod y).before args s = true) (hsm : (Cond.sameMethod y.cls y.cls y.name y.desc).before args s = true) (hsup : (Cond.superclass own y.cls).before args s = true) (hp : PreV s H "java/lang/StringBuilder" b Pc As)
    (hg : g.method = m) (hn : As.length = n) (hsize : g.locals.size = nL) (hstack : g.stack = As.reverse ++ .ref b :: rest) (hW : 2 * g.monitorRoom + (rest.map fun v => v.category).sum ≤ 8) (hdg : decode cc g.pc = .ok (.invokespecial index, 3)) (hf : cells + mc ≤ R.cells ∧ slots + ms ≤ R.slots) :
    va_Run p l e R s m args below meth c H locs cells slots mc ms g rest (Qc (Value.ref b :: As).toArray) (free) := by
  have hK : Back l R p e below s args y 3 8 (PreOf R mc ms Pc) (PostOf Qc mc ms free) := callBack cw hM hp.1
  obtain ⟨-, -, -, -, -, -, hcode, hini, hy, hlen, hl⟩ := cw
  obtain ⟨hx, hb, hml, ho, -⟩ := S
  obtain ⟨-, ⟨cellB, hcB, hoB, hclB⟩, hPc⟩ := hp
  obtain ⟨r0, r, hnm, hrm, hstatic, habs⟩ := Cond.instanceMethod_spec hin
  obtain ⟨cn, dk, kp, hcn, hdk, hkp, hsuper, -, -, hnid⟩ := Cond.superclass_spec ho hsup
  have hcn' : s.vm.findClass y.cls = some r0.cls := findClass_of_methodNamed hnm
  have ecn : cn = r0.cls := Option.some.inj (hcn.symm.trans hcn')
  subst ecn
  have hsub : s.vm.isSubclass r0.cls r0.cls = true := by
    show s.vm.isSubclassAux _ r0.cls r0.cls = true
    unfold Vm.isSubclassAux; simp
  obtain ⟨kB, hkB, -⟩ := Vm.findClass_spec hclB
  obtain ⟨methM, cM, hmethM, -, -, -, -, -, -, hsigM⟩ := Cond.code_spec hnm hcode
  cases hrm.symm.trans hmethM
  intro T hT X
  obtain ⟨v, vm₁, ⟨U', l2, c2, s2⟩, hW₁, X', ⟨g', mk, t, L, e1, e2, hq, h1, hL, h2, h3⟩, st⟩ := X.specialUpBack hx (own := own) (owner := y.cls) (index := index) (x := y) ho hl hsm hnm hrm hstatic habs hnoi hdk hnid hcn hsuper hsub (a := b) (cell := cellB) (by rw [hT]; exact hcB) (by intro q hq; rw [hq] at hoB; cases hoB) hkB hK hg (hsize.trans hml.symm) (Steps.refl _) (argsL := As) (rest := rest) (hn.trans (hlen _ hsigM)) hstack hW (by rw [hb]; exact hdg)
    (fun vm₁ hW₁ => ⟨hf.1, hf.2, hPc (T.setVm vm₁) hT hW₁⟩)
  dsimp only [Pt.U, Pt.locs, Pt.cells, Pt.slots] at X' e1 e2 h1 h2 h3 st
  subst h1; subst h2; subst h3
  exact ⟨v, (T.setVm vm₁).calling g' mk (Value.ref b :: As).toArray, t, U', L, hT, X', hL, e1, e2, hq, fun target h => st.trans h⟩
end RUNP
