/-! BASE, part 20: lambdas: what a made class holds; a call of its object -/
set_option maxRecDepth 100000
def lmD (σ : Lambda.Shape) (caller : String) : ClassFile := (σ.file caller).getD { minorVersion := 0, majorVersion := 0, constantPool := #[], accessFlags := 0, thisClass := 0, superClass := 0, interfaces := #[], fields := #[], methods := #[], attributes := #[] }
def lmF (σ : Lambda.Shape) (caller : String) : Method := ((layoutMethods (lmD σ caller)).bind (·[1]?)).getD default
def lmL (σ : Lambda.Shape) (caller : String) : Array Field × Array FieldType × Array FieldType := (layoutFields (lmD σ caller) 0).getD (#[], #[], #[])
/-- what is computed of a shape -/
abbrev lmOK (σ : Lambda.Shape) (caller : String) (cc : ByteArray) (mi ci nt nu : Nat) : Prop :=
  ((σ.file caller).isSome = true ∧ ((layoutMethods (lmD σ caller)).bind (·[1]?)).isSome = true ∧ (layoutFields (lmD σ caller) 0).isSome = true) ∧
  ((lmF σ caller).code.map fun c => (c.code.data, c.maxLocals)) = some (cc.data, 7) ∧ ((lmF σ caller).accessFlags, (lmF σ caller).sig.returnType) = (0x0001, some FieldType.long) ∧
  ((lmD σ caller).constantPool[mi]? = some (.methodref ci nt) ∧ (lmD σ caller).constantPool.className? ci = some σ.implClass ∧ (lmD σ caller).constantPool.nameAndType? nt = some (σ.implName, σ.implDesc.toString)) ∧
  ((lmD σ caller).constantPool[ci]? = some (.class_ nu) ∧ (lmD σ caller).constantPool.string? nu = some σ.implClass ∧ ci ≠ (lmD σ caller).thisClass)
theorem lm_file {σ : Lambda.Shape} {caller : String} (h : (σ.file caller).isSome = true) : σ.file caller = some (lmD σ caller) := by
  obtain ⟨x, hx⟩ := Option.isSome_iff_exists.mp h
  simp [lmD, hx]
theorem lm_second {σ : Lambda.Shape} {caller : String} (h : ((layoutMethods (lmD σ caller)).bind (·[1]?)).isSome = true) : ∀ ms, layoutMethods (lmD σ caller) = some ms → ms[1]? = some (lmF σ caller) := by
  intro ms hms
  obtain ⟨x, hx⟩ := Option.isSome_iff_exists.mp h
  have hf : lmF σ caller = x := by simp [lmF, hx]
  rw [hms] at hx
  rw [hf]
  exact hx
theorem lm_laid {σ : Lambda.Shape} {caller : String} (h : (layoutFields (lmD σ caller) 0).isSome = true) : layoutFields (lmD σ caller) 0 = some (lmL σ caller) := by
  obtain ⟨x, hx⟩ := Option.isSome_iff_exists.mp h
  simp [lmL, hx]
abbrev noCP : Setting := { classPath := fun _ => none }
theorem made_gen {vm : Vm} {d c : ClassId} {dk : Class} {σ : Lambda.Shape} {caller : String} {cc : ByteArray} {mi ci nt nu : Nat} (hd : vm.classes[d]? = some dk) (hname : dk.name = caller) (h : Lambda.isMade noCP vm d σ c = true)
    (hO : ∀ o ok, vm.findClass "java/lang/Object" = some o → vm.classes[o]? = some ok → ok.instanceTypes.size = 0) (K : lmOK σ caller cc mi ci nt nu) :
    ∃ (k tk : Class) (file : ClassFile) (methk : Method) (ck : Code) (toy : ClassId) (t : MethodId),
      vm.classes[c]? = some k ∧ k.name = caller ++ "$$Lambda" ∧ k.cf = some file ∧ file.constantPool = (lmD σ caller).constantPool ∧
      vm.method? ⟨c, 1⟩ = some methk ∧ methk.code = some ck ∧ ck.code = cc ∧ ck.maxLocals = 7 ∧ methk.locks = false ∧ methk.accessFlags = 0x0001 ∧ methk.sig.returnType = some .long ∧
      vm.findClass σ.implClass = some toy ∧ vm.classes[toy]? = some tk ∧ ((methodIn toy σ.implName σ.implDesc.toString tk.isInterface none).ask noCP vm).1 = .ok t ∧
      vm.methodReady c mi t ∧ vm.classReady c ci toy ∧
      (∀ (fi fnt j : Nat) (nm ds : String) (g0 : Field), (lmD σ caller).constantPool[fi]? = some (.fieldref 2 fnt) → (lmD σ caller).constantPool.nameAndType? fnt = some (nm, ds) → (lmL σ caller).1.findIdx? (·.name == nm) = some j → (lmL σ caller).1[j]? = some g0 → vm.fieldReady c fi c g0) ∧
      k.instanceTypes = (lmL σ caller).2.1 ∧ k.kind = .ordinary := by
  obtain ⟨⟨k1, k2, k3⟩, fc, ff, eM, eC⟩ := K
  obtain ⟨dk', k, ok, tk, file, cf, object, iface, toy, lay, methods, target, found, hd', hk, hfile, hcf, hobj, -, hok, hlay, hms, ht, htk, hg, -, hrec, -, -, -, hitf, hpool, hmeth, hfields, hty, hres, -⟩ := Lambda.isMade_spec h
  cases hd.symm.trans hd'
  rw [hname, lm_file k1] at hcf
  cases hcf
  have hok0 : ok.instanceTypes = #[] := Array.eq_empty_of_size_eq_zero (hO object ok hobj hok)
  rw [hO object ok hobj hok, lm_laid k3] at hlay
  cases hlay
  obtain ⟨b, hb, hsame⟩ := hmeth 1 (lmF σ caller) (lm_second k2 methods hms)
  simp only [Lambda.sameMethod, Bool.and_eq_true, decide_eq_true_eq] at hsame
  obtain ⟨⟨hn, -, hsig, hfl⟩, hcode⟩ := hsame
  simp only [Prod.mk.injEq] at ff
  cases hfc : (lmF σ caller).code with
  | none => rw [hfc] at fc; cases fc
  | some x =>
    cases hbc : b.code with
    | none => simp [hfc, hbc] at hcode
    | some y =>
      simp only [hfc, hbc, Bool.and_eq_true, decide_eq_true_eq] at hcode
      simp only [hfc, Option.map_some, Option.some.injEq, Prod.mk.injEq] at fc
      refine ⟨k, tk, file, b, y, toy, target, hk, by rw [hrec.1, hname], hfile, hpool.2.1, by simp [Vm.method?, hk, hb], hbc, ?_, by rw [← hcode.1.1.1.1.2.1]; exact fc.2, ?_, by rw [← hfl]; exact ff.1, by rw [← hsig]; exact ff.2, ht, htk, hg,
        ⟨k, hk, hres mi _ (Lambda.resolvedOf_method eM.1 eM.2.1 ht htk eM.2.2 hg)⟩, ⟨k, hk, hres ci _ (Lambda.resolvedOf_class eC.1 eC.2.2 eC.2.1 ht)⟩, ?_, ?_, hrec.2.1⟩
      · rw [← hcode.1.1.1.1.2.2]
        exact ByteArray.ext fc.1
      · simp [Method.locks, Method.isSynchronized, ← hfl, ff.1, hasFlag, Acc.synchronized]
      · intro fi fnt j nm ds g0 h1 h2 h3 h4
        exact ⟨k, j, k, hk, hres fi _ (Lambda.resolvedOf_field h1 h2 h3), hk, hfields j _ h4⟩
      · rw [hty.1, hok0]
        simp
/-- the forwarders' bytes -/
def cf0 : ByteArray := ⟨#[0x1f, 0x21, 0x16, 0x05, 0xb8, 0x00, 0x11, 0xad]⟩
def cf1 : ByteArray := ⟨#[0x2a, 0xb4, 0x00, 0x0f, 0x1f, 0x21, 0x16, 0x05, 0xb8, 0x00, 0x17, 0xad]⟩
def cf3 : ByteArray := ⟨#[0x2a, 0xb4, 0x00, 0x12, 0x2a, 0xb4, 0x00, 0x14, 0x2a, 0xb4, 0x00, 0x16, 0x1f, 0x21, 0x16, 0x05, 0xb8, 0x00, 0x1e, 0xad]⟩
theorem ok1 : lmOK sg1 "DocumentaryCreditDesk$Desk" cf0 17 14 16 13 := by decide +kernel
theorem ok2 : lmOK sg2 "DocumentaryCreditDesk$Parser" cf1 23 19 22 18 := by decide +kernel
theorem ok3 : lmOK sg3 "DocumentaryCreditDesk$Parser" cf0 17 14 16 13 := by decide +kernel
theorem ok4 : lmOK sg4 "DocumentaryCreditDesk$Parser" cf0 17 14 16 13 := by decide +kernel
theorem ok5 : lmOK sg5 "DocumentaryCreditDesk$Parser" cf0 17 14 16 13 := by decide +kernel
theorem ok6 : lmOK sg6 "DocumentaryCreditDesk" cf3 30 26 29 25 := by decide +kernel
