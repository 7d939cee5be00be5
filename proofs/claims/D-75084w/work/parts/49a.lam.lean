/-! BASE, part 9a: the sites of lambdas -/
set_option maxRecDepth 100000
abbrev FeeN : String := "DocumentaryCreditDesk$Fee"
abbrev feeSh (cap : List FieldType) (cls name : String) : Lambda.Shape := { iface := FeeN, name := "of", sam := ⟨[.long, .long, .long], some .long⟩, captured := cap, kind := 6, implClass := cls, implName := name, implDesc := ⟨cap ++ [.long, .long, .long], some .long⟩, implItf := false, inst := ⟨[.long, .long, .long], some .long⟩ }
abbrev sg1 : Lambda.Shape := feeSh [] "DocumentaryCreditDesk$Desk" "lambda$new$0"
abbrev sg2 : Lambda.Shape := feeSh [.long] "DocumentaryCreditDesk$Parser" "lambda$factor$0"
abbrev sg3 : Lambda.Shape := feeSh [] "DocumentaryCreditDesk$Parser" "lambda$factor$1"
abbrev sg4 : Lambda.Shape := feeSh [] "DocumentaryCreditDesk$Parser" "lambda$factor$2"
abbrev sg5 : Lambda.Shape := feeSh [] "DocumentaryCreditDesk$Parser" "lambda$factor$3"
abbrev sg6 : Lambda.Shape := feeSh [.object FeeN, .object FeeN, .int] "DocumentaryCreditDesk" "lambda$operation$0"
/-- a linked site: the class made for it, and its one object where nothing is captured -/
def LF (x : MethodName) (pc index : Nat) (σ : Lambda.Shape) (c : ClassId) (one : Option Addr) (U : State) : Prop :=
  ∃ (m : MethodId) (k : Class) (cf : ClassFile) (i0 p0 : Nat) (l : Linked), U.methodNamed? x = some m ∧ U.vm.classes[m.cls]? = some k ∧ k.cf = some cf ∧ Lambda.shapeOf? cf index = some σ ∧
    (k.callSites.find? fun y => y.1 == m.idx && y.2.1 == pc) = some (i0, p0, l) ∧ Lambda.isMade { classPath := fun _ => none } U.vm m.cls σ c = true ∧ U.lambdaCallable σ c = true ∧
    ((∃ a cell, l = .constant a ∧ one = some a ∧ σ.captured = [] ∧ U.heap[a]? = some cell ∧ cell.cls = c ∧ cell.vm = .none ∧ cell.slots = #[]) ∨ (l = .makes c ∧ one = none ∧ σ.captured ≠ []))
theorem LF.of {s : State} {x : MethodName} {pc index : Nat} {σ : Lambda.Shape} {c : ClassId} {one : Option Addr} (h : s.lambdaAt? x pc index σ = some (c, one)) : LF x pc index σ c one s := by
  obtain ⟨m, k, cf, i0, p0, l, h1, h2, h3, h4, -, h6, h7, h8, h9⟩ := State.lambdaAt?_spec h
  exact ⟨m, k, cf, i0, p0, l, h1, h2, h3, h4, h6, h7, h8, h9⟩
theorem LF.to {u U : State} {x : MethodName} {pc index : Nat} {σ : Lambda.Shape} {c : ClassId} {one : Option Addr} (hW : u.WarmedH U.vm) (hh : ∀ a, one = some a → U.heap[a]? = u.heap[a]?) (h : LF x pc index σ c one u) : LF x pc index σ c one U := by
  obtain ⟨m, k, cf, i0, p0, l, h1, h2, h3, h4, h6, h7, h8, h9⟩ := h
  obtain ⟨k', hk', he⟩ := hW.alike.2.2 _ _ h2
  have hm' : U.methodNamed? x = some m := by
    have := State.methodNamed?_setVm (s := u) hW.alike x
    rw [h1] at this
    exact this
  refine ⟨m, k', cf, i0, p0, l, hm', hk', by rw [he]; exact h3, h4, by rw [he]; exact h6, Lambda.isMade_warmer hW h7, ?_, ?_⟩
  · have hA := hW.alike
    simp only [State.lambdaCallable, hA.findClass, hA.assignable, hA.superclasses, hA.declaredIn] at h8 ⊢
    exact h8
  · rcases h9 with ⟨a, cell, e1, e2, e3, e4, e5⟩ | h9
    · exact Or.inl ⟨a, cell, e1, e2, e3, by rw [hh a e2]; exact e4, e5⟩
    · exact Or.inr h9
/-- Fee's one method -/
abbrev yFee : MethodName := ⟨FeeN, "of", "(JJJ)J"⟩
def fIM (U : State) : Prop := (Cond.declares yFee).before #[] U = true ∧ (Cond.interfaceMethod FeeN FeeN "of" "(JJJ)J").before #[] U = true
theorem fIM.moved {u U : State} (hvm : u.vm.Alike U.vm) (h : fIM u) : fIM U := by
  obtain ⟨h1, h2⟩ := h
  obtain ⟨r, meth, hn, -⟩ := Cond.declares_spec h1
  have tr : ∀ {c : Cond}, c.onTables = true → c.before #[] (u.setVm U.vm) = true → c.before #[] U = true := by
    intro c hc h
    have e := Cond.onTables_vm (A := #[]) (A' := #[]) (U := u) (U' := U) U.vm c hc
    have hU : U.setVm U.vm = U := rfl
    rw [hU] at e
    rw [← e]
    exact h
  exact ⟨tr rfl (by rw [Cond.declares_setVm hvm]; exact h1), tr rfl (by rw [Cond.interfaceMethod_setVm hvm (r := r) hn (by decide)]; exact h2)⟩
/-- two private methods of AbstractStringBuilder -/
abbrev yEns : MethodName := ⟨"java/lang/AbstractStringBuilder", "ensureCapacityInternal", "(I)V"⟩
abbrev yNCap : MethodName := ⟨"java/lang/AbstractStringBuilder", "newCapacity", "(I)I"⟩
def pvS (U : State) : Prop := (Cond.privateMethod yEns).before #[] U = true ∧ (Cond.privateMethod yNCap).before #[] U = true
theorem pvS.warm {u U : State} (hW : u.WarmedH U.vm) (h : pvS u) : pvS U := ⟨Cond.privateMethod_warm hW h.1, Cond.privateMethod_warm hW h.2⟩
/-- the parser's own texts: objects g 20 .., their bytes' arrays g 30 .. -/
def mJ (i : Nat) : Nat := [146, 148, 150, 166, 172, 174, 193, 195, 197].getD i 0
def PSt (A : Nat → Prop) (g : Nat → Nat) (U : State) : Prop := ∀ i, i < 9 → vk_R RX6 (mJ i) (mT i) (g (20 + i)) U ∧ stX A (g (20 + i)) (g (30 + i)) (mLen i) (fun j => (mBy i).getD j 0) U
theorem PSt_to {A : Nat → Prop} {g : Nat → Nat} {s : State} {H : Heap} {locs : List Loc} (h : PSt A g s) (hS : va_S A s.heap H locs) (U : State) (hU : U.heap = H) (hW : s.WarmedH U.vm) : PSt A g U := fun i hi => ⟨(h i hi).1.warm hW, stX_to (h i hi).2 hS (fun _ z => z) U hU hW⟩
/-- the six sites: their classes and constant objects stand in g from 3 on -/
def LSk (g : Nat → Nat) (U : State) : Prop :=
  (g 4 < g 0 ∧ g 7 < g 0 ∧ g 9 < g 0 ∧ g 11 < g 0) ∧ LF yX2_init 31 23 sg1 (g 3) (some (g 4)) U ∧ LF yX6_factor 108 139 sg2 (g 5) none U ∧ LF yX6_factor 252 152 sg3 (g 6) (some (g 7)) U ∧ LF yX6_factor 258 154 sg4 (g 8) (some (g 9)) U ∧ LF yX6_factor 264 155 sg5 (g 10) (some (g 11)) U ∧ LF yX1_operation 3 1 sg6 (g 12) none U ∧ fIM U ∧ pvS U
theorem LSk.to {g : Nat → Nat} {u U : State} (hW : u.WarmedH U.vm) (hh : ∀ a, a < g 0 → U.heap[a]? = u.heap[a]?) (h : LSk g u) : LSk g U := by
  obtain ⟨⟨a1, a2, a3, a4⟩, h1, h2, h3, h4, h5, h6, h7, h8⟩ := h
  exact ⟨⟨a1, a2, a3, a4⟩, h1.to hW (fun a e => hh a (by cases e; exact a1)), h2.to hW (fun a e => by cases e), h3.to hW (fun a e => hh a (by cases e; exact a2)), h4.to hW (fun a e => hh a (by cases e; exact a3)), h5.to hW (fun a e => hh a (by cases e; exact a4)), h6.to hW (fun a e => by cases e), h7.moved hW.alike, h8.warm hW⟩
section ROWS9A
variable {p : Program} {l : Launch} {e : Env} {R : Room} {s : State} {m : MethodId} {args : Array Value} {below : List Frame} {meth : Method} {c : Code} {H : Heap} {locs : List Loc} {cells slots : Nat} {Q : State → Prop}
variable {cc : ByteArray} {pc : Nat} {ls : Array Slot} {rest : List Value}
theorem lam_words (h : l.admits e) : e.platform.lambdaLinkWords = 3072 := by rw [h.2.2.2.2.1]
/-- a lambda that captures nothing -/
theorem w_lamC {x : MethodName} {index : Nat} {σ : Lambda.Shape} {cK : ClassId} {a : Addr} (hexec : p.tables.exec = Jvm.exec) (hb : c.code = cc) (hml : c.maxLocals = ls.size) (hm : s.methodNamed? x = some m) (hL : LF x pc index σ cK (some a) s) (hloc : (rest.map fun v => v.category).sum + 3072 ≤ R.locals) (hdg : decode cc pc = .ok (.invokedynamic index, 5))
    (kk : W p l e R s m args below meth c H locs cells slots Q (F0 m (pc + 5) ls (.ref a :: rest))) : W p l e R s m args below meth c H locs cells slots Q (F0 m pc ls rest) := by
  intro T hT X
  obtain ⟨m', k, cf, i0, p0, l', h1, h2, h3, h4, h5, h6, h7, h8⟩ := hL
  cases hm.symm.trans h1
  rcases h8 with ⟨a', cell, rfl, e1, -⟩ | ⟨-, e1, -⟩
  · cases e1
    obtain ⟨t, a1, b1⟩ := kk T hT X
    refine ⟨t, X.lambdaConstant hexec (g := F0 m pc ls rest) rfl hml.symm (by rw [hb]; exact hdg) h2 h5 ?_ a1, b1⟩
    rw [lam_words X.admits]
    show 2 * 0 + (rest.map fun v => v.category).sum + 3072 ≤ R.locals
    omega
  · cases e1
end ROWS9A
