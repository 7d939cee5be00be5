/-! BASE, part 24: a call of a fee's object -/
set_option maxRecDepth 100000
theorem LF.cell {x : MethodName} {pcS idx : Nat} {σ : Lambda.Shape} {cK : ClassId} {z : Nat} {U : State} (h : LF x pcS idx σ cK (some z) U) : ∃ cell : Cell, U.heap[z]? = some cell ∧ cell.cls = cK ∧ cell.vm = .none := by
  obtain ⟨-, -, -, -, -, l', -, -, -, -, -, -, -, h8⟩ := h
  rcases h8 with ⟨a, cell, -, e1, -, e4, e5, e6, -⟩ | ⟨-, e1, -⟩
  · cases e1
    exact ⟨cell, e4, e5, e6⟩
  · cases e1
theorem lw_to {args a2 : Array Value} {s U : State} (h : ∀ w ∈ lw_all, w.before args s = true) (hW : s.WarmedH U.vm) : ∀ w ∈ lw_all, w.before a2 U = true := fun w hw => pay_in h lw_self w hw a2 U hW
def hpAt (H : Heap) (s : State) : State := { s with heap := H }
section ROWS24
variable {p : Program} {l : Launch} {e : Env} {R : Room} {s : State} {m : MethodId} {args : Array Value} {below : List Frame} {meth : Method} {c : Code} {H : Heap} {locs : List Loc} {cells slots : Nat} {Q : State → Prop}
variable {cc : ByteArray} {nL : Nat} {own : String} {pc : Nat} {ls : Array Slot} {rest st0 : List Value} {D : va_G} {k : Nat → ClassId} {g : Nat → Nat}
theorem lam0 {x y : MethodName} {pcS idx index count z maxL : Nat} {σ : Lambda.Shape} {cK : ClassId} {one : Option Addr} {caller : String} {a b c0 v : Int64} {cell : Cell} {bytes : ByteArray} (hexec : p.tables.exec = Jvm.exec) (hb : c.code = cc) (hml : c.maxLocals = ls.size) (hown : s.vm.findClass own = some m.cls) (hts : ∀ w ∈ lw_all, w.before args s = true) (hK : KA D k s) (hX : ∀ U : State, U.heap = H → s.WarmedH U.vm → KX g U)
    (hL : LF x pcS idx σ cK one s) (hx : x.cls = caller) (K : lmOK σ caller cf0 17 14 16 13) (hpl : plainName (caller ++ "$$Lambda") = true) (hif : σ.iface = FeeN ∧ σ.name = "of" ∧ σ.sam.toString = "(JJJ)J") (hI : fIM s) (hlink : (Cond.methodLink own index yFee).before args s = true) (hcell : H[z]? = some cell) (hcls : cell.cls = cK) (hvm : cell.vm = .none)
    (hy : y = ⟨σ.implClass, σ.implName, σ.implDesc.toString⟩) (hcode : Cond.code y bytes maxL (some .long) ∈ lw_all) (hstat : Cond.static y ∈ lw_all) (hini : Cond.initialized y.cls ∈ lw_all) (hmh : y.cls ≠ "java/lang/invoke/MethodHandle" ∧ y.cls ≠ "java/lang/invoke/VarHandle") (hn : (parseMethodDescriptor y.desc).map (fun d => d.parameters.length) = some 3)
    (hM : gM l D k y bytes maxL (some .long) 0 0 0 0 [.long a, .long b, .long c0] (hKX (fun _ => True) g) (some (.long v))) (hm8 : maxL ≤ 8)
    (hR : 2 ≤ R.frames ∧ 66 ≤ R.locals) (hW : (rest.map fun v => v.category).sum ≤ 8) (hf : cells ≤ R.cells ∧ slots ≤ R.slots) (hdg : decode cc pc = .ok (.invokeinterface index count, 5)) :
    va_Run5 p l e R s m args below meth c H locs cells slots 0 0 (F0 m pc ls (.long c0 :: .long b :: .long a :: .ref z :: rest)) rest (gQ (some (.long v)) #[.ref z, .long a, .long b, .long c0]) (fun _ => False) := by
  refine lam_run (fr := 0 + 1) (lo := 19 + maxL + 0) hexec hb hml hown hts hL hx K hpl hif hI hlink hcell hcls hvm ⟨hR.1, by omega⟩ hW hf hdg ?_
  intro sK methk ck hH hWk hbk hmk hlkk hrk
  subst hH
  exact fwd0 hexec hbk hmk hrk hlkk hM mv2_hKX (lw_to hts hWk) hcode hini ((LF.rdy hL hx K hts hy hcode hstat hini hmh hn).warm hWk) (va_K.moved hWk.alike hK) (fun U hU hWU => ⟨trivial, hX U hU (State.WarmedH.trans hWk hWU)⟩)
/-- a fee -/
theorem fee_run (n : Nat) : ∀ (F : FeF) (z : Nat) (a b c0 : Int64), feeR l D k g (2 * n + 1) (60 * n + 40) a b c0 n F z := by
  have leaf : ∀ (n : Nat) (F : FeF) (z : Nat) (a b c0 : Int64) (p : Program) (e : Env) (R : Room) (s : State) (m : MethodId) (args : Array Value) (below : List Frame) (meth : Method) (c : Code) (H : Heap) (locs : List Loc) (cells slots : Nat) (cc : ByteArray) (pc : Nat) (ls : Array Slot) (rest : List Value) (own : String) (index count : Nat),
    p.tables.exec = Jvm.exec → c.code = cc → c.maxLocals = ls.size → s.vm.findClass own = some m.cls → (∀ w ∈ lw_all, w.before args s = true) → KA D k s → KX g s → (∀ U : State, U.heap = H → s.WarmedH U.vm → KX g U) → feL g F z H →
    (Cond.methodLink own index yFee).before args s = true → 2 ≤ R.frames → 66 ≤ R.locals → (rest.map fun v => v.category).sum ≤ 8 → cells ≤ R.cells ∧ slots ≤ R.slots → decode cc pc = .ok (.invokeinterface index count, 5) →
    va_Run5 p l e R s m args below meth c H locs cells slots 0 0 (F0 m pc ls (.long c0 :: .long b :: .long a :: .ref z :: rest)) rest (gQ (some (.long (F a b c0))) #[.ref z, .long a, .long b, .long c0]) (fun _ => False) := by
    intro n F z a b c0 p e R s m args below meth c H locs cells slots cc pc ls rest own index count hexec hb hml hown hts hK hXs hX hF hlink hR1 hR2 hW hf hdg
    obtain ⟨-, L1, L2, L3, L4, L5, L6, hI, -⟩ := hXs.ls
    obtain ⟨-, U1, U2, U3, U4, U5, U6, -, -⟩ := (hX (hpAt H s) rfl (State.WarmedH.refl s)).ls
    rcases hF with ⟨rfl, rfl⟩ | ⟨rfl, rfl⟩ | ⟨rfl, rfl⟩ | ⟨rfl, rfl⟩ | ⟨cell, v, h1, h2, h3, h4, rfl⟩
    · obtain ⟨cell, e1, e2, e3⟩ := U1.cell
      exact lam0 hexec hb hml hown hts hK hX L1 rfl ok1 (by decide) (by decide +kernel) hI hlink e1 e2 e3 (y := yX2_lambda_new_0) (by decide +kernel) q194 q193 q71 (by decide) (by decide +kernel) (c_lamD l D k g a b c0) (by decide) ⟨hR1, hR2⟩ hW hf hdg
    · obtain ⟨cell, e1, e2, e3⟩ := U3.cell
      exact lam0 hexec hb hml hown hts hK hX L3 rfl ok3 (by decide) (by decide +kernel) hI hlink e1 e2 e3 (y := yX6_lambda_factor_1) (by decide +kernel) q1092 q1091 q81 (by decide) (by decide +kernel) (c_lam1 l D k g a b c0) (by decide) ⟨hR1, hR2⟩ hW hf hdg
    · obtain ⟨cell, e1, e2, e3⟩ := U4.cell
      exact lam0 hexec hb hml hown hts hK hX L4 rfl ok4 (by decide) (by decide +kernel) hI hlink e1 e2 e3 (y := yX6_lambda_factor_2) (by decide +kernel) q1094 q1093 q81 (by decide) (by decide +kernel) (c_lam2 l D k g a b c0) (by decide) ⟨hR1, hR2⟩ hW hf hdg
    · obtain ⟨cell, e1, e2, e3⟩ := U5.cell
      exact lam0 hexec hb hml hown hts hK hX L5 rfl ok5 (by decide) (by decide +kernel) hI hlink e1 e2 e3 (y := yX6_lambda_factor_3) (by decide +kernel) q1096 q1095 q81 (by decide) (by decide +kernel) (c_lam3 l D k g a b c0) (by decide) ⟨hR1, hR2⟩ hW hf hdg
    · refine lam_run (fr := 0 + 1) (lo := 19 + 8 + 0) hexec hb hml hown hts L2 rfl ok2 (by decide) (by decide +kernel) hI hlink h1 h2 h3 ⟨hR1, by omega⟩ hW hf hdg ?_
      intro sK methk ck hH hWk hbk hmk hlkk hrk
      subst hH
      refine fwd1 hexec hbk hmk hrk hlkk (c_lam0 l D k g v a b c0) mv2_hKX (lw_to hts hWk) q1087 q81 ((LF.rdy L2 rfl ok2 hts (y := yX6_lambda_factor_0) (by decide +kernel) q1087 q1086 q81 (by decide) (by decide +kernel)).warm hWk) (va_K.moved hWk.alike hK) (fun U hU hWU => ⟨trivial, hX U hU (State.WarmedH.trans hWk hWU)⟩) ?_ h1 h3 h4
      intro vm' hW'
      obtain ⟨_, _, _, _, _, _, _, -, -, -, -, -, -, -, -, -, -, -, -, -, -, -, -, hF, -⟩ := LF.made L2 rfl ok2 hts (State.WarmedH.trans hWk hW')
      exact fld_of hF fld2.1
  induction n with
  | zero =>
    intro F z a b c0 p e R s m args below meth c H locs cells slots cc pc ls rest own index count hexec hb hml hown hts hK hXs hX hlink hR1 hR2 hW hf hdg
    exact leaf 0 F z a b c0 p e R s m args below meth c H locs cells slots cc pc ls rest own index count hexec hb hml hown hts hK hXs (fun U h1 h2 => (hX U h1 h2).2) (hX (hpAt H s) rfl (State.WarmedH.refl s)).1 hlink hR1 hR2 hW hf hdg
  | succ n ih =>
    intro F z a b c0 p e R s m args below meth c H locs cells slots cc pc ls rest own index count hexec hb hml hown hts hK hXs hX hlink hR1 hR2 hW hf hdg
    rcases (hX (hpAt H s) rfl (State.WarmedH.refl s)).1 with hF | ⟨cell, zl, zr, o, Fl, Fr, h1, h2, h3, h4, h5, h6, rfl⟩
    · exact leaf 0 F z a b c0 p e R s m args below meth c H locs cells slots cc pc ls rest own index count hexec hb hml hown hts hK hXs (fun U h1 h2 => (hX U h1 h2).2) hF hlink (by omega) (by omega) hW hf hdg
    · obtain ⟨-, L1, L2, L3, L4, L5, L6, hI, -⟩ := hXs.ls
      refine lam_run (fr := (2 * n + 1 + 1) + 1) (lo := 19 + 15 + (26 + (60 * n + 40))) hexec hb hml hown hts L6 rfl ok6 (by decide) (by decide +kernel) hI hlink h1 h2 h3 ⟨by omega, by omega⟩ hW hf hdg ?_
      intro sK methk ck hH hWk hbk hmk hlkk hrk
      subst hH
      have hFl : ∀ i nm ds, i < 3 → ((lmD sg6 "DocumentaryCreditDesk").constantPool[18 + 2 * i]? = some (.fieldref 2 (17 + 2 * i)) ∧ (lmD sg6 "DocumentaryCreditDesk").constantPool.nameAndType? (17 + 2 * i) = some (nm, ds) ∧ (lmL sg6 "DocumentaryCreditDesk").1.findIdx? (·.name == nm) = some i ∧ ((lmL sg6 "DocumentaryCreditDesk").1[i]?).map (fun f => (f.isStatic, f.slot)) = some (false, i)) → ∀ vm' : Vm, sK.WarmedH vm' → ∃ f : Field, vm'.fieldReady (g 12) (18 + 2 * i) (g 12) f ∧ f.isStatic = false ∧ f.slot = i := by
        intro i nm ds _ hh vm' hW'
        obtain ⟨_, _, _, _, _, _, _, -, -, -, -, -, -, -, -, -, -, -, -, -, -, -, -, hF, -⟩ := LF.made L6 rfl ok6 hts (State.WarmedH.trans hWk hW')
        exact fld_of hF hh
      exact fwd3 hexec hbk hmk hrk hlkk (c_lamO l D k g (2 * n + 1) (60 * n + 40) n Fl Fr a b c0 zl zr o (ih Fl zl a b c0) (ih Fr zr a b c0)) mv2_hKX (lw_to hts hWk) q1101 q68 ((LF.rdy L6 rfl ok6 hts (y := yX1_lambda_operation_0) (by decide +kernel) q1101 q1100 q68 (by decide) (by decide +kernel)).warm hWk) (va_K.moved hWk.alike hK) (fun U hU hWU => ⟨by rw [hU]; exact ⟨h5, h6⟩, (hX U hU (State.WarmedH.trans hWk hWU)).2⟩) (hFl 0 _ _ (by decide) fld6.1) (hFl 1 _ _ (by decide) fld6.2.1) (hFl 2 _ _ (by decide) fld6.2.2.1) h1 h3 h4
end ROWS24
