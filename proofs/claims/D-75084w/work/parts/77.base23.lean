/-! BASE, part 23: the forwarders -/
set_option maxRecDepth 100000
theorem rdy.warm {e : Env} {s U : State} {d : ClassId} {idx n : Nat} {y : MethodName} (h : rdy e s d idx n y) (hW : s.WarmedH U.vm) : rdy e U d idx n y := fun T hT => h T (State.WarmedH.trans hW hT)
section ROWS23
variable {p : Program} {l : Launch} {e : Env} {R : Room} {s : State} {m : MethodId} {args : Array Value} {below : List Frame} {meth : Method} {c : Code} {H : Heap} {locs : List Loc} {cells slots : Nat} {Q : State → Prop}
variable {cc : ByteArray} {nL : Nat} {own : String} {pc : Nat} {ls : Array Slot} {rest st0 : List Value} {D : va_G} {k : Nat → ClassId}
theorem fwd_end {y : MethodName} {bytes : ByteArray} {maxL fr lo nc ns n idx : Nat} {As : List Value} {Ph : State → Prop} {v : Int64} (hexec : p.tables.exec = Jvm.exec) (hb : c.code = cc) (hml : c.maxLocals = ls.size) (hret : meth.sig.returnType = some .long) (hlk : meth.locks = false) (hM : gM l D k y bytes maxL (some .long) fr lo nc ns As Ph (some (.long v))) (hm2 : mv2 Ph)
    (hlw : ∀ w ∈ lw_all, w.before args s = true) (hcode : Cond.code y bytes maxL (some .long) ∈ lw_all) (hini : Cond.initialized y.cls ∈ lw_all) (hrd : rdy e s m.cls idx n y) (hK : KA D k s) (hp : ∀ U : State, U.heap = s.heap → s.WarmedH U.vm → Ph U) (hn : As.length = n) (hst : st0 = As.reverse) (hdg : decode cc pc = .ok (.invokestatic idx, 3)) (hdr : decode cc (pc + 3) = .ok (.lreturn, 1)) :
    W p l e (Rm (fr + 1) (19 + maxL + lo) nc ns) s m args below meth c s.heap [] 0 0 (MQ below (gQ (some (.long v))) args s nc ns (fun _ => False)) (F0 m pc ls st0) := by
  have hS : va_S (fun q => s.heap.size ≤ q) s.heap s.heap [] := va_S.rf
  refine g_after (w_callR (rest := []) hexec hb hml hM hm2 ⟨Nat.le_refl _, by show 8 + (maxL + 11) + lo ≤ 19 + maxL + lo; omega⟩ hlw hcode hini hrd hK hp hn (by rw [hst, List.append_nil]) (Nat.zero_le _) hdg ⟨by show 0 + nc ≤ nc; omega, by show 0 + ns ≤ ns; omega⟩) hS (fun H1 hS hz hk => ?_)
  refine g_forget hS (W_more (cells' := nc) (slots' := ns) (by omega) (by omega) ?_)
  exact W.lret hexec hb hret (fun t ht _ => ⟨rfl, vaF_fresh hS ht⟩) (fun q h => by cases h) hdr hlk
section FWD
variable {y : MethodName} {bytes : ByteArray} {maxL fr lo nc ns : Nat} {Ph : State → Prop} {v a b c0 : Int64} {z : Nat} {cK : ClassId}
theorem fwd0 (hexec : p.tables.exec = Jvm.exec) (hb : c.code = cf0) (hml : c.maxLocals = 7) (hret : meth.sig.returnType = some .long) (hlk : meth.locks = false) (hM : gM l D k y bytes maxL (some .long) fr lo nc ns [.long a, .long b, .long c0] Ph (some (.long v))) (hm2 : mv2 Ph)
    (hlw : ∀ w ∈ lw_all, w.before #[.ref z, .long a, .long b, .long c0] s = true) (hcode : Cond.code y bytes maxL (some .long) ∈ lw_all) (hini : Cond.initialized y.cls ∈ lw_all) (hrd : rdy e s cK 17 3 y) (hK : KA D k s) (hp : ∀ U : State, U.heap = s.heap → s.WarmedH U.vm → Ph U) :
    W p l e (Rm (fr + 1) (19 + maxL + lo) nc ns) s ⟨cK, 1⟩ #[.ref z, .long a, .long b, .long c0] below meth c s.heap [] 0 0 (MQ below (gQ (some (.long v))) #[.ref z, .long a, .long b, .long c0] s nc ns (fun _ => False)) (entryFrame ⟨cK, 1⟩ #[.ref z, .long a, .long b, .long c0] 7) := by
  show W p l e (Rm (fr + 1) (19 + maxL + lo) nc ns) s ⟨cK, 1⟩ #[.ref z, .long a, .long b, .long c0] below meth c s.heap [] 0 0 (MQ below (gQ (some (.long v))) #[.ref z, .long a, .long b, .long c0] s nc ns (fun _ => False)) (entryFrame ⟨cK, 1⟩ ([.ref z, .long a, .long b, .long c0] : List Value).toArray 7)
  rw [lg_entry_eq]
  have hl := lv_entry [.ref z, .long a, .long b, .long c0] (n := 7) (Nat.le_of_ble_eq_true rfl)
  generalize (lg_sl [.ref z, .long a, .long b, .long c0] ++ List.replicate (7 - (lg_sl [.ref z, .long a, .long b, .long c0]).length) Slot.unset).toArray = ls at hl ⊢
  refine lv_lload_n hexec hb c0_0 rfl (lv_at hl 1 rfl) ?_
  refine lv_lload_n hexec hb c0_1 rfl (lv_at hl 2 rfl) ?_
  refine lv_lload hexec hb c0_2 (lv_at hl 3 rfl) ?_
  exact fwd_end hexec hb (hml.trans hl.1.symm) hret hlk hM hm2 hlw hcode hini hrd hK hp rfl rfl c0_4 c0_7
theorem fwd1 {cell : Cell} {x0 : Int64} (hexec : p.tables.exec = Jvm.exec) (hb : c.code = cf1) (hml : c.maxLocals = 7) (hret : meth.sig.returnType = some .long) (hlk : meth.locks = false) (hM : gM l D k y bytes maxL (some .long) fr lo nc ns [.long x0, .long a, .long b, .long c0] Ph (some (.long v))) (hm2 : mv2 Ph)
    (hlw : ∀ w ∈ lw_all, w.before #[.ref z, .long a, .long b, .long c0] s = true) (hcode : Cond.code y bytes maxL (some .long) ∈ lw_all) (hini : Cond.initialized y.cls ∈ lw_all) (hrd : rdy e s cK 23 4 y) (hK : KA D k s) (hp : ∀ U : State, U.heap = s.heap → s.WarmedH U.vm → Ph U)
    (hf : ∀ vm' : Vm, s.WarmedH vm' → ∃ f : Field, vm'.fieldReady cK 15 cK f ∧ f.isStatic = false ∧ f.slot = 0) (hcell : s.heap[z]? = some cell) (hv : cell.vm = .none) (hs : cell.slots = #[.long x0]) :
    W p l e (Rm (fr + 1) (19 + maxL + lo) nc ns) s ⟨cK, 1⟩ #[.ref z, .long a, .long b, .long c0] below meth c s.heap [] 0 0 (MQ below (gQ (some (.long v))) #[.ref z, .long a, .long b, .long c0] s nc ns (fun _ => False)) (entryFrame ⟨cK, 1⟩ #[.ref z, .long a, .long b, .long c0] 7) := by
  show W p l e (Rm (fr + 1) (19 + maxL + lo) nc ns) s ⟨cK, 1⟩ #[.ref z, .long a, .long b, .long c0] below meth c s.heap [] 0 0 (MQ below (gQ (some (.long v))) #[.ref z, .long a, .long b, .long c0] s nc ns (fun _ => False)) (entryFrame ⟨cK, 1⟩ ([.ref z, .long a, .long b, .long c0] : List Value).toArray 7)
  rw [lg_entry_eq]
  have hl := lv_entry [.ref z, .long a, .long b, .long c0] (n := 7) (Nat.le_of_ble_eq_true rfl)
  generalize (lg_sl [.ref z, .long a, .long b, .long c0] ++ List.replicate (7 - (lg_sl [.ref z, .long a, .long b, .long c0]).length) Slot.unset).toArray = ls at hl ⊢
  refine lv_aload_n hexec hb c1_0 rfl (lv_at hl 0 rfl) ?_
  refine w_getR (v := .long x0) hexec hb hf hcell (by rw [hv]; intro q; cases q) (by rw [hs]; rfl) c1_1 ?_
  refine lv_lload_n hexec hb c1_4 rfl (lv_at hl 1 rfl) ?_
  refine lv_lload_n hexec hb c1_5 rfl (lv_at hl 2 rfl) ?_
  refine lv_lload hexec hb c1_6 (lv_at hl 3 rfl) ?_
  exact fwd_end hexec hb (hml.trans hl.1.symm) hret hlk hM hm2 hlw hcode hini hrd hK hp rfl rfl c1_8 c1_11
theorem fwd3 {cell : Cell} {zl zr : Nat} {op : Int32} (hexec : p.tables.exec = Jvm.exec) (hb : c.code = cf3) (hml : c.maxLocals = 7) (hret : meth.sig.returnType = some .long) (hlk : meth.locks = false) (hM : gM l D k y bytes maxL (some .long) fr lo nc ns [.ref zl, .ref zr, .int op, .long a, .long b, .long c0] Ph (some (.long v))) (hm2 : mv2 Ph)
    (hlw : ∀ w ∈ lw_all, w.before #[.ref z, .long a, .long b, .long c0] s = true) (hcode : Cond.code y bytes maxL (some .long) ∈ lw_all) (hini : Cond.initialized y.cls ∈ lw_all) (hrd : rdy e s cK 30 6 y) (hK : KA D k s) (hp : ∀ U : State, U.heap = s.heap → s.WarmedH U.vm → Ph U)
    (hf0 : ∀ vm' : Vm, s.WarmedH vm' → ∃ f : Field, vm'.fieldReady cK 18 cK f ∧ f.isStatic = false ∧ f.slot = 0) (hf1 : ∀ vm' : Vm, s.WarmedH vm' → ∃ f : Field, vm'.fieldReady cK 20 cK f ∧ f.isStatic = false ∧ f.slot = 1) (hf2 : ∀ vm' : Vm, s.WarmedH vm' → ∃ f : Field, vm'.fieldReady cK 22 cK f ∧ f.isStatic = false ∧ f.slot = 2)
    (hcell : s.heap[z]? = some cell) (hv : cell.vm = .none) (hs : cell.slots = #[.ref zl, .ref zr, .int op]) :
    W p l e (Rm (fr + 1) (19 + maxL + lo) nc ns) s ⟨cK, 1⟩ #[.ref z, .long a, .long b, .long c0] below meth c s.heap [] 0 0 (MQ below (gQ (some (.long v))) #[.ref z, .long a, .long b, .long c0] s nc ns (fun _ => False)) (entryFrame ⟨cK, 1⟩ #[.ref z, .long a, .long b, .long c0] 7) := by
  show W p l e (Rm (fr + 1) (19 + maxL + lo) nc ns) s ⟨cK, 1⟩ #[.ref z, .long a, .long b, .long c0] below meth c s.heap [] 0 0 (MQ below (gQ (some (.long v))) #[.ref z, .long a, .long b, .long c0] s nc ns (fun _ => False)) (entryFrame ⟨cK, 1⟩ ([.ref z, .long a, .long b, .long c0] : List Value).toArray 7)
  rw [lg_entry_eq]
  have hl := lv_entry [.ref z, .long a, .long b, .long c0] (n := 7) (Nat.le_of_ble_eq_true rfl)
  generalize (lg_sl [.ref z, .long a, .long b, .long c0] ++ List.replicate (7 - (lg_sl [.ref z, .long a, .long b, .long c0]).length) Slot.unset).toArray = ls at hl ⊢
  have hk : cell.vm ≠ .unknown := by rw [hv]; intro q; cases q
  refine lv_aload_n hexec hb c3_0 rfl (lv_at hl 0 rfl) ?_
  refine w_getR (v := .ref zl) hexec hb hf0 hcell hk (by rw [hs]; rfl) c3_1 ?_
  refine lv_aload_n hexec hb c3_4 rfl (lv_at hl 0 rfl) ?_
  refine w_getR (v := .ref zr) hexec hb hf1 hcell hk (by rw [hs]; rfl) c3_5 ?_
  refine lv_aload_n hexec hb c3_8 rfl (lv_at hl 0 rfl) ?_
  refine w_getR (v := .int op) hexec hb hf2 hcell hk (by rw [hs]; rfl) c3_9 ?_
  refine lv_lload_n hexec hb c3_12 rfl (lv_at hl 1 rfl) ?_
  refine lv_lload_n hexec hb c3_13 rfl (lv_at hl 2 rfl) ?_
  refine lv_lload hexec hb c3_14 (lv_at hl 3 rfl) ?_
  exact fwd_end hexec hb (hml.trans hl.1.symm) hret hlk hM hm2 hlw hcode hini hrd hK hp rfl rfl c3_16 c3_19
end FWD
end ROWS23
/-- the captured fields -/
theorem fld2 : ((lmD sg2 "DocumentaryCreditDesk$Parser").constantPool[15]? = some (.fieldref 2 14) ∧ (lmD sg2 "DocumentaryCreditDesk$Parser").constantPool.nameAndType? 14 = some ("arg$1", "J") ∧ (lmL sg2 "DocumentaryCreditDesk$Parser").1.findIdx? (·.name == "arg$1") = some 0 ∧ ((lmL sg2 "DocumentaryCreditDesk$Parser").1[0]?).map (fun f => (f.isStatic, f.slot)) = some (false, 0)) ∧ (lmL sg2 "DocumentaryCreditDesk$Parser").2.1 = #[.long] := by decide +kernel
theorem fld6 : ((lmD sg6 "DocumentaryCreditDesk").constantPool[18]? = some (.fieldref 2 17) ∧ (lmD sg6 "DocumentaryCreditDesk").constantPool.nameAndType? 17 = some ("arg$1", "LDocumentaryCreditDesk$Fee;") ∧ (lmL sg6 "DocumentaryCreditDesk").1.findIdx? (·.name == "arg$1") = some 0 ∧ ((lmL sg6 "DocumentaryCreditDesk").1[0]?).map (fun f => (f.isStatic, f.slot)) = some (false, 0)) ∧
  ((lmD sg6 "DocumentaryCreditDesk").constantPool[20]? = some (.fieldref 2 19) ∧ (lmD sg6 "DocumentaryCreditDesk").constantPool.nameAndType? 19 = some ("arg$2", "LDocumentaryCreditDesk$Fee;") ∧ (lmL sg6 "DocumentaryCreditDesk").1.findIdx? (·.name == "arg$2") = some 1 ∧ ((lmL sg6 "DocumentaryCreditDesk").1[1]?).map (fun f => (f.isStatic, f.slot)) = some (false, 1)) ∧
  ((lmD sg6 "DocumentaryCreditDesk").constantPool[22]? = some (.fieldref 2 21) ∧ (lmD sg6 "DocumentaryCreditDesk").constantPool.nameAndType? 21 = some ("arg$3", "I") ∧ (lmL sg6 "DocumentaryCreditDesk").1.findIdx? (·.name == "arg$3") = some 2 ∧ ((lmL sg6 "DocumentaryCreditDesk").1[2]?).map (fun f => (f.isStatic, f.slot)) = some (false, 2)) ∧
  (lmL sg6 "DocumentaryCreditDesk").2.1 = #[.object FeeN, .object FeeN, .int] := by decide +kernel
theorem fld_of {vm : Vm} {c : ClassId} {σ : Lambda.Shape} {caller : String} {fi fnt j : Nat} {nm ds : String} (hF : ∀ (fi fnt j : Nat) (nm ds : String) (g0 : Field), (lmD σ caller).constantPool[fi]? = some (.fieldref 2 fnt) → (lmD σ caller).constantPool.nameAndType? fnt = some (nm, ds) → (lmL σ caller).1.findIdx? (·.name == nm) = some j → (lmL σ caller).1[j]? = some g0 → vm.fieldReady c fi c g0)
    (h : (lmD σ caller).constantPool[fi]? = some (.fieldref 2 fnt) ∧ (lmD σ caller).constantPool.nameAndType? fnt = some (nm, ds) ∧ (lmL σ caller).1.findIdx? (·.name == nm) = some j ∧ ((lmL σ caller).1[j]?).map (fun f => (f.isStatic, f.slot)) = some (false, j)) : ∃ f : Field, vm.fieldReady c fi c f ∧ f.isStatic = false ∧ f.slot = j := by
  obtain ⟨h1, h2, h3, h4⟩ := h
  obtain ⟨g0, hg0, hp0⟩ := Option.map_eq_some_iff.mp h4
  simp only [Prod.mk.injEq] at hp0
  exact ⟨g0, hF fi fnt j nm ds g0 h1 h2 h3 hg0, hp0.1, hp0.2⟩
