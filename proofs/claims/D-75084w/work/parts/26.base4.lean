/-! BASE, part 4: contracts that write, over what the start gives -/
set_option maxRecDepth 100000
abbrev xM (l : Launch) (D : va_G) (k : Nat → ClassId) (y : MethodName) (cc : ByteArray) (nL : Nat) (ret : Option FieldType) (fr lo : Nat) (av : List Value) (ws0 : va_W) (Ph : State → Prop) (v : Option Value) (ws1 : va_W) (A : Nat → Prop) : Prop :=
  Met l y (ws_ y cc nL ret) (Rm fr lo 0 0) (sP D k av (fun U => va_P D clA ws0 U.heap ∧ Ph U)) (wQ D v ws1 A) 0 0 A
theorem xM_of {l : Launch} {D : va_G} {k : Nat → ClassId} {y : MethodName} {cc : ByteArray} {nL : Nat} {ret : Option FieldType} {fr lo : Nat} {av : List Value} {ws0 ws1 : va_W} {Ph : State → Prop} {v : Option Value} {A : Nat → Prop} (hy : plainName y.cls = true) (hn : (lg_sl av).length ≤ nL)
    (body : ∀ (p : Program) (e : Env) (s : State) (m : MethodId) (below : List Frame) (meth : Method) (c : Code) (ls : Array Slot), Cx p s m meth c cc nL ret y.cls av.toArray → KA D k s → Ph s → va_P D clA ws0 s.heap → va_S A s.heap s.heap [] → lv_has ls nL (lv_args 0 av) → W p l e (Rm fr lo 0 0) s m av.toArray below meth c s.heap [] 0 0 (MQ below (wQ D v ws1 A) av.toArray s 0 0 A) (F0 m 0 ls [])) : xM l D k y cc nL ret fr lo av ws0 Ph v ws1 A := by
  refine Met.ofW (cc := cc) (maxL := nL) (ret := ret) hy rfl ?_
  intro p e s m args below meth c s₁ B hml hv
  obtain ⟨rfl, ⟨hP, hX⟩, hK⟩ := hv
  have hts := atoms_spec (ws := ws_ y cc nL ret) B.pre
  have hts : ∀ w ∈ lw_all, w.before _ s = true := fun w h => hts w (List.mem_cons_of_mem _ h)
  have hown : s.vm.findClass y.cls = some m.cls := findClass_of_methodNamed B.named
  rw [lg_entry_eq]
  exact body p e s m below meth c _ ⟨B.exec, B.bytes, B.returns, hml, hown, hts, B.notSynchronized⟩ hK hX hP va_S.rf (lv_entry av hn)
def mv2 (Ph : State → Prop) : Prop := ∀ u U : State, U.heap = u.heap → U.vm = u.vm → Ph u → Ph U
theorem mv.to2 {Ph : State → Prop} (h : mv Ph) : mv2 Ph := fun u U e1 e2 q => h u U e1 (by rw [e2]; exact Vm.Alike.refl _) q
theorem mv2_and {P Q : State → Prop} (h1 : mv2 P) (h2 : mv2 Q) : mv2 (fun U => P U ∧ Q U) := fun u U e a q => ⟨h1 u U e a q.1, h2 u U e a q.2⟩
theorem sP_blind2 {D : va_G} {k : Nat → ClassId} {av : List Value} {Ph : State → Prop} (h : mv2 Ph) : FrameBlind (sP D k av Ph) :=
  fun a U g mk q => ⟨q.1, h U _ rfl rfl q.2.1, va_K.moved (u := U) (U := U.calling g mk a) (Vm.Alike.refl U.vm) q.2.2⟩
theorem Met_pre {l : Launch} {y : MethodName} {ws : List Cond} {rm : Room} {Pc Pc' : Array Value → State → Prop} {Qc : Array Value → State → Outcome → State → Prop} {mc ms : Nat} {free : Addr → Prop} (h : Met l y ws rm Pc Qc mc ms free) (hw : ∀ a U, Pc' a U → Pc a U) : Met l y ws rm Pc' Qc mc ms free :=
  fun p e ha hc hk s m args below hf happ hp ht => h p e ha hc hk s m args below hf happ (hw _ _ hp) ht
section ROWS4
variable {p : Program} {l : Launch} {e : Env} {R : Room} {s : State} {m : MethodId} {args : Array Value} {below : List Frame} {meth : Method} {c : Code} {H : Heap} {locs : List Loc} {cells slots : Nat} {Q : State → Prop}
variable {cc : ByteArray} {nL : Nat} {ret : Option FieldType} {own : String} {pc : Nat} {ls : Array Slot} {rest st0 : List Value} {D : va_G} {k : Nat → ClassId} {A : Nat → Prop}
theorem x_callV {y : MethodName} {Cn : String} {bytes : ByteArray} {maxL fr lo n idx : Nat} {rt : Option FieldType} {b : Addr} {As : List Value} {ws0 ws1 : va_W} {Ph : State → Prop} {v : Option Value} {A1 : Nat → Prop} {H0 : Heap} (C : Cx p s m meth c cc nL ret own args) (hM : xM l D k y bytes maxL rt fr lo (.ref b :: As) ws0 Ph v ws1 A1)
    (cw : CallW R s args own Cn idx y bytes maxL rt (ws_ y bytes maxL rt) (Rm fr lo 0 0) 0 0 n) (hK : KA D k s) (hrc : ∃ cell : Cell, H[b]? = some cell ∧ cell.vm.isStatics = false ∧ s.vm.findClass Cn = some cell.cls) (hmv : mv2 Ph) (hP : va_P D clA ws0 H) (hPh : ∀ U : State, U.heap = H → s.WarmedH U.vm → Ph U) (hS : va_S A H0 H locs) (hA : ∀ q, A1 q → A q) (hn : As.length = n) (hl : ls.size = nL) (hst : st0 = As.reverse ++ .ref b :: rest) (hW : (rest.map fun v => v.category).sum ≤ 8) (hdg : decode cc pc = .ok (.invokevirtual idx, 3)) (hf : cells ≤ R.cells ∧ slots ≤ R.slots)
    (kk : ∀ (H1 : Heap) (locs1 : List Loc), va_P D clA ws1 H1 → va_S A H0 H1 locs1 → H.size ≤ H1.size → (∀ q : Nat, q < H.size → ¬ A1 q → H1[q]? = H[q]?) → W p l e R s m args below meth c H1 locs1 cells slots Q (F0 m (pc + 3) ls (v.toList ++ rest))) : W p l e R s m args below meth c H locs cells slots Q (F0 m pc ls st0) := by
  have hr := W.runV (e := e) (meth := meth) (below := below) (locs := locs) (H := H) (g := F0 m pc ls st0) (rest := rest) C.fix hM cw ⟨sP_blind2 (mv2_and mv_hp.to2 hmv), hrc, fun U hU hW => ⟨rfl, ⟨by rw [hU]; exact hP, hPh U hU hW⟩, va_K.moved hW.alike hK⟩⟩ rfl hn hl hst (lv_room hW) hdg hf
  intro T hT X
  obtain ⟨v', st₀, t, T', L, h0, X', hL, e1, ⟨hv, hp, hz, hk⟩, st⟩ := hr T hT X
  cases hv
  rw [h0] at hz hk
  obtain ⟨t2, a1, b1⟩ := kk T'.heap (locs ++ L) (by rw [e1]; exact hp) ⟨Nat.le_trans hS.1 (by rw [e1]; exact hz), fun q h1 h2 => by rw [e1, hk q (Nat.lt_of_lt_of_le h1 hS.1) (fun z => h2 (hA q z))]; exact hS.2.1 q h1 h2, fun q hq => by
      rcases List.mem_append.mp hq with h | h
      · exact hS.2.2 q h
      · exact hA _ (hL q h)⟩ (by rw [e1]; exact hz) (fun q h1 h2 => by rw [e1]; exact hk q h1 h2) T' rfl X'
  exact ⟨t2, st t2 a1, b1⟩
end ROWS4
/-- a text of the start, and that nothing in A is its cells -/
def stX (A : Nat → Prop) (a v n : Nat) (f : Nat → Int32) (U : State) : Prop := va_O "java/lang/String" a A U U.heap ∧ va_OF "java/lang/String" "coder" "B" (.int 0) a A U U.heap ∧ va_OF "java/lang/String" "value" "[B" (.ref v) a A U U.heap ∧ va_T .byte v n (fun j => .int (f j)) A U U.heap
def EnX (A : Nat → Prop) (U : State) : Prop := va_Z "java/lang/String" "COMPACT_STRINGS" "Z" (.int 1) A U U.heap ∧ va_Zq "jdk/internal/util/Preconditions" "SIOOBE_FORMATTER" "Ljava/util/function/BiFunction;" A U U.heap
theorem mv_stX {A : Nat → Prop} {a v n : Nat} {f : Nat → Int32} : mv (stX A a v n f) := fun u U e h q => by
  obtain ⟨q1, q2, q3, q4⟩ := q
  unfold stX
  rw [e]
  exact ⟨q1.moved h, q2.moved h, q3.moved h, q4.moved h⟩
theorem mv_EnX {A : Nat → Prop} : mv (EnX A) := fun u U e h q => by
  unfold EnX at *
  rw [e]
  exact ⟨q.1.moved h, q.2.moved h⟩
theorem stX_at {A : Nat → Prop} {a v n : Nat} {f : Nat → Int32} {s : State} {H : Heap} {locs : List Loc} (h : stX A a v n f s) (hS : va_S A s.heap H locs) (U : State) (hU : U.heap = H) (hW : s.WarmedH U.vm) : stC a v n f U := by
  obtain ⟨q1, q2, q3, q4⟩ := h
  unfold stC
  rw [hU]
  exact ⟨((q1.kept hS.2.1).moved hW.alike).narrow (fun _ h => h.elim), ((q2.kept hS.2.1).moved hW.alike).narrow (fun _ h => h.elim), ((q3.kept hS.2.1).moved hW.alike).narrow (fun _ h => h.elim), ((q4.kept hS.2.1).moved hW.alike).narrow (fun _ h => h.elim)⟩
theorem stX_to {A B : Nat → Prop} {a v n : Nat} {f : Nat → Int32} {s : State} {H : Heap} {locs : List Loc} (h : stX A a v n f s) (hS : va_S A s.heap H locs) (hB : ∀ q, B q → A q) (U : State) (hU : U.heap = H) (hW : s.WarmedH U.vm) : stX B a v n f U := by
  obtain ⟨q1, q2, q3, q4⟩ := h
  unfold stX
  rw [hU]
  exact ⟨((q1.kept hS.2.1).moved hW.alike).narrow hB, ((q2.kept hS.2.1).moved hW.alike).narrow hB, ((q3.kept hS.2.1).moved hW.alike).narrow hB, ((q4.kept hS.2.1).moved hW.alike).narrow hB⟩
theorem EnX_at {A : Nat → Prop} {s : State} {H : Heap} {locs : List Loc} (h : EnX A s) (hS : va_S A s.heap H locs) (U : State) (hU : U.heap = H) (hW : s.WarmedH U.vm) : EnS U := by
  unfold EnS
  rw [hU]
  exact ⟨((h.1.kept hS.2.1).moved hW.alike).narrow (fun _ h => h.elim), ((h.2.kept hS.2.1).moved hW.alike).narrow (fun _ h => h.elim)⟩
theorem EnX_to {A B : Nat → Prop} {s : State} {H : Heap} {locs : List Loc} (h : EnX A s) (hS : va_S A s.heap H locs) (hB : ∀ q, B q → A q) (U : State) (hU : U.heap = H) (hW : s.WarmedH U.vm) : EnX B U := by
  unfold EnX
  rw [hU]
  exact ⟨((h.1.kept hS.2.1).moved hW.alike).narrow hB, ((h.2.kept hS.2.1).moved hW.alike).narrow hB⟩
theorem stX_rc {A : Nat → Prop} {a v n : Nat} {f : Nat → Int32} {s : State} {H : Heap} {locs : List Loc} (h : stX A a v n f s) (hS : va_S A s.heap H locs) : ∃ cell : Cell, H[a]? = some cell ∧ cell.vm.isStatics = false ∧ s.vm.findClass "java/lang/String" = some cell.cls := by
  obtain ⟨cell, h1, h2, h3, -⟩ := h.1.kept hS.2.1
  exact ⟨cell, h1, h2, h3⟩
/-- words in the text -/
def chC (f : Nat → Int32) (j : Nat) : Int32 := ((f j &&& 255).toUInt32 % 65536).toInt32
def twP (fb : Nat → Int32) (L n : Nat) (g : Nat → Int32) (p : Nat) : Prop := (∀ j, j < n → byt fb L (p + j) = g j) ∧ ¬ inR (byt fb L (p + n)) 97 122
noncomputable def twS (fb : Nat → Int32) (L n : Nat) (g : Nat → Int32) (σ : PS) : PS := ifp (σ.2.1 = 0) (ifp (twP fb L n g (sk fb L σ.1)) (sk fb L σ.1 + n, σ.2) (sk fb L σ.1, σ.2)) σ
def twB (fb : Nat → Int32) (L n : Nat) (g : Nat → Int32) (σ : PS) : Prop := σ.2.1 = 0 ∧ twP fb L n g (sk fb L σ.1)
theorem okS_tw {fb : Nat → Int32} {L n : Nat} {g : Nat → Int32} {σ : PS} (hL : L ≤ 900) (hn : n ≤ 100) (hg : ∀ j, j < n → ¬ g j = -1) (h : okS L σ) : okS L (twS fb L n g σ) := by
  obtain ⟨h1, h2, h3⟩ := h
  by_cases hz : σ.2.1 = 0
  · have hs := sk_in (fb := fb) (h1 hz)
    simp only [twS, ifp_t hz]
    by_cases ht : twP fb L n g (sk fb L σ.1)
    · simp only [ifp_t ht]
      have hl : sk fb L σ.1 + n ≤ L := by
        rcases n with _ | n
        · exact hs.2
        · have := ht.1 n (by omega)
          rcases Nat.lt_or_ge (sk fb L σ.1 + n) L with q | q
          · omega
          · unfold byt at this
            rw [if_neg (by omega)] at this
            exact absurd this.symm (hg n (by omega))
      exact ⟨fun _ => hl, show sk fb L σ.1 + n ≤ 2000 by omega, h3⟩
    · simp only [ifp_f ht]
      exact ⟨fun _ => hs.2, show sk fb L σ.1 ≤ 2000 by omega, h3⟩
  · simp only [twS, ifp_f hz]
    exact ⟨h1, h2, h3⟩
