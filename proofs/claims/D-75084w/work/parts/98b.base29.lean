/-! BASE, part 29: contracts of methods with handlers (uMW), a handler for all, writing with the frame known; readings of an expression -/
set_option maxRecDepth 100000
abbrev uMW (l : Launch) (D : va_G) (k : Nat → ClassId) (y : MethodName) (cc : ByteArray) (nL : Nat) (ret : Option FieldType) (hh : List (Nat × Nat × Nat × Nat)) (fr lo nc ns : Nat) (av : List Value) (g : Nat → Nat) (ws0 : va_W) (P : Heap → Prop) {X : Type} (v : X → Option Value) (B : X → Heap → Prop) (ws1 : X → va_W) (thr : String → Addr → Heap → Prop) : Prop :=
  vy_Met l y (wsW_ y cc nL ret hh) (Rm fr lo nc ns) (sP D k av (jPre D g ws0 P)) (jQ D v B ws1 (inL ws0)) (uX thr (inL ws0)) nc ns (inL ws0)
theorem uMW_of {l : Launch} {D : va_G} {k : Nat → ClassId} {y : MethodName} {cc : ByteArray} {nL : Nat} {ret : Option FieldType} {hh : List (Nat × Nat × Nat × Nat)} {fr lo nc ns : Nat} {av : List Value} {g : Nat → Nat} {ws0 : va_W} {P : Heap → Prop} {X : Type} {v : X → Option Value} {B : X → Heap → Prop} {ws1 : X → va_W} {thr : String → Addr → Heap → Prop} (hy : plainName y.cls = true) (hn : (lg_sl av).length ≤ nL)
    (body : ∀ (p : Program) (e : Env) (s : State) (m : MethodId) (below : List Frame) (meth : Method) (c : Code) (ls : Array Slot) (A : Nat → Prop), A = NA (inL ws0) s.heap → Cx p s m meth c cc nL ret y.cls av.toArray → c.exceptionTable.toList = tableOf hh → meth.name = y.name → s.methodNamed? y = some m → KA D k s → va_P D clA ws0 s.heap → va_D A ws0 → (∀ q, s.heap.size ≤ q → A q) → (∀ q, A q → g 0 ≤ q) → P s.heap → KX g s → va_S A s.heap s.heap [] → lv_has ls nL (lv_args 0 av) → W p l e (Rm fr lo nc ns) s m av.toArray below meth c s.heap [] 0 0 (vy_MQ below (jQ D v B ws1 (inL ws0)) (uX thr (inL ws0)) av.toArray s nc ns (inL ws0)) (F0 m 0 ls [])) : uMW l D k y cc nL ret hh fr lo nc ns av g ws0 P v B ws1 thr := by
  refine vy_ofWH (cc := cc) (maxL := nL) (ret := ret) (hh := hh) hy rfl ?_
  intro p e s m args below meth c s₁ B hml hv
  obtain ⟨rfl, ⟨hP, ⟨hnd, hge⟩, hPh, hX⟩, hK⟩ := hv
  have hts0 := atoms_spec (ws := wsW_ y cc nL ret hh) B.pre
  have ht := vy_table (x := y) B (hts0 _ List.mem_cons_self)
  have hts : ∀ w ∈ lw_all, w.before _ s = true := fun w h => hts0 w (List.mem_cons_of_mem _ h)
  have hown : s.vm.findClass y.cls = some m.cls := findClass_of_methodNamed B.named
  rw [lg_entry_eq]
  exact body p e s m below meth c _ _ rfl ⟨B.exec, B.bytes, B.returns, hml, hown, hts, B.notSynchronized⟩ ht (name_of_methodNamed B.named B.method).1 B.named hK hP (NA_start (g := g) hnd) (fun q h => Or.inr h) (NA_g hge hX) hPh hX va_S.rf (lv_entry av hn)
section ROWS29
variable {p : Program} {l : Launch} {e : Env} {R : Room} {s : State} {m : MethodId} {args : Array Value} {below : List Frame} {meth : Method} {c : Code} {H H1 : Heap} {locs locs1 : List Loc} {cells slots : Nat} {Q : State → Prop}
variable {cc : ByteArray} {nL : Nat} {ret : Option FieldType} {own : String} {pc : Nat} {ls : Array Slot} {rest st0 : List Value} {D : va_G} {k : Nat → ClassId} {A A0 : Nat → Prop} {ws w1 w2 : va_W} {nc ns : Nat} {thr : String → Addr → Heap → Prop}
/-- a handler for whatever is thrown -/
theorem vy_catchAny {E : String} {ce : Cell} {q : Addr} (pre : List ExceptionTableEntry) (x : ExceptionTableEntry) (suf : List ExceptionTableEntry) (hsplit : c.exceptionTable.toList = pre ++ x :: suf) (hpass : ∀ z ∈ pre, covers z pc = false) (hx : covers x pc = true) (h0 : x.catchType = 0)
    (hcell : H[q]? = some ce) (hv : ce.vm = .none) (hcl : s.vm.findClass E = some ce.cls)
    (kk : W p l e R s m args below meth c H locs cells slots Q (F0 m x.handlerPc ls [.ref q])) : vy_W p l e R s m args below meth c H locs cells slots Q (F0 m pc ls rest) q := by
  intro T hT X
  obtain ⟨vm', X', st⟩ := X.thenCaughtThrough q (g := F0 m pc ls rest) rfl (Steps.refl _) (by rw [hT]; exact hcell) (by rw [hv]; rfl) (by obtain ⟨k9, h9, -⟩ := Vm.findClass_spec hcl; exact ⟨k9, h9⟩) pre x suf hsplit (fun z hz => Or.inl (hpass z hz)) hx (Or.inl h0)
  obtain ⟨t, a1, b1⟩ := kk (T.setVm vm') hT X'
  exact ⟨t, st.trans a1, b1⟩
/-- not caught here: no handler covers the place -/
theorem u_outW {E : String} {ce : Cell} {q : Addr} {Qc : Array Value → State → Outcome → State → Prop} (hAe : A = NA A0 s.heap) (hout : ∀ x ∈ c.exceptionTable.toList, covers x pc = false) (hlk : meth.locks = false) (hth : thr E q H) (hS : va_S A s.heap H locs) (hcell : H[q]? = some ce) (hv : ce.vm = .none) (hcl : s.vm.findClass E = some ce.cls) (hc : cells ≤ nc) (hs : slots ≤ ns) :
    vy_W p l e R s m args below meth c H locs cells slots (vy_MQ below Qc (uX thr A0) args s nc ns A0) (F0 m pc ls rest) q :=
  NA_forgetX hAe hS fun locs1 hl1 => vy_out hout hlk hcell hv hcl (fun t ht _ => ⟨by rw [ht]; exact hth, NA_F hAe hS ht⟩) hl1 hc hs
/-- ahead of a writing: what was written is forgotten but for the live cells -/
theorem put_fr {gg : JFrame} (hAe : A = NA A0 s.heap) (hS : va_S A s.heap H locs) (hin : ∀ q, A0 q → inL w1 q) (kk : ∀ locs1 : List Loc, va_S (inL w1) H H locs1 → W p l e R s m args below meth c H locs1 cells slots Q gg) : W p l e R s m args below meth c H locs cells slots Q gg :=
  NA_forget hAe hS fun locs1 h => kk locs1 ⟨Nat.le_refl _, fun _ _ _ => rfl, fun q hq => hin _ (h q hq)⟩
theorem S_put (hD : va_D A (w1 ++ w2)) (hS : va_S A s.heap H locs) (hS1 : va_S (inL w1) H H1 locs1) : va_S A s.heap H1 locs1 :=
  ⟨Nat.le_trans hS.1 hS1.1, fun q h1 h2 => (hS1.2.1 q (Nat.lt_of_lt_of_le h1 hS.1) (fun z => h2 (D_in (D_app1 hD) z))).trans (hS.2.1 q h1 h2), fun q hq => D_in (D_app1 hD) (hS1.2.2 q hq)⟩
theorem D_self (h : va_D A (w1 ++ w2)) : va_D (inL w1) w1 := va_D_nod.mpr ⟨(va_D_nod.mp (D_app1 h)).1, fun q hq => inL_mem hq⟩
end ROWS29
theorem ne_cls {s : State} {H : Heap} {a b : Nat} {ca cb : Cell} {A B : String} (h1 : H[a]? = some ca) (h2 : s.vm.findClass A = some ca.cls) (h3 : H[b]? = some cb) (h4 : s.vm.findClass B = some cb.cls) (hne : A ≠ B) : a ≠ b := by
  intro e
  rw [e, h3] at h1
  rw [Option.some.inj h1] at h4
  obtain ⟨k1, e1, e2⟩ := Vm.findClass_spec h2
  obtain ⟨k2, e3, e4⟩ := Vm.findClass_spec h4
  rw [e1] at e3
  exact hne (e2.symm.trans ((congrArg Class.name (Option.some.inj e3)).trans e4))
theorem exn_kept {D : va_G} {cd off : Int32} {E : String} {q : Nat} {H H1 : Heap} (h : exn D cd off E q H) (hk : H1[q]? = H[q]?) : exn D cd off E q H1 := by
  rcases h with ⟨h1, h2, h3⟩ | ⟨h2, h3⟩
  · exact Or.inl ⟨h1, h2, h3.kept (fun i x hi => by
      cases i with
      | zero => cases hi; exact hk
      | succ i => cases hi)⟩
  · exact Or.inr ⟨h2, h3.kept (fun i x hi => by
      cases i with
      | zero => cases hi; exact hk
      | succ i => cases hi)⟩
theorem exn_cls {D : va_G} {cd off : Int32} {E : String} {q : Nat} {H : Heap} (h : exn D cd off E q H) : E ≠ RX6 := by
  rcases h with ⟨-, h, -⟩ | ⟨h, -⟩ <;> rw [h] <;> decide
/-- an error inside an expression: the Parser is still there -/
def feX (D : va_G) (pa o ca ds L : Nat) (hfe : Int32) (τ : PS) (E : String) (q : Nat) (H : Heap) : Prop := rdT D τ E q H ∧ ∃ nx st dp : Int32, va_P D clA [(pa, .inr (5, [.int (nI L), .ref ca, .ref ds, .int nx, .int st, .int dp, .int hfe, .ref o]))] H
theorem kpF {pa lo : Nat} {x : va_E} {H H1 : Heap} (hpl : pa < lo) (hk : ∀ q : Nat, q < H.size → ¬ inL [(pa, x)] q → H1[q]? = H[q]?) : ∀ q : Nat, lo ≤ q → q < H.size → H1[q]? = H[q]? := fun q h1 h2 => hk q h2 (fun z => by have z : q = pa := List.mem_singleton.mp z; omega)
theorem kpF0 {lo : Nat} {H H1 : Heap} (hk : ∀ q : Nat, q < H.size → ¬ inL [] q → H1[q]? = H[q]?) : ∀ q : Nat, lo ≤ q → q < H.size → H1[q]? = H[q]? := fun q _ h2 => hk q h2 (fun z => by cases z)
theorem feW_le {g : Nat → Nat} {lo n m : Nat} {F : FeF} {z : Nat} {H : Heap} (h : n ≤ m) (hF : feW g lo n F z H) : feW g lo m F z H := by
  induction m with
  | zero => rw [show n = 0 by omega] at hF; exact hF
  | succ m ih =>
    by_cases e : n = m + 1
    · rw [← e]; exact hF
    · exact feW_up (ih (by omega))
theorem cst_add {L : Nat} {σ ρ τ φ : PS} (h1 : σ.1 ≤ ρ.1) (hρ : ρ.1 ≤ L + 1) (ht : fwd L ρ τ) (hp : fwd L τ φ) : (ρ.1 - σ.1) + cst L ρ τ ≤ cst L σ φ := by
  by_cases g1 : τ.2.1 = 0
  · have e1 := ht.1.1 g1
    have e2 := (ht.2 g1).2
    rw [cst_g g1]
    by_cases g2 : φ.2.1 = 0
    · have e3 := (hp.2 g2).2
      rw [cst_g g2]; omega
    · rw [cst_b g2]; omega
  · rw [cst_b g1, cst_b (fun z => g1 (hp.2 z).1)]; omega
section PXE
variable {fb : Nat → Int32} {L f dp : Nat} {σ : PS}
theorem px_1 (hf : 0 < f) : px fb L f 1 dp σ = ((px fb L (f - 1) 3 dp (px fb L (f - 1) 0 dp σ).1).1, (px fb L (f - 1) 0 dp σ).2 ++ (px fb L (f - 1) 3 dp (px fb L (f - 1) 0 dp σ).1).2) := by
  obtain ⟨f, rfl⟩ : ∃ g, f = g + 1 := ⟨f - 1, by omega⟩
  simp only [px, Nat.add_sub_cancel]
theorem px_2 (hf : 0 < f) : px fb L f 2 dp σ = ((px fb L (f - 1) 4 dp (px fb L (f - 1) 1 dp σ).1).1, (px fb L (f - 1) 1 dp σ).2 ++ (px fb L (f - 1) 4 dp (px fb L (f - 1) 1 dp σ).1).2) := by
  obtain ⟨f, rfl⟩ : ∃ g, f = g + 1 := ⟨f - 1, by omega⟩
  simp only [px, Nat.add_sub_cancel]
theorem px_3n (hf : 0 < f) (h0 : σ.2.1 = 0) (h : ¬ (byt fb L (sk fb L σ.1) = 42 ∨ byt fb L (sk fb L σ.1) = 47)) : px fb L f 3 dp σ = ((sk fb L σ.1, σ.2), []) := by
  obtain ⟨f, rfl⟩ : ∃ g, f = g + 1 := ⟨f - 1, by omega⟩
  simp only [px, ifp_t h0, ifp_f h]
theorem px_4n (hf : 0 < f) (h0 : σ.2.1 = 0) (h : ¬ (byt fb L (sk fb L σ.1) = 43 ∨ byt fb L (sk fb L σ.1) = 45)) : px fb L f 4 dp σ = ((sk fb L σ.1, σ.2), []) := by
  obtain ⟨f, rfl⟩ : ∃ g, f = g + 1 := ⟨f - 1, by omega⟩
  simp only [px, ifp_t h0, ifp_f h]
theorem px_3y (hf : 0 < f) (h0 : σ.2.1 = 0) (h : byt fb L (sk fb L σ.1) = 42 ∨ byt fb L (sk fb L σ.1) = 47) : (px fb L f 3 dp σ).1 = (px fb L (f - 1) 3 dp (px fb L (f - 1) 0 dp (sk fb L σ.1 + 1, σ.2)).1).1 ∧ ((px fb L (f - 1) 0 dp (sk fb L σ.1 + 1, σ.2)).1.2.1 = 0 → (px fb L f 3 dp σ).2 = ((px fb L (f - 1) 0 dp (sk fb L σ.1 + 1, σ.2)).2 ++ [ifp (byt fb L (sk fb L σ.1) = 42) 4 5]) ++ (px fb L (f - 1) 3 dp (px fb L (f - 1) 0 dp (sk fb L σ.1 + 1, σ.2)).1).2) := by
  obtain ⟨f, rfl⟩ : ∃ g, f = g + 1 := ⟨f - 1, by omega⟩
  simp only [px, ifp_t h0, ifp_t h, Nat.add_sub_cancel]
  exact ⟨trivial, fun z => by rw [ifp_t z]⟩
theorem px_4y (hf : 0 < f) (h0 : σ.2.1 = 0) (h : byt fb L (sk fb L σ.1) = 43 ∨ byt fb L (sk fb L σ.1) = 45) : (px fb L f 4 dp σ).1 = (px fb L (f - 1) 4 dp (px fb L (f - 1) 1 dp (sk fb L σ.1 + 1, σ.2)).1).1 ∧ ((px fb L (f - 1) 1 dp (sk fb L σ.1 + 1, σ.2)).1.2.1 = 0 → (px fb L f 4 dp σ).2 = ((px fb L (f - 1) 1 dp (sk fb L σ.1 + 1, σ.2)).2 ++ [ifp (byt fb L (sk fb L σ.1) = 43) 2 3]) ++ (px fb L (f - 1) 4 dp (px fb L (f - 1) 1 dp (sk fb L σ.1 + 1, σ.2)).1).2) := by
  obtain ⟨f, rfl⟩ : ∃ g, f = g + 1 := ⟨f - 1, by omega⟩
  simp only [px, ifp_t h0, ifp_t h, Nat.add_sub_cancel]
  exact ⟨trivial, fun z => by rw [ifp_t z]⟩
theorem px_0p (hf : 0 < f) (h0 : σ.2.1 = 0) (h : byt fb L (sk fb L σ.1) = 40) (h4 : ¬ dp = 4) : px fb L f 0 dp σ = (exS fb L 41 (px fb L (f - 1) 2 (dp + 1) (sk fb L σ.1 + 1, σ.2)).1, (px fb L (f - 1) 2 (dp + 1) (sk fb L σ.1 + 1, σ.2)).2) := by
  obtain ⟨f, rfl⟩ : ∃ g, f = g + 1 := ⟨f - 1, by omega⟩
  simp only [px, ifp_t h0, ifp_t h, ifp_f h4, Nat.add_sub_cancel]
theorem px_0d (hf : 0 < f) (h0 : σ.2.1 = 0) (h : byt fb L (sk fb L σ.1) = 40) (h4 : dp = 4) : px fb L f 0 dp σ = ((sk fb L σ.1 + 1, -5, nI (sk fb L σ.1), σ.2.2.2), []) := by
  obtain ⟨f, rfl⟩ : ∃ g, f = g + 1 := ⟨f - 1, by omega⟩
  simp only [px, ifp_t h0, ifp_t h, ifp_t h4]
theorem px_0l (hf : 0 < f) (h0 : σ.2.1 = 0) (h : ¬ byt fb L (sk fb L σ.1) = 40) (hd : dig (byt fb L (sk fb L σ.1))) : px fb L f 0 dp σ = litS fb L (sk fb L σ.1, σ.2) := by
  obtain ⟨f, rfl⟩ : ∃ g, f = g + 1 := ⟨f - 1, by omega⟩
  simp only [px, ifp_t h0, ifp_f h, ifp_t hd]
theorem px_00 (hf : 0 < f) (h0 : σ.2.1 = 0) (h : ¬ byt fb L (sk fb L σ.1) = 40) (hd : ¬ dig (byt fb L (sk fb L σ.1))) (t0 : TW fb L 0 (sk fb L σ.1, σ.2)) : px fb L f 0 dp σ = (TS fb L 0 (sk fb L σ.1, σ.2), [1, 0]) := by
  obtain ⟨f, rfl⟩ : ∃ g, f = g + 1 := ⟨f - 1, by omega⟩
  simp only [px, ifp_t h0, ifp_f h, ifp_f hd, ifp_t t0]
theorem px_01 (hf : 0 < f) (h0 : σ.2.1 = 0) (h : ¬ byt fb L (sk fb L σ.1) = 40) (hd : ¬ dig (byt fb L (sk fb L σ.1))) (t0 : ¬ TW fb L 0 (sk fb L σ.1, σ.2)) (t1 : TW fb L 1 (sk fb L σ.1, σ.2)) : px fb L f 0 dp σ = (TS fb L 1 (sk fb L σ.1, σ.2), [1, 1]) := by
  obtain ⟨f, rfl⟩ : ∃ g, f = g + 1 := ⟨f - 1, by omega⟩
  simp only [px, ifp_t h0, ifp_f h, ifp_f hd, ifp_f t0, ifp_t t1]
theorem px_02 (hf : 0 < f) (h0 : σ.2.1 = 0) (h : ¬ byt fb L (sk fb L σ.1) = 40) (hd : ¬ dig (byt fb L (sk fb L σ.1))) (t0 : ¬ TW fb L 0 (sk fb L σ.1, σ.2)) (t1 : ¬ TW fb L 1 (sk fb L σ.1, σ.2)) (t2 : TW fb L 2 (sk fb L σ.1, σ.2)) : px fb L f 0 dp σ = (TS fb L 2 (sk fb L σ.1, σ.2), [1, 2]) := by
  obtain ⟨f, rfl⟩ : ∃ g, f = g + 1 := ⟨f - 1, by omega⟩
  simp only [px, ifp_t h0, ifp_f h, ifp_f hd, ifp_f t0, ifp_f t1, ifp_t t2]
theorem px_0n (hf : 0 < f) (hp : σ.1 ≤ L) (h0 : σ.2.1 = 0) (h : ¬ byt fb L (sk fb L σ.1) = 40) (hd : ¬ dig (byt fb L (sk fb L σ.1))) (t0 : ¬ TW fb L 0 (sk fb L σ.1, σ.2)) (t1 : ¬ TW fb L 1 (sk fb L σ.1, σ.2)) (t2 : ¬ TW fb L 2 (sk fb L σ.1, σ.2)) : (px fb L f 0 dp σ).1 = (sk fb L σ.1, -2, nI (sk fb L σ.1), σ.2.2.2) := by
  obtain ⟨f, rfl⟩ : ∃ g, f = g + 1 := ⟨f - 1, by omega⟩
  simp only [px, ifp_t h0, ifp_f h, ifp_f hd, ifp_f t0, ifp_f t1, ifp_f t2]
  show (nmS fb L 0 9999 (sk fb L σ.1, σ.2)).2 = _
  have e := sk_sk (fb := fb) hp
  have hd2 : ¬ dig (byt fb L (sk fb L (sk fb L σ.1, σ.2).1)) := by show ¬ dig (byt fb L (sk fb L (sk fb L σ.1))); rw [e]; exact hd
  rw [nm_nd (σ := (sk fb L σ.1, σ.2)) h0 hd2]
  show (sk fb L (sk fb L σ.1), (-2 : Int32), nI (sk fb L (sk fb L σ.1)), σ.2.2.2) = _
  rw [e]
end PXE
/-- hashes of words -/
theorem hsh_cg {f g : Nat → Int32} : ∀ {n : Nat}, (∀ j, j < n → f j = g j) → hsh f n = hsh g n
  | 0, _ => rfl
  | n + 1, h => by
    show 31 * hsh f n + (f n &&& 255) = 31 * hsh g n + (g n &&& 255)
    rw [hsh_cg (fun j hj => h j (by omega)), h n (by omega)]
theorem tw_hsh {fb : Nat → Int32} {L x n ix : Nat} {f : Nat → Int32} (hix : ix < 9) (hw : wdB fb L x n f) (h : twP fb L (mLen ix) (wd ix) x) : n = mLen ix ∧ hsh f n = hsh (fun j => (mBy ix).getD j 0) (mLen ix) := by
  have h2 : n = mLen ix ∧ ∀ j, j < n → f j = (mBy ix).getD j 0 := by rw [eq_tw hix hw]; exact h
  exact ⟨h2.1, by rw [hsh_cg h2.2, h2.1]⟩
theorem hw_0 : hsh (fun j => (mBy 0).getD j 0) (mLen 0) = -1413853096 := by decide
theorem hw_1 : hsh (fun j => (mBy 1).getD j 0) (mLen 1) = 3076183 := by decide
theorem hw_2 : hsh (fun j => (mBy 2).getD j 0) (mLen 2) = -1294635157 := by decide
theorem hw_6 : hsh (fun j => (mBy 6).getD j 0) (mLen 6) = 1091905624 := by decide
theorem hw_7 : hsh (fun j => (mBy 7).getD j 0) (mLen 7) = -1352291591 := by decide
theorem hw_8 : hsh (fun j => (mBy 8).getD j 0) (mLen 8) = 101254 := by decide
theorem i32_ne {v w : Int32} {z : Int} (hz : w.toInt = z) (h : ¬ v = w) : ¬ z = v.toInt := fun e => h (Int32.toInt_inj.mp (e.symm.trans hz.symm))
theorem lk_fac (v : Int32) : (v = -1413853096 ∧ Op.lookupswitch.offset [(-1413853096, 34), (-1294635157, 64), (3076183, 49)] 76 v.toInt = 34) ∨ (v = 3076183 ∧ Op.lookupswitch.offset [(-1413853096, 34), (-1294635157, 64), (3076183, 49)] 76 v.toInt = 49) ∨ (v = -1294635157 ∧ Op.lookupswitch.offset [(-1413853096, 34), (-1294635157, 64), (3076183, 49)] 76 v.toInt = 64) ∨ ((¬ v = -1413853096 ∧ ¬ v = 3076183 ∧ ¬ v = -1294635157) ∧ Op.lookupswitch.offset [(-1413853096, 34), (-1294635157, 64), (3076183, 49)] 76 v.toInt = 76) := by
  by_cases h1 : v = -1413853096
  · exact Or.inl ⟨h1, by rw [h1]; decide⟩
  by_cases h2 : v = 3076183
  · exact Or.inr (Or.inl ⟨h2, by rw [h2]; decide⟩)
  by_cases h3 : v = -1294635157
  · exact Or.inr (Or.inr (Or.inl ⟨h3, by rw [h3]; decide⟩))
  refine Or.inr (Or.inr (Or.inr ⟨⟨h1, h2, h3⟩, ?_⟩))
  have g1 := i32_ne (z := -1413853096) (by decide) h1
  have g2 := i32_ne (z := 3076183) (by decide) h2
  have g3 := i32_ne (z := -1294635157) (by decide) h3
  simp [Op.lookupswitch.offset, g1, g2, g3]
theorem lk_st (v : Int32) : (v = 1091905624 ∧ Op.lookupswitch.offset [(-1352291591, 51), (101254, 66), (1091905624, 36)] 78 v.toInt = 36) ∨ (v = -1352291591 ∧ Op.lookupswitch.offset [(-1352291591, 51), (101254, 66), (1091905624, 36)] 78 v.toInt = 51) ∨ (v = 101254 ∧ Op.lookupswitch.offset [(-1352291591, 51), (101254, 66), (1091905624, 36)] 78 v.toInt = 66) ∨ ((¬ v = 1091905624 ∧ ¬ v = -1352291591 ∧ ¬ v = 101254) ∧ Op.lookupswitch.offset [(-1352291591, 51), (101254, 66), (1091905624, 36)] 78 v.toInt = 78) := by
  by_cases h1 : v = 1091905624
  · exact Or.inl ⟨h1, by rw [h1]; decide⟩
  by_cases h2 : v = -1352291591
  · exact Or.inr (Or.inl ⟨h2, by rw [h2]; decide⟩)
  by_cases h3 : v = 101254
  · exact Or.inr (Or.inr (Or.inl ⟨h3, by rw [h3]; decide⟩))
  refine Or.inr (Or.inr (Or.inr ⟨⟨h1, h2, h3⟩, ?_⟩))
  have g1 := i32_ne (z := 1091905624) (by decide) h1
  have g2 := i32_ne (z := -1352291591) (by decide) h2
  have g3 := i32_ne (z := 101254) (by decide) h3
  simp [Op.lookupswitch.offset, g1, g2, g3]
