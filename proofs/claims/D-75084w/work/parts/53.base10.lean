/-! BASE, part 10: methods that answer or throw; old cells stay as they were (oM) -/
set_option maxRecDepth 100000
def oQ (P : Prop) (v : Option Value) : Array Value → State → Outcome → State → Prop := fun a st o t => P ∧ gQ v a st o t
def oX (thr : String → Prop) : String → Addr → State → State → Prop := fun E _ st t => thr E ∧ va_F (fun _ => False) st t
abbrev oM (l : Launch) (D : va_G) (k : Nat → ClassId) (y : MethodName) (cc : ByteArray) (nL : Nat) (ret : Option FieldType) (fr lo nc ns : Nat) (av : List Value) (Ph : State → Prop) (P : Prop) (v : Option Value) (thr : String → Prop) : Prop :=
  vy_Met l y (ws_ y cc nL ret) (Rm fr lo nc ns) (sP D k av Ph) (oQ P v) (oX thr) nc ns (fun _ => False)
theorem oM_of {l : Launch} {D : va_G} {k : Nat → ClassId} {y : MethodName} {cc : ByteArray} {nL : Nat} {ret : Option FieldType} {fr lo nc ns : Nat} {av : List Value} {Ph : State → Prop} {P : Prop} {v : Option Value} {thr : String → Prop} (hy : plainName y.cls = true) (hn : (lg_sl av).length ≤ nL)
    (body : ∀ (p : Program) (e : Env) (s : State) (m : MethodId) (below : List Frame) (meth : Method) (c : Code) (ls : Array Slot), Cx p s m meth c cc nL ret y.cls av.toArray → (∀ x ∈ c.exceptionTable.toList, False) → KA D k s → Ph s → va_S (fun q => s.heap.size ≤ q) s.heap s.heap [] → lv_has ls nL (lv_args 0 av) → W p l e (Rm fr lo nc ns) s m av.toArray below meth c s.heap [] 0 0 (vy_MQ below (oQ P v) (oX thr) av.toArray s nc ns (fun _ => False)) (F0 m 0 ls [])) : oM l D k y cc nL ret fr lo nc ns av Ph P v thr := by
  refine vy_ofW (cc := cc) (maxL := nL) (ret := ret) hy rfl ?_
  intro p e s m args below meth c s₁ B hml ht hv
  obtain ⟨rfl, hP, hK⟩ := hv
  have hts := atoms_spec (ws := ws_ y cc nL ret) B.pre
  have hts : ∀ w ∈ lw_all, w.before _ s = true := fun w h => hts w (List.mem_cons_of_mem _ h)
  have hown : s.vm.findClass y.cls = some m.cls := findClass_of_methodNamed B.named
  rw [lg_entry_eq]
  exact body p e s m below meth c _ ⟨B.exec, B.bytes, B.returns, hml, hown, hts, B.notSynchronized⟩ ht hK hP va_S.rf (lv_entry av hn)
section ROWS10
variable {p : Program} {l : Launch} {e : Env} {R : Room} {s : State} {m : MethodId} {args : Array Value} {below : List Frame} {meth : Method} {c : Code} {H : Heap} {locs : List Loc} {cells slots : Nat} {Q : State → Prop}
variable {cc : ByteArray} {nL : Nat} {ret : Option FieldType} {own : String} {pc : Nat} {ls : Array Slot} {rest st0 : List Value} {D : va_G} {k : Nat → ClassId} {A : Nat → Prop} {ws : va_W} {H0 : Heap} {nc ns : Nat} {P : Prop} {XC : String → Addr → State → State → Prop} {thr : String → Prop}
theorem S_nil {A : Nat → Prop} {H0 H : Heap} {locs : List Loc} (h : va_S A H0 H locs) : va_S A H0 H [] := ⟨h.1, h.2.1, fun _ z => by cases z⟩
theorem vy_forget {q : Addr} {g : JFrame} (hS : va_S (fun q => s.heap.size ≤ q) s.heap H locs) (kk : vy_W p l e R s m args below meth c H [] cells slots Q g q) : vy_W p l e R s m args below meth c H locs cells slots Q g q := fun T hT X => kk T hT (Stand.forget X hS.2.2)
theorem o_iret {v x : Int32} (C : Cx p s m meth c cc nL (some .int) own args) (hp : P) (hv : x = v) (hS : va_S (fun q => s.heap.size ≤ q) s.heap H locs) (hc : cells ≤ nc) (hs : slots ≤ ns) (hdg : decode cc pc = .ok (.ireturn, 1)) : W p l e R s m args below meth c H locs cells slots (vy_MQ below (oQ P (some (.int v))) XC args s nc ns (fun _ => False)) (F0 m pc ls [.int x]) := by
  subst hv
  refine vy_ret (g_forget hS (W_more hc hs ?_))
  exact W.iret C.1 C.2.1 C.2.2.1 (fun t ht _ => ⟨hp, rfl, vaF_fresh hS ht⟩) (fun q h => by cases h) hdg C.2.2.2.2.2.2
theorem o_zret {B : Prop} {x : Int32} (C : Cx p s m meth c cc nL (some .boolean) own args) (hp : P) (hv : x = bI B) (hS : va_S (fun q => s.heap.size ≤ q) s.heap H locs) (hc : cells ≤ nc) (hs : slots ≤ ns) (hdg : decode cc pc = .ok (.ireturn, 1)) : W p l e R s m args below meth c H locs cells slots (vy_MQ below (oQ P (some (.int (bI B)))) XC args s nc ns (fun _ => False)) (F0 m pc ls [.int x]) := by
  subst hv
  refine vy_ret (g_forget hS (W_more hc hs ?_))
  exact W.zret C.1 C.2.1 C.2.2.1 bI_nar (fun t ht _ => ⟨hp, rfl, vaF_fresh hS ht⟩) (fun q h => by cases h) hdg C.2.2.2.2.2.2
theorem o_lret {v x : Int64} (C : Cx p s m meth c cc nL (some .long) own args) (hp : P) (hv : x = v) (hS : va_S (fun q => s.heap.size ≤ q) s.heap H locs) (hc : cells ≤ nc) (hs : slots ≤ ns) (hdg : decode cc pc = .ok (.lreturn, 1)) : W p l e R s m args below meth c H locs cells slots (vy_MQ below (oQ P (some (.long v))) XC args s nc ns (fun _ => False)) (F0 m pc ls [.long x]) := by
  subst hv
  refine vy_ret (g_forget hS (W_more hc hs ?_))
  exact W.lret C.1 C.2.1 C.2.2.1 (fun t ht _ => ⟨hp, rfl, vaF_fresh hS ht⟩) (fun q h => by cases h) hdg C.2.2.2.2.2.2
theorem o_vret (C : Cx p s m meth c cc nL none own args) (hp : P) (hS : va_S (fun q => s.heap.size ≤ q) s.heap H locs) (hc : cells ≤ nc) (hs : slots ≤ ns) (hdg : decode cc pc = .ok (.return_, 1)) : W p l e R s m args below meth c H locs cells slots (vy_MQ below (oQ P none) XC args s nc ns (fun _ => False)) (F0 m pc ls []) := by
  refine vy_ret (g_forget hS (W_more hc hs ?_))
  exact W.vret C.1 C.2.1 C.2.2.1 (fun t ht _ => ⟨hp, rfl, vaF_fresh hS ht⟩) (fun q h => by cases h) hdg C.2.2.2.2.2.2
theorem o_aret {a b : Nat} {rt : FieldType} (C : Cx p s m meth c cc nL (some rt) own args) (hrt : (∃ n, rt = .object n) ∨ ∃ t, rt = .array t) (hp : P) (hv : a = b) (hS : va_S (fun q => s.heap.size ≤ q) s.heap H locs) (hc : cells ≤ nc) (hs : slots ≤ ns) (hdg : decode cc pc = .ok (.areturn, 1)) : W p l e R s m args below meth c H locs cells slots (vy_MQ below (oQ P (some (.ref b))) XC args s nc ns (fun _ => False)) (F0 m pc ls [.ref a]) := by
  subst hv
  refine vy_ret (g_forget hS (W_more hc hs ?_))
  exact W.aret C.1 C.2.1 C.2.2.1 hrt (Or.inr ⟨a, rfl⟩) (fun t ht _ => ⟨hp, rfl, vaF_fresh hS ht⟩) (fun q h => by cases h) hdg C.2.2.2.2.2.2
theorem o_after {mc ms : Nat} {v : Option Value} {a0 : Array Value} (hr : vy_Run p l e R s m args below meth c H locs cells slots mc ms (F0 m pc ls st0) rest (oQ P v a0) (oX thr) (fun _ => False)) (hS : va_S A H0 H locs)
    (kx : ∀ (E : String) (ce : Cell) (q9 : Addr) (H1 : Heap), thr E → va_S A H0 H1 locs → (∀ q : Nat, q < H.size → H1[q]? = H[q]?) → H1[q9]? = some ce → ce.vm = .none → s.vm.findClass E = some ce.cls → vy_W p l e R s m args below meth c H1 locs (cells + mc) (slots + ms) Q (F0 m pc ls rest) q9)
    (kk : ∀ H1 : Heap, P → va_S A H0 H1 locs → H.size ≤ H1.size → (∀ q : Nat, q < H.size → H1[q]? = H[q]?) → W p l e R s m args below meth c H1 locs (cells + mc) (slots + ms) Q (F0 m (pc + 3) ls (v.toList ++ rest))) : W p l e R s m args below meth c H locs cells slots Q (F0 m pc ls st0) := by
  intro T hT X
  rcases hr T hT X with ⟨v', st₀, t, T', L, h0, X', hL, e1, e2, ⟨hp, hv, hz, hk⟩, st⟩ | ⟨q, st₀, t, T', L, E, ce, h0, X', hL, e1, e2, ⟨hth, hz, hk⟩, hce, hcv, hcl, st⟩
  · cases hv
    rw [h0] at hz hk
    rw [← e1] at hz hk
    obtain ⟨t2, a1, b1⟩ := kk T'.heap hp ⟨Nat.le_trans hS.1 hz, fun q h1 h2 => (hk q (Nat.lt_of_lt_of_le h1 hS.1) (fun z => z)).trans (hS.2.1 q h1 h2), hS.2.2⟩ hz (fun q hq => hk q hq (fun z => z)) T' rfl (Stand.forget X' (fun q h => (hL q h).elim))
    exact ⟨t2, st t2 a1, b1⟩
  · rw [h0] at hz hk
    rw [← e1] at hz hk hce
    obtain ⟨t2, a1, b1⟩ := kx E ce q T'.heap hth ⟨Nat.le_trans hS.1 hz, fun q h1 h2 => (hk q (Nat.lt_of_lt_of_le h1 hS.1) (fun z => z)).trans (hS.2.1 q h1 h2), hS.2.2⟩ (fun q hq => hk q hq (fun z => z)) hce hcv hcl T' rfl (Stand.forget X' (fun q h => (hL q h).elim))
    exact ⟨t2, st.trans a1, b1⟩
/-- not caught here: it goes on to the caller -/
theorem o_out {E : String} {ce : Cell} {q : Addr} {Qc : Array Value → State → Outcome → State → Prop} (hout : ∀ x ∈ c.exceptionTable.toList, False) (hlk : meth.locks = false) (hth : thr E) (hS : va_S (fun q => s.heap.size ≤ q) s.heap H locs) (hcell : H[q]? = some ce) (hv : ce.vm = .none) (hcl : s.vm.findClass E = some ce.cls) (hc : cells ≤ nc) (hs : slots ≤ ns) :
    vy_W p l e R s m args below meth c H locs cells slots (vy_MQ below Qc (oX thr) args s nc ns (fun _ => False)) (F0 m pc ls rest) q :=
  vy_forget hS (vy_out (fun x hx => (hout x hx).elim) hlk hcell hv hcl (fun t ht _ => ⟨hth, vaF_fresh hS ht⟩) (fun z h => by cases h) hc hs)
end ROWS10
/-- words one by one -/
theorem fc {P : Cond → Prop} {w : Cond} {B : List Cond} (h : P w) (t : ∀ x ∈ B, P x) : ∀ x ∈ w :: B, P x := fun x hx => (List.mem_cons.mp hx).elim (fun e => e ▸ h) (t x)
theorem fn0 {P : Cond → Prop} : ∀ x ∈ ([] : List Cond), P x := fun _ h => nomatch h
theorem at0_of {own : String} {ic : Nat} {X : String} {names : List String} {args : Array Value} {s : State} (h : ∀ w ∈ Bundle.ownAtoms0 own ic X names, vy_no w = true → w.before args s = true) : ∀ w ∈ vy_at0 own ic X names, w.before args s = true := fun w hw => h w (List.mem_filter.mp hw).1 (List.mem_filter.mp hw).2
