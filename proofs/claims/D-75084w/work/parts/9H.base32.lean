/-! BASE, part 32: load: contracts with a word of the tables, the new desk -/
set_option maxRecDepth 100000
abbrev uMV (l : Launch) (D : va_G) (k : Nat → ClassId) (y : MethodName) (cc : ByteArray) (nL : Nat) (ret : Option FieldType) (hh : List (Nat × Nat × Nat × Nat)) (fr lo nc ns : Nat) (av : List Value) (g : Nat → Nat) (ws0 : va_W) (P : Heap → Prop) (N : State → Prop) {X : Type} (v : X → Option Value) (B : X → Heap → Prop) (ws1 : X → va_W) (thr : String → Addr → Heap → Prop) : Prop :=
  vy_Met l y (wsW_ y cc nL ret hh) (Rm fr lo nc ns) (sP D k av (fun U => jPre D g ws0 P U ∧ N U)) (jQ D v B ws1 (inL ws0)) (uX thr (inL ws0)) nc ns (inL ws0)
theorem uMV_of {l : Launch} {D : va_G} {k : Nat → ClassId} {y : MethodName} {cc : ByteArray} {nL : Nat} {ret : Option FieldType} {hh : List (Nat × Nat × Nat × Nat)} {fr lo nc ns : Nat} {av : List Value} {g : Nat → Nat} {ws0 : va_W} {P : Heap → Prop} {N : State → Prop} {X : Type} {v : X → Option Value} {B : X → Heap → Prop} {ws1 : X → va_W} {thr : String → Addr → Heap → Prop} (hy : plainName y.cls = true) (hn : (lg_sl av).length ≤ nL)
    (body : ∀ (p : Program) (e : Env) (s : State) (m : MethodId) (below : List Frame) (meth : Method) (c : Code) (ls : Array Slot) (A : Nat → Prop), A = NA (inL ws0) s.heap → Cx p s m meth c cc nL ret y.cls av.toArray → c.exceptionTable.toList = tableOf hh → N s → meth.name = y.name → s.methodNamed? y = some m → KA D k s → va_P D clA ws0 s.heap → va_D A ws0 → (∀ q, s.heap.size ≤ q → A q) → (∀ q, A q → g 0 ≤ q) → P s.heap → KX g s → va_S A s.heap s.heap [] → lv_has ls nL (lv_args 0 av) → W p l e (Rm fr lo nc ns) s m av.toArray below meth c s.heap [] 0 0 (vy_MQ below (jQ D v B ws1 (inL ws0)) (uX thr (inL ws0)) av.toArray s nc ns (inL ws0)) (F0 m 0 ls [])) : uMV l D k y cc nL ret hh fr lo nc ns av g ws0 P N v B ws1 thr := by
  refine vy_ofWH (cc := cc) (maxL := nL) (ret := ret) (hh := hh) hy rfl ?_
  intro p e s m args below meth c s₁ B hml hv
  obtain ⟨rfl, ⟨⟨hP, ⟨hnd, hge⟩, hPh, hX⟩, hNs⟩, hK⟩ := hv
  have hts0 := atoms_spec (ws := wsW_ y cc nL ret hh) B.pre
  have ht := vy_table (x := y) B (hts0 _ List.mem_cons_self)
  have hts : ∀ w ∈ lw_all, w.before _ s = true := fun w h => hts0 w (List.mem_cons_of_mem _ h)
  have hown : s.vm.findClass y.cls = some m.cls := findClass_of_methodNamed B.named
  rw [lg_entry_eq]
  exact body p e s m below meth c _ _ rfl ⟨B.exec, B.bytes, B.returns, hml, hown, hts, B.notSynchronized⟩ ht hNs (name_of_methodNamed B.named B.method).1 B.named hK hP (NA_start (g := g) hnd) (fun q h => Or.inr h) (NA_g hge hX) hPh hX va_S.rf (lv_entry av hn)
def Nc98 (U : State) : Prop := va_Nc RX9 RX8 U
theorem mv2_Nc98 : mv2 Nc98 := fun u U _ a q => va_Nc.moved (a ▸ Vm.Alike.refl u.vm) q
/-- a call through the name of an abstract method -/
theorem va_cwD {R : Room} {s : State} {args : Array Value} {own C owner : String} {index maxL mc ms : Nat} {x y : MethodName} {bytes : ByteArray} {ret : Option FieldType} {ws ws' : List Cond} {rm : Room} (n : Nat) (hts : ∀ w ∈ lw_all, w.before args s = true) (h1 : Cond.methodLink own index x ∈ lw_all) (h2 : Cond.sameMethod x.cls owner x.name x.desc ∈ lw_all) (h3 : Cond.selects C x y ∈ lw_all) (h4 : Cond.instanceMethod y ∈ lw_all) (h5 : Cond.initialized y.cls ∈ lw_all) (hG : GoodIn lw_all ws) (hw : ws = Cond.code y bytes maxL ret :: ws') (hrc : rm.cells = mc) (hrs : rm.slots = ms)
    (hde : (Cond.declares ⟨owner, x.name, x.desc⟩).before args s = true) (hd : owner ≠ "java/lang/invoke/MethodHandle" ∧ owner ≠ "java/lang/invoke/VarHandle" ∧ (parseMethodDescriptor x.desc).map (fun d => d.parameters.length) = some n) (hR : rm.frames + 1 ≤ R.frames ∧ 8 + (maxL + 11) + rm.locals ≤ R.locals) : va_CU R s args own C owner index x y bytes maxL ret ws rm mc ms n := by
  have hc : Cond.code y bytes maxL ret ∈ ws := by rw [hw]; exact List.mem_cons_self
  refine ⟨⟨hrc, hrs, hR.1, hR.2, pay_in hts hG, hc⟩, hts _ (hG _ hc).1, hts _ h5, ⟨hd.1, hd.2.1⟩, fun sig h => ?_, hts _ h1, hts _ h2, Cond.declares_spec hde, hts _ h3, hts _ h4⟩
  have h2 := hd.2.2
  rw [h] at h2
  exact (Option.some.inj h2).symm
theorem P_rest {D : va_G} {A : Nat → Prop} {w1 w2 : va_W} {H H1 : Heap} (hP : va_P D clA (w1 ++ w2) H) (hD : va_D A (w1 ++ w2)) (hk : ∀ q : Nat, q < H.size → ¬ inL w1 q → H1[q]? = H[q]?) : va_P D clA w2 H1 := (P_app2 hP).kept (fun i q hi => hk q.1 (P_app2 hP i q hi).lt (D_apart hD (List.mem_of_getElem? hi)))
theorem KL_lt {g : Nat → Nat} {U : State} (h : KX g U) : g 1 < g 0 := by
  obtain ⟨-, h2⟩ := h.kl
  have h3 : ¬ G0 g (g 1) := by
    unfold va_T at h2
    obtain ⟨_, _, _, _, _, h9⟩ := h2
    first | exact h9 | exact h9.1 | exact h9.2 | exact h9.2.2 | exact h9.2.1
  exact Nat.not_le.mp h3
theorem fe_no {g : Nat → Nat} {U : State} {lo n : Nat} {F : FeF} {z : Nat} {H : Heap} {Lv : List Nat} (h : KX g U) (hF : feW g lo n F z H) (h1 : ∀ q ∈ Lv, g 0 ≤ q) (h2 : ∀ q ∈ Lv, q < lo) : z ∉ Lv := by
  obtain ⟨a1, a2, a3, a4⟩ := h.ls.1
  have key : z < g 0 ∨ lo ≤ z := by
    have hL : feWL g lo F z H → z < g 0 ∨ lo ≤ z := by
      intro q
      rcases q with ⟨q, -⟩ | ⟨q, -⟩ | ⟨q, -⟩ | ⟨q, -⟩ | ⟨q, -⟩
      · exact Or.inl (by rw [q]; exact a1)
      · exact Or.inl (by rw [q]; exact a2)
      · exact Or.inl (by rw [q]; exact a3)
      · exact Or.inl (by rw [q]; exact a4)
      · exact Or.inr q
    cases n with
    | zero => exact hL hF
    | succ n =>
      rcases hF with q | ⟨q, -⟩
      · exact hL q
      · exact Or.inr q
  intro hz
  have := h1 z hz
  have := h2 z hz
  omega
theorem ld_fin {D : va_G} {k : Nat → ClassId} {g : Nat → Nat} {H : Heap} {d hf1 : Nat → Int32} {se : Int32} {ds ca ha b1 l1 el1 n1 mm1 b2 l2 fe1 : Nat} {ad1 : Nat → Nat} {sg1 : va_W} {Lv : List Nat}
    (hP : va_P D clA [(ds, .inr (2, [.ref ca, .ref b1, .ref b2, .ref fe1, .int 0])), (ca, .inr (3, [.ref ha, .int (d 2)])), (ha, .inl (k 0, 16, .inl hf1)), (b1, .inr (4, [.ref l1, .int 12])), (l1, .inr (12, [.int (nI mm1), .ref el1, .int (nI (dN d 0))])), (b2, .inr (4, [.ref l2, .int 24])), (l2, .inr (12, [.int (nI 0), .ref (g 1), .int 0]))] H)
    (hPs : va_P D clA sg1 H) (hsg : sg1 = sgW k d ad1 el1 n1 (dN d 0)) (hho : hoR d hf1) (hDr : Dr d se) (hcap : dN d 0 ≤ n1 ∧ n1 ≤ 40000) (hel : dN d 0 = 0 → el1 = g 1 ∧ n1 = 0)
    (hnew : ∀ q ∈ [ds, ca, ha, b1, l1, b2, l2], q ∉ Lv) (hnews : ∀ q, inL sg1 q → q ∉ Lv) (hg1 : g 1 ∉ Lv) (hfe : fe1 ∉ Lv) :
    dk D k (mkz ds ca ha b1 l1 el1 b2 l2 (g 1) fe1 n1 0 mm1 0 ad1 (fun _ => 0)) hf1 d H ∧ dkE Lv (mkz ds ca ha b1 l1 el1 b2 l2 (g 1) fe1 n1 0 mm1 0 ad1 (fun _ => 0)) d ∧ dkN g (mkz ds ca ha b1 l1 el1 b2 l2 (g 1) fe1 n1 0 mm1 0 ad1 (fun _ => 0)) hf1 d := by
  have h12 := hDr.1.1.1.2
  have d1 : dN d 1 = 0 := dN_0 hDr.2.1
  have d3 : d 3 = 0 := hDr.2.2.1
  have hel5 : 0 < dN d 0 → va_P D clA [(el1, .inl (k 3, n1, .inr (.inr (.inr (.inr (rfs (dN d 0) ad1))))))] H ∧ va_P D clA (crV d ad1 (dN d 0)) H := by
    intro h0
    obtain ⟨c, hc⟩ : ∃ c, dN d 0 = c + 1 := ⟨dN d 0 - 1, by omega⟩
    rw [hsg, hc] at hPs
    rw [hc]
    exact ⟨va_cons (hPs 0 _ rfl) va_nil, P_tl (x := (el1, .inl (k 3, n1, .inr (.inr (.inr (.inr (rfs (c + 1) ad1))))))) hPs⟩
  have hel6 : el1 ∉ Lv := by
    rcases Nat.eq_zero_or_pos (dN d 0) with h0 | h0
    · rw [(hel h0).1]; exact hg1
    · obtain ⟨c, hc⟩ : ∃ c, dN d 0 = c + 1 := ⟨dN d 0 - 1, by omega⟩
      exact hnews el1 (by rw [hsg, hc]; exact List.mem_cons_self)
  have had : ∀ j, j < dN d 0 → ad1 j ∉ Lv := by
    intro j hj
    refine hnews (ad1 j) ?_
    obtain ⟨c, hc⟩ : ∃ c, dN d 0 = c + 1 := ⟨dN d 0 - 1, by omega⟩
    rw [hsg, hc]
    have key : ∀ c j, j < c → ad1 j ∈ (crV d ad1 c).map Prod.fst := by
      intro c
      induction c with
      | zero => intro j hj; omega
      | succ c ih =>
        intro j hj
        show ad1 j ∈ ad1 c :: (crV d ad1 c).map Prod.fst
        by_cases e : j = c
        · rw [e]; exact List.mem_cons_self
        · exact List.mem_cons_of_mem _ (ih j (by omega))
    exact List.mem_cons_of_mem _ (key (c + 1) j (by omega))
  refine ⟨?_, ?_, ?_⟩
  · refine dk_new h12 ?_ (hP.sub [1, 2] rfl) (fun h0 => (hel5 h0).1) (fun h => by omega) (fun j hj => crV_at (hel5 (by omega)).2 j hj) (fun j hj => by omega)
    rw [d1, d3]
    exact hP.sub [0, 3, 4, 5, 6] rfl
  · refine dkE_new h12 ?_ had (fun j hj => by omega)
    intro q hq
    simp only [List.mem_cons, List.not_mem_nil, or_false] at hq
    rcases hq with e | e | e | e | e | e | e | e | e | e <;> rw [e]
    · exact hnew ds (by simp)
    · exact hnew ca (by simp)
    · exact hnew ha (by simp)
    · exact hnew b1 (by simp)
    · exact hnew l1 (by simp)
    · exact hel6
    · exact hnew b2 (by simp)
    · exact hnew l2 (by simp)
    · exact hg1
    · exact hfe
  · exact ⟨hDr.1, hho.1, hcap.1, hcap.2, by rw [d1]; exact Nat.zero_le _, Nat.zero_le _, hel, fun _ => ⟨rfl, rfl⟩⟩
