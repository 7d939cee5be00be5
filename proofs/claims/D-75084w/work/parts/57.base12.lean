/-! BASE, part 12: contracts with an exact frame: jM (live cells ws0; all else that is old stays), uM (the same; may throw) -/
set_option maxRecDepth 100000
def inL (ws : va_W) : Nat → Prop := fun q => q ∈ ws.map Prod.fst
def NA (A : Nat → Prop) (H0 : Heap) : Nat → Prop := fun q => A q ∨ H0.size ≤ q
theorem P_app1 {D : va_G} {cl : List vw_C} {a b : va_W} {H : Heap} (h : va_P D cl (a ++ b) H) : va_P D cl a H := va_P_mem.mpr fun q hq => va_P_mem.mp h q (List.mem_append_left _ hq)
theorem P_app2 {D : va_G} {cl : List vw_C} {a b : va_W} {H : Heap} (h : va_P D cl (a ++ b) H) : va_P D cl b H := va_P_mem.mpr fun q hq => va_P_mem.mp h q (List.mem_append_right _ hq)
theorem P_app {D : va_G} {cl : List vw_C} {a b : va_W} {H : Heap} (h1 : va_P D cl a H) (h2 : va_P D cl b H) : va_P D cl (a ++ b) H := va_P_mem.mpr fun q hq => (List.mem_append.mp hq).elim (va_P_mem.mp h1 q) (va_P_mem.mp h2 q)
theorem D_app1 {A : Nat → Prop} {a b : va_W} (h : va_D A (a ++ b)) : va_D A a := by
  have h := va_D_nod.mp h
  rw [List.map_append] at h
  exact va_D_nod.mpr ⟨(List.nodup_append.mp h.1).1, fun q hq => h.2 q (List.mem_append_left _ hq)⟩
theorem D_app2 {A : Nat → Prop} {a b : va_W} (h : va_D A (a ++ b)) : va_D A b := by
  have h := va_D_nod.mp h
  rw [List.map_append] at h
  exact va_D_nod.mpr ⟨(List.nodup_append.mp h.1).2.1, fun q hq => h.2 q (List.mem_append_right _ hq)⟩
theorem inL_mem {ws : va_W} {q : Nat × va_E} (h : q ∈ ws) : inL ws q.1 := List.mem_map_of_mem h
theorem D_in {A : Nat → Prop} {ws : va_W} (h : va_D A ws) {q : Nat} (hq : inL ws q) : A q := by
  obtain ⟨x, hx, rfl⟩ := List.mem_map.mp hq
  exact (va_D_nod.mp h).2 x hx
theorem D_apart {A : Nat → Prop} {a b : va_W} (h : va_D A (a ++ b)) {x : Nat × va_E} (hx : x ∈ b) : ¬ inL a x.1 := by
  have h := (va_D_nod.mp h).1
  rw [List.map_append] at h
  intro hq
  exact (List.nodup_append.mp h).2.2 _ hq _ (List.mem_map_of_mem hx) rfl
/-- behind a call: what came back, beside the rest -/
theorem D_join {A : Nat → Prop} {w1 w2 wn : va_W} {D : va_G} {H H0 : Heap} {locs : List Loc} (hP : va_P D clA (w1 ++ w2) H) (hD : va_D A (w1 ++ w2)) (hS : va_S A H0 H locs) (hA : ∀ q, H0.size ≤ q → A q) (hn : va_D (NA (inL w1) H) wn) : va_D A (wn ++ w2) := by
  have h1 := va_D_nod.mp hn
  have h2 := va_D_nod.mp (D_app2 hD)
  refine va_D_nod.mpr ⟨?_, fun q hq => ?_⟩
  · rw [List.map_append]
    refine List.nodup_append.mpr ⟨h1.1, h2.1, ?_⟩
    intro x hx y hy e
    obtain ⟨a, ha, rfl⟩ := List.mem_map.mp hx
    obtain ⟨b, hb, rfl⟩ := List.mem_map.mp hy
    rcases h1.2 a ha with z | z
    · exact D_apart hD hb (e ▸ z)
    · have := P_lt_mem (P_app2 hP) hb
      omega
  · rcases List.mem_append.mp hq with z | z
    · rcases h1.2 q z with z | z
      · exact D_in (D_app1 hD) z
      · exact hA _ (Nat.le_trans hS.1 z)
    · exact h2.2 q z
theorem S_join {A : Nat → Prop} {w1 w2 : va_W} {H H0 H1 : Heap} {locs L : List Loc} (hD : va_D A (w1 ++ w2)) (hS : va_S A H0 H locs) (hz : H.size ≤ H1.size) (hk : ∀ q : Nat, q < H.size → ¬ inL w1 q → H1[q]? = H[q]?) (hL : ∀ q ∈ L, inL w1 q.base) : va_S A H0 H1 (locs ++ L) :=
  ⟨Nat.le_trans hS.1 hz, fun q h1 h2 => (hk q (Nat.lt_of_lt_of_le h1 hS.1) (fun z => h2 (D_in (D_app1 hD) z))).trans (hS.2.1 q h1 h2), fun q hq => by
    rcases List.mem_append.mp hq with h | h
    · exact hS.2.2 q h
    · exact D_in (D_app1 hD) (hL q h)⟩
theorem P_join {D : va_G} {A : Nat → Prop} {w1 w2 wn : va_W} {H H1 : Heap} (hP : va_P D clA (w1 ++ w2) H) (hD : va_D A (w1 ++ w2)) (hk : ∀ q : Nat, q < H.size → ¬ inL w1 q → H1[q]? = H[q]?) (hn : va_P D clA wn H1) : va_P D clA (wn ++ w2) H1 :=
  P_app hn ((P_app2 hP).kept (fun i q hi => hk q.1 (P_app2 hP i q hi).lt (D_apart hD (List.mem_of_getElem? hi))))
def jPre (D : va_G) (g : Nat → Nat) (ws0 : va_W) (P : Heap → Prop) (U : State) : Prop := va_P D clA ws0 U.heap ∧ ((ws0.map Prod.fst).Nodup ∧ ∀ q ∈ ws0, g 0 ≤ q.1) ∧ hKX P g U
theorem mv2_jPre {D : va_G} {g : Nat → Nat} {ws0 : va_W} {P : Heap → Prop} : mv2 (jPre D g ws0 P) := fun u U e a q => ⟨by rw [e]; exact q.1, q.2.1, mv2_hKX u U e a q.2.2⟩
theorem jPre_at {D : va_G} {g : Nat → Nat} {A : Nat → Prop} {w1 w2 : va_W} {P : Heap → Prop} {s : State} {H : Heap} {locs : List Loc} (hP : va_P D clA (w1 ++ w2) H) (hD : va_D A (w1 ++ w2)) (hAN : ∀ q, A q → g 0 ≤ q) (hX : KX g s) (hS : va_S A s.heap H locs) (hp : P H) {U : State} (hU : U.heap = H) (hW : s.WarmedH U.vm) : jPre D g w1 P U :=
  ⟨by rw [hU]; exact P_app1 hP, ⟨(va_D_nod.mp (D_app1 hD)).1, fun q hq => hAN _ ((va_D_nod.mp (D_app1 hD)).2 q hq)⟩, hKX_at hX hS hAN hp hU hW⟩
def jQ (D : va_G) {X : Type} (v : X → Option Value) (B : X → Heap → Prop) (ws1 : X → va_W) (A0 : Nat → Prop) : Array Value → State → Outcome → State → Prop := fun _ st o t => ∃ x, o = .returned (v x) ∧ B x t.heap ∧ va_P D clA (ws1 x) t.heap ∧ va_D (NA A0 st.heap) (ws1 x) ∧ va_F A0 st t
def uX (thr : String → Addr → Heap → Prop) (A0 : Nat → Prop) : String → Addr → State → State → Prop := fun E q st t => thr E q t.heap ∧ va_F A0 st t
abbrev jM (l : Launch) (D : va_G) (k : Nat → ClassId) (y : MethodName) (cc : ByteArray) (nL : Nat) (ret : Option FieldType) (fr lo nc ns : Nat) (av : List Value) (g : Nat → Nat) (ws0 : va_W) (P : Heap → Prop) {X : Type} (v : X → Option Value) (B : X → Heap → Prop) (ws1 : X → va_W) : Prop :=
  Met l y (ws_ y cc nL ret) (Rm fr lo nc ns) (sP D k av (jPre D g ws0 P)) (jQ D v B ws1 (inL ws0)) nc ns (inL ws0)
abbrev uM (l : Launch) (D : va_G) (k : Nat → ClassId) (y : MethodName) (cc : ByteArray) (nL : Nat) (ret : Option FieldType) (fr lo nc ns : Nat) (av : List Value) (g : Nat → Nat) (ws0 : va_W) (P : Heap → Prop) {X : Type} (v : X → Option Value) (B : X → Heap → Prop) (ws1 : X → va_W) (thr : String → Addr → Heap → Prop) : Prop :=
  vy_Met l y (ws_ y cc nL ret) (Rm fr lo nc ns) (sP D k av (jPre D g ws0 P)) (jQ D v B ws1 (inL ws0)) (uX thr (inL ws0)) nc ns (inL ws0)
theorem NA_start {g : Nat → Nat} {ws0 : va_W} {s : State} (hnd : (ws0.map Prod.fst).Nodup) : va_D (NA (inL ws0) s.heap) ws0 := va_D_nod.mpr ⟨hnd, fun q hq => Or.inl (inL_mem hq)⟩
theorem NA_g {g : Nat → Nat} {ws0 : va_W} {s : State} (hge : ∀ q ∈ ws0, g 0 ≤ q.1) (hX : KX g s) : ∀ q, NA (inL ws0) s.heap q → g 0 ≤ q := by
  intro q h
  rcases h with h | h
  · obtain ⟨x, hx, rfl⟩ := List.mem_map.mp h
    exact hge x hx
  · exact Nat.le_trans hX.le h
theorem jM_of {l : Launch} {D : va_G} {k : Nat → ClassId} {y : MethodName} {cc : ByteArray} {nL : Nat} {ret : Option FieldType} {fr lo nc ns : Nat} {av : List Value} {g : Nat → Nat} {ws0 : va_W} {P : Heap → Prop} {X : Type} {v : X → Option Value} {B : X → Heap → Prop} {ws1 : X → va_W} (hy : plainName y.cls = true) (hn : (lg_sl av).length ≤ nL)
    (body : ∀ (p : Program) (e : Env) (s : State) (m : MethodId) (below : List Frame) (meth : Method) (c : Code) (ls : Array Slot) (A : Nat → Prop), A = NA (inL ws0) s.heap → Cx p s m meth c cc nL ret y.cls av.toArray → meth.name = y.name → s.methodNamed? y = some m → KA D k s → va_P D clA ws0 s.heap → va_D A ws0 → (∀ q, s.heap.size ≤ q → A q) → (∀ q, A q → g 0 ≤ q) → P s.heap → KX g s → va_S A s.heap s.heap [] → lv_has ls nL (lv_args 0 av) → W p l e (Rm fr lo nc ns) s m av.toArray below meth c s.heap [] 0 0 (MQ below (jQ D v B ws1 (inL ws0)) av.toArray s nc ns (inL ws0)) (F0 m 0 ls [])) : jM l D k y cc nL ret fr lo nc ns av g ws0 P v B ws1 := by
  refine Met.ofW (cc := cc) (maxL := nL) (ret := ret) hy rfl ?_
  intro p e s m args below meth c s₁ B hml hv
  obtain ⟨rfl, ⟨hP, ⟨hnd, hge⟩, hPh, hX⟩, hK⟩ := hv
  have hts := atoms_spec (ws := ws_ y cc nL ret) B.pre
  have hts : ∀ w ∈ lw_all, w.before _ s = true := fun w h => hts w (List.mem_cons_of_mem _ h)
  have hown : s.vm.findClass y.cls = some m.cls := findClass_of_methodNamed B.named
  rw [lg_entry_eq]
  exact body p e s m below meth c _ _ rfl ⟨B.exec, B.bytes, B.returns, hml, hown, hts, B.notSynchronized⟩ (name_of_methodNamed B.named B.method).1 B.named hK hP (NA_start (g := g) hnd) (fun q h => Or.inr h) (NA_g hge hX) hPh hX va_S.rf (lv_entry av hn)
theorem uM_of {l : Launch} {D : va_G} {k : Nat → ClassId} {y : MethodName} {cc : ByteArray} {nL : Nat} {ret : Option FieldType} {fr lo nc ns : Nat} {av : List Value} {g : Nat → Nat} {ws0 : va_W} {P : Heap → Prop} {X : Type} {v : X → Option Value} {B : X → Heap → Prop} {ws1 : X → va_W} {thr : String → Addr → Heap → Prop} (hy : plainName y.cls = true) (hn : (lg_sl av).length ≤ nL)
    (body : ∀ (p : Program) (e : Env) (s : State) (m : MethodId) (below : List Frame) (meth : Method) (c : Code) (ls : Array Slot) (A : Nat → Prop), A = NA (inL ws0) s.heap → Cx p s m meth c cc nL ret y.cls av.toArray → (∀ x ∈ c.exceptionTable.toList, False) → meth.name = y.name → s.methodNamed? y = some m → KA D k s → va_P D clA ws0 s.heap → va_D A ws0 → (∀ q, s.heap.size ≤ q → A q) → (∀ q, A q → g 0 ≤ q) → P s.heap → KX g s → va_S A s.heap s.heap [] → lv_has ls nL (lv_args 0 av) → W p l e (Rm fr lo nc ns) s m av.toArray below meth c s.heap [] 0 0 (vy_MQ below (jQ D v B ws1 (inL ws0)) (uX thr (inL ws0)) av.toArray s nc ns (inL ws0)) (F0 m 0 ls [])) : uM l D k y cc nL ret fr lo nc ns av g ws0 P v B ws1 thr := by
  refine vy_ofW (cc := cc) (maxL := nL) (ret := ret) hy rfl ?_
  intro p e s m args below meth c s₁ B hml ht hv
  obtain ⟨rfl, ⟨hP, ⟨hnd, hge⟩, hPh, hX⟩, hK⟩ := hv
  have hts := atoms_spec (ws := ws_ y cc nL ret) B.pre
  have hts : ∀ w ∈ lw_all, w.before _ s = true := fun w h => hts w (List.mem_cons_of_mem _ h)
  have hown : s.vm.findClass y.cls = some m.cls := findClass_of_methodNamed B.named
  rw [lg_entry_eq]
  exact body p e s m below meth c _ _ rfl ⟨B.exec, B.bytes, B.returns, hml, hown, hts, B.notSynchronized⟩ ht (name_of_methodNamed B.named B.method).1 B.named hK hP (NA_start (g := g) hnd) (fun q h => Or.inr h) (NA_g hge hX) hPh hX va_S.rf (lv_entry av hn)
section ROWS12
variable {p : Program} {l : Launch} {e : Env} {R : Room} {s : State} {m : MethodId} {args : Array Value} {below : List Frame} {meth : Method} {c : Code} {H : Heap} {locs : List Loc} {cells slots : Nat} {Q : State → Prop}
variable {cc : ByteArray} {nL : Nat} {ret : Option FieldType} {own : String} {pc : Nat} {ls : Array Slot} {rest st0 : List Value} {D : va_G} {k : Nat → ClassId} {A A0 : Nat → Prop} {ws : va_W} {H0 : Heap} {nc ns : Nat}
/-- what was written into new cells is forgotten -/
theorem NA_locs (hAe : A = NA A0 s.heap) (hS : va_S A s.heap H locs) : ∀ q ∈ locs.filter (fun q => decide (q.base < s.heap.size)), A0 q.base := by
  intro q hq
  obtain ⟨h1, h2⟩ := List.mem_filter.mp hq
  have h2 : q.base < s.heap.size := of_decide_eq_true h2
  have h3 := hS.2.2 q h1
  subst hAe
  rcases h3 with h | h
  · exact h
  · exact absurd h2 (Nat.not_lt.mpr h)
theorem NA_stand {T : State} (X : Stand p l e R s m args below meth c T locs cells slots) : Stand p l e R s m args below meth c T (locs.filter (fun q => decide (q.base < s.heap.size))) cells slots :=
  { X with same := X.same.weaken (fun y hy hlt => List.mem_filter.mpr ⟨hy, decide_eq_true hlt⟩) (Nat.le_refl _) (Nat.le_refl _) }
theorem NA_forget {g : JFrame} (hAe : A = NA A0 s.heap) (hS : va_S A s.heap H locs) (kk : ∀ locs1 : List Loc, (∀ q ∈ locs1, A0 q.base) → W p l e R s m args below meth c H locs1 cells slots Q g) : W p l e R s m args below meth c H locs cells slots Q g :=
  fun T hT X => kk _ (NA_locs hAe hS) T hT (NA_stand X)
theorem NA_forgetX {g : JFrame} {q : Addr} (hAe : A = NA A0 s.heap) (hS : va_S A s.heap H locs) (kk : ∀ locs1 : List Loc, (∀ q ∈ locs1, A0 q.base) → vy_W p l e R s m args below meth c H locs1 cells slots Q g q) : vy_W p l e R s m args below meth c H locs cells slots Q g q :=
  fun T hT X => kk _ (NA_locs hAe hS) T hT (NA_stand X)
theorem NA_F {t : State} (hAe : A = NA A0 s.heap) (hS : va_S A s.heap H locs) (ht : t.heap = H) : va_F A0 s t :=
  ⟨by rw [ht]; exact hS.1, fun q h1 h2 => by
    rw [ht]
    refine hS.2.1 q h1 ?_
    subst hAe
    intro z
    rcases z with z | z
    · exact h2 z
    · exact absurd h1 (Nat.not_lt.mpr z)⟩
section JRET
variable {X : Type} {vv : X → Option Value} {B : X → Heap → Prop} {ws1 : X → va_W}
theorem j_vret (hAe : A = NA A0 s.heap) (C : Cx p s m meth c cc nL none own args) (x : X) (hv : vv x = none) (hB : B x H) (hP : va_P D clA (ws1 x) H) (hD : va_D A (ws1 x)) (hS : va_S A s.heap H locs) (hc : cells ≤ nc) (hs : slots ≤ ns) (hdg : decode cc pc = .ok (.return_, 1)) : W p l e R s m args below meth c H locs cells slots (MQ below (jQ D vv B ws1 A0) args s nc ns A0) (F0 m pc ls []) := by
  refine NA_forget hAe hS fun locs1 hl1 => W_more hc hs ?_
  exact W.vret C.1 C.2.1 C.2.2.1 (fun t ht _ => ⟨x, by rw [hv], by rw [ht]; exact hB, by rw [ht]; exact hP, hAe ▸ hD, NA_F hAe hS ht⟩) hl1 hdg C.2.2.2.2.2.2
theorem j_iret {z : Int32} (hAe : A = NA A0 s.heap) (C : Cx p s m meth c cc nL (some .int) own args) (x : X) (hv : vv x = some (.int z)) (hB : B x H) (hP : va_P D clA (ws1 x) H) (hD : va_D A (ws1 x)) (hS : va_S A s.heap H locs) (hc : cells ≤ nc) (hs : slots ≤ ns) (hdg : decode cc pc = .ok (.ireturn, 1)) : W p l e R s m args below meth c H locs cells slots (MQ below (jQ D vv B ws1 A0) args s nc ns A0) (F0 m pc ls [.int z]) := by
  refine NA_forget hAe hS fun locs1 hl1 => W_more hc hs ?_
  exact W.iret C.1 C.2.1 C.2.2.1 (fun t ht _ => ⟨x, by rw [hv], by rw [ht]; exact hB, by rw [ht]; exact hP, hAe ▸ hD, NA_F hAe hS ht⟩) hl1 hdg C.2.2.2.2.2.2
theorem j_zret {P : Prop} {z : Int32} (hAe : A = NA A0 s.heap) (C : Cx p s m meth c cc nL (some .boolean) own args) (x : X) (hz : z = bI P) (hv : vv x = some (.int (bI P))) (hB : B x H) (hP : va_P D clA (ws1 x) H) (hD : va_D A (ws1 x)) (hS : va_S A s.heap H locs) (hc : cells ≤ nc) (hs : slots ≤ ns) (hdg : decode cc pc = .ok (.ireturn, 1)) : W p l e R s m args below meth c H locs cells slots (MQ below (jQ D vv B ws1 A0) args s nc ns A0) (F0 m pc ls [.int z]) := by
  subst hz
  refine NA_forget hAe hS fun locs1 hl1 => W_more hc hs ?_
  exact W.zret C.1 C.2.1 C.2.2.1 bI_nar (fun t ht _ => ⟨x, by rw [hv], by rw [ht]; exact hB, by rw [ht]; exact hP, hAe ▸ hD, NA_F hAe hS ht⟩) hl1 hdg C.2.2.2.2.2.2
theorem j_lret {z : Int64} (hAe : A = NA A0 s.heap) (C : Cx p s m meth c cc nL (some .long) own args) (x : X) (hv : vv x = some (.long z)) (hB : B x H) (hP : va_P D clA (ws1 x) H) (hD : va_D A (ws1 x)) (hS : va_S A s.heap H locs) (hc : cells ≤ nc) (hs : slots ≤ ns) (hdg : decode cc pc = .ok (.lreturn, 1)) : W p l e R s m args below meth c H locs cells slots (MQ below (jQ D vv B ws1 A0) args s nc ns A0) (F0 m pc ls [.long z]) := by
  refine NA_forget hAe hS fun locs1 hl1 => W_more hc hs ?_
  exact W.lret C.1 C.2.1 C.2.2.1 (fun t ht _ => ⟨x, by rw [hv], by rw [ht]; exact hB, by rw [ht]; exact hP, hAe ▸ hD, NA_F hAe hS ht⟩) hl1 hdg C.2.2.2.2.2.2
theorem j_aret {a : Nat} {rt : FieldType} (hAe : A = NA A0 s.heap) (C : Cx p s m meth c cc nL (some rt) own args) (hrt : (∃ n, rt = .object n) ∨ ∃ t, rt = .array t) (x : X) (hv : vv x = some (.ref a)) (hB : B x H) (hP : va_P D clA (ws1 x) H) (hD : va_D A (ws1 x)) (hS : va_S A s.heap H locs) (hc : cells ≤ nc) (hs : slots ≤ ns) (hdg : decode cc pc = .ok (.areturn, 1)) : W p l e R s m args below meth c H locs cells slots (MQ below (jQ D vv B ws1 A0) args s nc ns A0) (F0 m pc ls [.ref a]) := by
  refine NA_forget hAe hS fun locs1 hl1 => W_more hc hs ?_
  exact W.aret C.1 C.2.1 C.2.2.1 hrt (Or.inr ⟨a, rfl⟩) (fun t ht _ => ⟨x, by rw [hv], by rw [ht]; exact hB, by rw [ht]; exact hP, hAe ▸ hD, NA_F hAe hS ht⟩) hl1 hdg C.2.2.2.2.2.2
end JRET
section AFTER12
variable {mc ms : Nat} {a0 : Array Value} {X : Type} {vv : X → Option Value} {B : X → Heap → Prop} {ws1 : X → va_W} {w1 w2 : va_W} {thr : String → Addr → Heap → Prop}
theorem j_after (hr : va_Run p l e R s m args below meth c H locs cells slots mc ms (F0 m pc ls st0) rest (jQ D vv B ws1 (inL w1) a0) (inL w1)) (hP : va_P D clA (w1 ++ w2) H) (hD : va_D A (w1 ++ w2)) (hS : va_S A H0 H locs) (hA : ∀ q, H0.size ≤ q → A q)
    (kk : ∀ (x : X) (H1 : Heap) (locs1 : List Loc), B x H1 → va_P D clA (ws1 x ++ w2) H1 → va_D A (ws1 x ++ w2) → va_S A H0 H1 locs1 → H.size ≤ H1.size → (∀ q : Nat, q < H.size → ¬ inL w1 q → H1[q]? = H[q]?) → W p l e R s m args below meth c H1 locs1 (cells + mc) (slots + ms) Q (F0 m (pc + 3) ls ((vv x).toList ++ rest))) : W p l e R s m args below meth c H locs cells slots Q (F0 m pc ls st0) := by
  intro T hT X
  obtain ⟨v', st₀, t, T', L, h0, X', hL, e1, e2, ⟨x, hv, hB, hPn, hDn, hz, hk⟩, st⟩ := hr T hT X
  cases hv
  rw [h0] at hz hk hDn
  rw [← e1] at hz hk hPn hB
  obtain ⟨t2, a1, b1⟩ := kk x T'.heap (locs ++ L) hB (P_join hP hD hk hPn) (D_join hP hD hS hA hDn) (S_join hD hS hz hk hL) hz hk T' rfl X'
  exact ⟨t2, st t2 a1, b1⟩
theorem j_after5 (hr : va_Run5 p l e R s m args below meth c H locs cells slots mc ms (F0 m pc ls st0) rest (jQ D vv B ws1 (inL w1) a0) (inL w1)) (hP : va_P D clA (w1 ++ w2) H) (hD : va_D A (w1 ++ w2)) (hS : va_S A H0 H locs) (hA : ∀ q, H0.size ≤ q → A q)
    (kk : ∀ (x : X) (H1 : Heap) (locs1 : List Loc), B x H1 → va_P D clA (ws1 x ++ w2) H1 → va_D A (ws1 x ++ w2) → va_S A H0 H1 locs1 → H.size ≤ H1.size → (∀ q : Nat, q < H.size → ¬ inL w1 q → H1[q]? = H[q]?) → W p l e R s m args below meth c H1 locs1 (cells + mc) (slots + ms) Q (F0 m (pc + 5) ls ((vv x).toList ++ rest))) : W p l e R s m args below meth c H locs cells slots Q (F0 m pc ls st0) := by
  intro T hT X
  obtain ⟨v', st₀, t, T', L, h0, X', hL, e1, e2, ⟨x, hv, hB, hPn, hDn, hz, hk⟩, st⟩ := hr T hT X
  cases hv
  rw [h0] at hz hk hDn
  rw [← e1] at hz hk hPn hB
  obtain ⟨t2, a1, b1⟩ := kk x T'.heap (locs ++ L) hB (P_join hP hD hk hPn) (D_join hP hD hS hA hDn) (S_join hD hS hz hk hL) hz hk T' rfl X'
  exact ⟨t2, st t2 a1, b1⟩
theorem u_after (hr : vy_Run p l e R s m args below meth c H locs cells slots mc ms (F0 m pc ls st0) rest (jQ D vv B ws1 (inL w1) a0) (uX thr (inL w1)) (inL w1)) (hP : va_P D clA (w1 ++ w2) H) (hD : va_D A (w1 ++ w2)) (hS : va_S A H0 H locs) (hA : ∀ q, H0.size ≤ q → A q)
    (kx : ∀ (E : String) (ce : Cell) (q9 : Addr) (H1 : Heap) (locs1 : List Loc), thr E q9 H1 → va_S A H0 H1 locs1 → H.size ≤ H1.size → (∀ q : Nat, q < H.size → ¬ inL w1 q → H1[q]? = H[q]?) → H1[q9]? = some ce → ce.vm = .none → s.vm.findClass E = some ce.cls → vy_W p l e R s m args below meth c H1 locs1 (cells + mc) (slots + ms) Q (F0 m pc ls rest) q9)
    (kk : ∀ (x : X) (H1 : Heap) (locs1 : List Loc), B x H1 → va_P D clA (ws1 x ++ w2) H1 → va_D A (ws1 x ++ w2) → va_S A H0 H1 locs1 → H.size ≤ H1.size → (∀ q : Nat, q < H.size → ¬ inL w1 q → H1[q]? = H[q]?) → W p l e R s m args below meth c H1 locs1 (cells + mc) (slots + ms) Q (F0 m (pc + 3) ls ((vv x).toList ++ rest))) : W p l e R s m args below meth c H locs cells slots Q (F0 m pc ls st0) := by
  intro T hT X
  rcases hr T hT X with ⟨v', st₀, t, T', L, h0, X', hL, e1, e2, ⟨x, hv, hB, hPn, hDn, hz, hk⟩, st⟩ | ⟨q, st₀, t, T', L, E, ce, h0, X', hL, e1, e2, ⟨hth, hz, hk⟩, hce, hcv, hcl, st⟩
  · cases hv
    rw [h0] at hz hk hDn
    rw [← e1] at hz hk hPn hB
    obtain ⟨t2, a1, b1⟩ := kk x T'.heap (locs ++ L) hB (P_join hP hD hk hPn) (D_join hP hD hS hA hDn) (S_join hD hS hz hk hL) hz hk T' rfl X'
    exact ⟨t2, st t2 a1, b1⟩
  · rw [h0] at hz hk
    rw [← e1] at hz hk hce hth
    obtain ⟨t2, a1, b1⟩ := kx E ce q T'.heap (locs ++ L) hth (S_join hD hS hz hk hL) hz hk hce hcv hcl T' rfl X'
    exact ⟨t2, st.trans a1, b1⟩
/-- not caught here: it goes on to the caller -/
theorem u_out {E : String} {ce : Cell} {q : Addr} {Qc : Array Value → State → Outcome → State → Prop} (hAe : A = NA A0 s.heap) (hout : ∀ x ∈ c.exceptionTable.toList, False) (hlk : meth.locks = false) (hth : thr E q H) (hS : va_S A s.heap H locs) (hcell : H[q]? = some ce) (hv : ce.vm = .none) (hcl : s.vm.findClass E = some ce.cls) (hc : cells ≤ nc) (hs : slots ≤ ns) :
    vy_W p l e R s m args below meth c H locs cells slots (vy_MQ below Qc (uX thr A0) args s nc ns A0) (F0 m pc ls rest) q :=
  NA_forgetX hAe hS fun locs1 hl1 => vy_out (fun x hx => (hout x hx).elim) hlk hcell hv hcl (fun t ht _ => ⟨by rw [ht]; exact hth, NA_F hAe hS ht⟩) hl1 hc hs
end AFTER12
end ROWS12
/-- frozen: in the heap, and none of the live cells -/
def FZ (D : va_G) (w : va_W) (fz : va_W) (H : Heap) : Prop := va_P D clA fz H ∧ ∀ q ∈ fz, ¬ inL w q.1
theorem FZ.sub {D : va_G} {w fz fz' : va_W} {H : Heap} (h : FZ D w fz H) (is : List Nat) (hs : is.filterMap (fun i => fz[i]?) = fz') : FZ D w fz' H := by
  refine ⟨h.1.sub is hs, fun q hq => h.2 q ?_⟩
  subst hs
  obtain ⟨i, -, hi⟩ := List.mem_filterMap.mp hq
  exact List.mem_of_getElem? hi
theorem FZ.cons {D : va_G} {w fz : va_W} {x : Nat × va_E} {H : Heap} (h1 : FZ D w [x] H) (h2 : FZ D w fz H) : FZ D w (x :: fz) H := ⟨P_app h1.1 h2.1, fun q hq => (List.mem_cons.mp hq).elim (fun e => h1.2 q (e ▸ List.mem_cons_self)) (h2.2 q)⟩
theorem FZ_not {D : va_G} {w fz : va_W} {A : Nat → Prop} {H0 : Heap} (hAe : A = NA (inL w) H0) (h : FZ D w fz H0) : ∀ q ∈ fz, ¬ A q.1 := by
  subst hAe
  intro q hq z
  rcases z with z | z
  · exact h.2 q hq z
  · exact absurd (P_lt_mem h.1 hq) (Nat.not_lt.mpr z)
theorem FZ_at {D : va_G} {w fz : va_W} {A : Nat → Prop} {H0 H : Heap} {locs : List Loc} (hAe : A = NA (inL w) H0) (h : FZ D w fz H0) (hS : va_S A H0 H locs) : va_P D clA fz H := frz h.1 (FZ_not hAe h) hS
theorem FZ_call {D : va_G} {w fz w1 w2 : va_W} {A : Nat → Prop} {H0 H : Heap} {locs : List Loc} (hAe : A = NA (inL w) H0) (h : FZ D w fz H0) (hS : va_S A H0 H locs) (hD : va_D A (w1 ++ w2)) : FZ D w1 fz H := ⟨FZ_at hAe h hS, fun q hq z => FZ_not hAe h q hq (D_in (D_app1 hD) z)⟩
/-- new cells are new -/
theorem new_ge {A : Nat → Prop} {w a b : va_W} {H0 : Heap} (hAe : A = NA (inL w) H0) (hD : va_D A (a ++ b)) (ha : ∀ q, inL w q → inL a q) : ∀ q ∈ b, H0.size ≤ q.1 := by
  subst hAe
  intro q hq
  rcases (va_D_nod.mp (D_app2 hD)).2 q hq with z | z
  · exact absurd (ha _ z) (D_apart hD hq)
  · exact z
/-- an object's class -/
theorem at_cls {D : va_G} {k : Nat → ClassId} {s : State} {ws : va_W} {H : Heap} {a ci : Nat} {fs : List Value} {C : String} {T : u_T} {N : Nat} (hK : KA D k s) (hP : va_P D clA ws H) (i : Nat) (hi : ws[i]? = some (a, .inr (ci, fs))) (hc : clA[ci]? = some (C, T, N)) : ∃ cell : Cell, H[a]? = some cell ∧ cell.vm = .none ∧ s.vm.findClass C = some cell.cls := by
  obtain ⟨r, hr, cell, h1, h2, h3, h4⟩ := hP i _ hi
  have h5 := (hK.1 ci _ hc).2.1
  exact ⟨cell, h1, h3, by rw [h2]; exact h5⟩
/-- the element array of a list that may be empty -/
def elO (n : Nat) (x : Nat × va_E) : va_W := if 0 < n then [x] else []
theorem elO_0 {n : Nat} {x : Nat × va_E} (h : n = 0) : elO n x = [] := if_neg (by omega)
theorem elO_1 {n : Nat} {x : Nat × va_E} (h : 0 < n) : elO n x = [x] := if_pos h
theorem P_rot {D : va_G} {cl : List vw_C} {a x b : va_W} {H : Heap} (h : va_P D cl ((a ++ x) ++ b) H) : va_P D cl ((a ++ b) ++ x) H := P_app (P_app (P_app1 (P_app1 h)) (P_app2 h)) (P_app2 (P_app1 h))
theorem D_rot {A : Nat → Prop} {a x b : va_W} (h : va_D A ((a ++ x) ++ b)) : va_D A ((a ++ b) ++ x) := by
  refine va_D_perm h ?_
  rw [List.append_assoc, List.append_assoc]
  exact List.Perm.append_left a List.perm_append_comm
