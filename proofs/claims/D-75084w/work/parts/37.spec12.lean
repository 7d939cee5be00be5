/-! SPEC, part 12: the fee's codes, run on a stack (top first) -/
set_option maxRecDepth 100000
def opC (c : Int32) (s : List Int64) : List Int64 := match s with
  | b :: a :: r => opr c a b :: r
  | r => r
/-- a code list runs on a stack of height h and leaves one number -/
def okC : List Int32 → Nat → Prop
  | [], h => h = 1
  | [c], h => (2 ≤ c ∧ c ≤ 5) ∧ h = 2
  | c :: v :: t, h => ((c = 0 ∨ c = 1) ∧ okC t (h + 1)) ∨ ((2 ≤ c ∧ c ≤ 5) ∧ 2 ≤ h ∧ okC (v :: t) (h - 1))
def evC (d : Nat → Int32) (q : Nat) : List Int32 → List Int64 → List Int64
  | [], s => s
  | [c], s => opC c s
  | c :: v :: t, s => if c = 0 then evC d q t (v.toInt64 :: s) else if c = 1 then evC d q t ((var d q v).toInt64 :: s) else evC d q (v :: t) (opC c s)
def codes (d : Nat → Int32) : List Int32 := (List.range (dN d 5)).map (fun j => d (298 + j))
theorem codes_drop {d : Nat → Int32} {i : Nat} (h : i < dN d 5) : (codes d).drop i = d (298 + i) :: (codes d).drop (i + 1) := by
  rw [List.drop_eq_getElem_cons (by simp [codes]; exact h)]
  simp [codes]
theorem codes_len {d : Nat → Int32} : (codes d).length = dN d 5 := by simp [codes]
theorem codes_end {d : Nat → Int32} {i : Nat} (h : dN d 5 ≤ i) : (codes d).drop i = [] := List.drop_eq_nil_of_le (by rw [codes_len]; exact h)
def clF (v : Int64) : Int32 := if v < 0 then 0 else if 999999 < v then 999999 else v.toInt32
def feeV (d : Nat → Int32) (q : Nat) : Int32 := if d 4 = 0 then pf d q 2 / 1000 else clF ((evC d q (codes d) []).headD 0)
/-- the array a holds the stack s (top first) -/
def stkA (a : Nat → Int64) (s : List Int64) : Prop := ∀ j, j < s.length → a (s.length - 1 - j) = s.getD j 0
theorem stkA_push {a : Nat → Int64} {s : List Int64} {x : Int64} (h : stkA a s) : stkA (vp_updL a s.length x) (x :: s) := by
  intro j hj
  simp only [List.length_cons] at hj ⊢
  rcases j with _ | j
  · rw [show s.length + 1 - 1 - 0 = s.length by omega, pk_uLs]; rfl
  · rw [show s.length + 1 - 1 - (j + 1) = s.length - 1 - j by omega, pk_uLn (by omega), h j (by omega)]; rfl
theorem stkA_op {a : Nat → Int64} {r : List Int64} {x y z : Int64} (h : stkA a (y :: x :: r)) : stkA (vp_updL a r.length z) (z :: r) ∧ a r.length = x ∧ a (r.length + 1) = y := by
  have h0 := h 0 (by simp)
  have h1 := h 1 (by simp)
  simp only [List.length_cons] at h0 h1
  refine ⟨?_, by rw [show r.length = r.length + 1 + 1 - 1 - 1 by omega]; exact h1, by rw [show r.length + 1 = r.length + 1 + 1 - 1 - 0 by omega]; exact h0⟩
  intro j hj
  simp only [List.length_cons] at hj ⊢
  rcases j with _ | j
  · rw [show r.length + 1 - 1 - 0 = r.length by omega, pk_uLs]; rfl
  · have h2 := h (j + 2) (by simp; omega)
    simp only [List.length_cons] at h2
    rw [show r.length + 1 - 1 - (j + 1) = r.length - 1 - j by omega, pk_uLn (by omega), show r.length - 1 - j = r.length + 1 + 1 - 1 - (j + 2) by omega, h2]; rfl
theorem okC_cons {c : Int32} {t : List Int32} {h : Nat} (q : okC (c :: t) h) : (∃ v t', t = v :: t' ∧ (c = 0 ∨ c = 1) ∧ okC t' (h + 1)) ∨ ((2 ≤ c ∧ c ≤ 5) ∧ 2 ≤ h ∧ okC t (h - 1)) := by
  cases t with
  | nil => exact Or.inr ⟨q.1, by have := q.2; omega, by have := q.2; show h - 1 = 1; omega⟩
  | cons v t' =>
    rcases q with q | q
    · exact Or.inl ⟨v, t', rfl, q.1, q.2⟩
    · exact Or.inr q
theorem evC_op {d : Nat → Int32} {q : Nat} {c : Int32} {t : List Int32} {s : List Int64} (h0 : ¬ c = 0) (h1 : ¬ c = 1) : evC d q (c :: t) s = evC d q t (opC c s) := by
  cases t with
  | nil => rfl
  | cons v t' => simp only [evC, if_neg h0, if_neg h1]
/-- a writing contract, some of whose contents are left open -/
def eQ (D : va_G) {X : Type} (v : Option Value) (ws1 : X → va_W) (A : Nat → Prop) : Array Value → State → Outcome → State → Prop := fun _ st o t => o = .returned v ∧ (∃ x, va_P D clA (ws1 x) t.heap) ∧ va_F A st t
abbrev eM (l : Launch) (D : va_G) (k : Nat → ClassId) (y : MethodName) (cc : ByteArray) (nL : Nat) (ret : Option FieldType) (fr lo : Nat) (av : List Value) (ws0 : va_W) (v : Option Value) {X : Type} (ws1 : X → va_W) (A : Nat → Prop) : Prop :=
  Met l y (ws_ y cc nL ret) (Rm fr lo 0 0) (rP D k av (va_P D clA ws0)) (eQ D v ws1 A) 0 0 A
theorem eM_of {l : Launch} {D : va_G} {k : Nat → ClassId} {y : MethodName} {cc : ByteArray} {nL : Nat} {ret : Option FieldType} {fr lo : Nat} {av : List Value} {ws0 : va_W} {X : Type} {ws1 : X → va_W} {v : Option Value} {A : Nat → Prop} (hy : plainName y.cls = true) (hn : (lg_sl av).length ≤ nL)
    (body : ∀ (p : Program) (e : Env) (s : State) (m : MethodId) (below : List Frame) (meth : Method) (c : Code) (ls : Array Slot), Cx p s m meth c cc nL ret y.cls av.toArray → KA D k s → va_P D clA ws0 s.heap → va_S A s.heap s.heap [] → lv_has ls nL (lv_args 0 av) → W p l e (Rm fr lo 0 0) s m av.toArray below meth c s.heap [] 0 0 (MQ below (eQ D v ws1 A) av.toArray s 0 0 A) (F0 m 0 ls [])) : eM l D k y cc nL ret fr lo av ws0 v ws1 A := by
  refine Met.ofW (cc := cc) (maxL := nL) (ret := ret) hy rfl ?_
  intro p e s m args below meth c s₁ B hml hv
  obtain ⟨rfl, hP, hK⟩ := hv
  have hts := atoms_spec (ws := ws_ y cc nL ret) B.pre
  have hts : ∀ w ∈ lw_all, w.before _ s = true := fun w h => hts w (List.mem_cons_of_mem _ h)
  have hown : s.vm.findClass y.cls = some m.cls := findClass_of_methodNamed B.named
  rw [lg_entry_eq]
  exact body p e s m below meth c _ ⟨B.exec, B.bytes, B.returns, hml, hown, hts, B.notSynchronized⟩ hK hP va_S.rf (lv_entry av hn)
theorem e_iret {p : Program} {l : Launch} {e : Env} {R : Room} {s : State} {m : MethodId} {args : Array Value} {below : List Frame} {meth : Method} {c : Code} {H : Heap} {locs : List Loc} {cc : ByteArray} {nL : Nat} {own : String} {pc : Nat} {ls : Array Slot} {D : va_G} {A : Nat → Prop} {v x : Int32} {X : Type} {ws1 : X → va_W} (C : Cx p s m meth c cc nL (some .int) own args) (hv : x = v) (hP : ∃ x, va_P D clA (ws1 x) H) (hS : va_S A s.heap H locs) (hdg : decode cc pc = .ok (.ireturn, 1)) : W p l e R s m args below meth c H locs 0 0 (MQ below (eQ D (some (.int v)) ws1 A) args s 0 0 A) (F0 m pc ls [.int x]) := by
  subst hv
  exact W.iret C.1 C.2.1 C.2.2.1 (fun t ht _ => ⟨rfl, by rw [ht]; exact hP, hS.F ht⟩) hS.2.2 hdg C.2.2.2.2.2.2
