/-! BASE, part 9b: KX -/
set_option maxRecDepth 100000
/-- a class is castable to itself -/
theorem cast_self {s : State} {C : String} {T : u_T} {N : Nat} {cC : ClassId} {iS : Nat → Nat} (h : u_Kn s C T N cC iS) : va_Nw (.castable C C) s := by
  have h1 := h.2.1
  have h2 := va_assign h.2
  simp [va_Nw, Cond.before, Cond.holds, Cond.value, h1, h2]
abbrev mName (c n d : String) : MethodName := ⟨c, n, d⟩
/-- calls through the two interfaces -/
def IW (U : State) : Prop :=
  va_Fw "java/util/ArrayList" ⟨"java/util/List", "size", "()I"⟩ ⟨"java/util/ArrayList", "size", "()I"⟩ U ∧
  va_Fw "java/util/ArrayList" ⟨"java/util/List", "get", "(I)Ljava/lang/Object;"⟩ ⟨"java/util/ArrayList", "get", "(I)Ljava/lang/Object;"⟩ U ∧
  va_Fw "java/util/ArrayList" ⟨"java/util/List", "add", "(Ljava/lang/Object;)Z"⟩ ⟨"java/util/ArrayList", "add", "(Ljava/lang/Object;)Z"⟩ U ∧
  va_Fw "java/util/ArrayList" ⟨"java/util/List", "set", "(ILjava/lang/Object;)Ljava/lang/Object;"⟩ ⟨"java/util/ArrayList", "set", "(ILjava/lang/Object;)Ljava/lang/Object;"⟩ U ∧
  va_Fw "DocumentaryCreditDesk$Calendar$1" ⟨"java/util/Iterator", "next", "()Ljava/lang/Object;"⟩ ⟨"DocumentaryCreditDesk$Calendar$1", "next", "()Ljava/lang/Object;"⟩ U
theorem IW.moved {u U : State} (hvm : u.vm.Alike U.vm) (h : IW u) : IW U := ⟨va_Fw.moved (by decide) hvm h.1, va_Fw.moved (by decide) hvm h.2.1, va_Fw.moved (by decide) hvm h.2.2.1, va_Fw.moved (by decide) hvm h.2.2.2.1, va_Fw.moved (by decide) hvm h.2.2.2.2⟩
abbrev G0 (g : Nat → Nat) : Nat → Prop := fun q => g 0 ≤ q
theorem S_wide {A B : Nat → Prop} {H0 H : Heap} {locs : List Loc} (h : va_S A H0 H locs) (hA : ∀ q, A q → B q) : va_S B H0 H locs := ⟨h.1, fun q h1 h2 => h.2.1 q h1 (fun z => h2 (hA q z)), fun l hl => hA _ (h.2.2 l hl)⟩
/-- the cache of small Integers -/
def KI (A : Nat → Prop) (U : State) : Prop := ∃ (cA : Nat) (ad : Nat → Nat), va_Z "java/lang/Integer$IntegerCache" "high" "I" (.int 127) A U U.heap ∧ va_Z "java/lang/Integer$IntegerCache" "cache" "[Ljava/lang/Integer;" (.ref cA) A U U.heap ∧ va_T (.object "java/lang/Integer") cA 256 (fun j => .ref (ad j)) A U U.heap ∧ vb_C ad A U U.heap
theorem KI_to {A : Nat → Prop} {s : State} {H : Heap} {locs : List Loc} (h : KI A s) (hS : va_S A s.heap H locs) (U : State) (hU : U.heap = H) (hW : s.WarmedH U.vm) : KI A U := by
  obtain ⟨cA, ad, h1, h2, h3, h4⟩ := h
  refine ⟨cA, ad, ?_, ?_, ?_, ?_⟩
  · rw [hU]; exact (h1.kept hS.2.1).moved hW.alike
  · rw [hU]; exact (h2.kept hS.2.1).moved hW.alike
  · rw [hU]; exact (h3.kept hS.2.1).moved hW.alike
  · rw [hU]; exact (h4.kept hS.2.1).moved hW.alike
/-- ArrayList's empty array e0 -/
def KL (A : Nat → Prop) (e0 : Nat) (U : State) : Prop := va_Z "java/util/ArrayList" "DEFAULTCAPACITY_EMPTY_ELEMENTDATA" "[Ljava/lang/Object;" (.ref e0) A U U.heap ∧ va_T (.object "java/lang/Object") e0 0 (fun _ => .null) A U U.heap
theorem KL_to {A : Nat → Prop} {e0 : Nat} {s : State} {H : Heap} {locs : List Loc} (h : KL A e0 s) (hS : va_S A s.heap H locs) (U : State) (hU : U.heap = H) (hW : s.WarmedH U.vm) : KL A e0 U := by
  obtain ⟨h1, h2⟩ := h
  refine ⟨?_, ?_⟩
  · rw [hU]; exact (h1.kept hS.2.1).moved hW.alike
  · rw [hU]; exact (h2.kept hS.2.1).moved hW.alike
/-- Throwable's statics -/
def KT (A : Nat → Prop) (U : State) : Prop := vy_Zq Bundle.tN "UNASSIGNED_STACK" Bundle.steD A U U.heap ∧ vy_Zq Bundle.tN "SUPPRESSED_SENTINEL" Bundle.listD A U U.heap
theorem KT_to {A : Nat → Prop} {s : State} {H : Heap} {locs : List Loc} (h : KT A s) (hS : va_S A s.heap H locs) (U : State) (hU : U.heap = H) (hW : s.WarmedH U.vm) : KT A U := by
  obtain ⟨h1, h2⟩ := h
  refine ⟨?_, ?_⟩
  · rw [hU]; exact vy_Zq.moved hW.alike (h1.kept hS.2.1)
  · rw [hU]; exact vy_Zq.moved hW.alike (h2.kept hS.2.1)
/-- what the component's methods know of the start: g 0 where the law's own cells begin, g 1 ArrayList's empty array, g 2 the class object of Object[] -/
def KX (g : Nat → Nat) (U : State) : Prop := g 0 ≤ U.heap.size ∧ (NW U ∧ IW U ∧ va_AO "java/lang/Object" U) ∧ EnX (G0 g) U ∧ KI (G0 g) U ∧ KL (G0 g) (g 1) U ∧ KT (G0 g) U ∧ va_Mi "[Ljava/lang/Object;" (g 2) U ∧ LSk g U ∧ PSt (G0 g) g U
theorem KX.le {g : Nat → Nat} {U : State} (h : KX g U) : g 0 ≤ U.heap.size := h.1
theorem KX.nw {g : Nat → Nat} {U : State} (h : KX g U) : NW U := h.2.1.1
theorem KX.iw {g : Nat → Nat} {U : State} (h : KX g U) : IW U := h.2.1.2.1
theorem KX.ao {g : Nat → Nat} {U : State} (h : KX g U) : va_AO "java/lang/Object" U := h.2.1.2.2
theorem KX.en {g : Nat → Nat} {U : State} (h : KX g U) : EnX (G0 g) U := h.2.2.1
theorem KX.ki {g : Nat → Nat} {U : State} (h : KX g U) : KI (G0 g) U := h.2.2.2.1
theorem KX.kl {g : Nat → Nat} {U : State} (h : KX g U) : KL (G0 g) (g 1) U := h.2.2.2.2.1
theorem KX.kt {g : Nat → Nat} {U : State} (h : KX g U) : KT (G0 g) U := h.2.2.2.2.2.1
theorem KX.mi {g : Nat → Nat} {U : State} (h : KX g U) : va_Mi "[Ljava/lang/Object;" (g 2) U := h.2.2.2.2.2.2.1
theorem KX.ls {g : Nat → Nat} {U : State} (h : KX g U) : LSk g U := h.2.2.2.2.2.2.2.1
theorem KX.ps {g : Nat → Nat} {U : State} (h : KX g U) : PSt (G0 g) g U := h.2.2.2.2.2.2.2.2
theorem KX.to {g : Nat → Nat} {A : Nat → Prop} {s : State} {H : Heap} {locs : List Loc} (h : KX g s) (hS : va_S A s.heap H locs) (hA : ∀ q, A q → g 0 ≤ q) {U : State} (hU : U.heap = H) (hW : s.WarmedH U.vm) : KX g U := by
  have hS' : va_S (G0 g) s.heap H locs := S_wide hS hA
  refine ⟨by rw [hU]; exact Nat.le_trans h.le hS.1, ⟨NW.warm hW h.nw, IW.moved hW.alike h.iw, va_AO.moved hW.alike h.ao⟩, EnX_to h.en hS' (fun _ z => z) U hU hW, KI_to h.ki hS' U hU hW, KL_to h.kl hS' U hU hW, KT_to h.kt hS' U hU hW, h.mi.moved hW.alike, h.ls.to hW (fun a ha => by rw [hU]; exact hS'.2.1 a (Nat.lt_of_lt_of_le ha h.le) (Nat.not_le.mpr ha)), PSt_to h.ps hS' U hU hW⟩
theorem KX.mv2 {g : Nat → Nat} : mv2 (KX g) := fun u U e1 e2 h => by
  have hW : u.WarmedH U.vm := by rw [e2]; exact State.WarmedH.refl u
  exact h.to (A := G0 g) (locs := []) (H := u.heap) ⟨Nat.le_refl _, fun _ _ _ => rfl, fun _ h => by cases h⟩ (fun _ z => z) e1 hW
/-- a heap fact and what the start gives -/
def hKX (P : Heap → Prop) (g : Nat → Nat) (U : State) : Prop := P U.heap ∧ KX g U
theorem mv2_hKX {P : Heap → Prop} {g : Nat → Nat} : mv2 (hKX P g) := fun u U e1 e2 h => ⟨by rw [e1]; exact h.1, KX.mv2 u U e1 e2 h.2⟩
theorem hKX_at {P : Heap → Prop} {g : Nat → Nat} {A : Nat → Prop} {s : State} {H : Heap} {locs : List Loc} (h : KX g s) (hS : va_S A s.heap H locs) (hA : ∀ q, A q → g 0 ≤ q) (hp : P H) {U : State} (hU : U.heap = H) (hW : s.WarmedH U.vm) : hKX P g U := ⟨by rw [hU]; exact hp, h.to hS hA hU hW⟩
theorem lw_F {own : String} {idx : Nat} {C : String} {x y : MethodName} {b : ByteArray} {L : Nat} {r : Option FieldType} (h1 : Cond.methodLink own idx x ∈ lw_all) (h2 : Cond.selects C x y ∈ lw_all) (h3 : Cond.instanceMethod y ∈ lw_all) (h4 : Cond.initialized y.cls ∈ lw_all) (h5 : Cond.code y b L r ∈ lw_all) : GoodIn lw_all (va_wsF own idx C x y (ws_ y b L r)) := by
  refine lw_app ?_ (lw_meth h5)
  intro w hw
  simp only [List.mem_cons, List.not_mem_nil, or_false] at hw
  rcases hw with e | e | e | e
  · rw [e]; exact h1
  · rw [e]; exact h2
  · rw [e]; exact h3
  · rw [e]; exact h4
section ROWS9B
variable {p : Program} {l : Launch} {e : Env} {R : Room} {s : State} {m : MethodId} {args : Array Value} {below : List Frame} {meth : Method} {c : Code} {H : Heap} {locs : List Loc} {cells slots : Nat} {Q : State → Prop}
variable {cc : ByteArray} {nL : Nat} {ret : Option FieldType} {own : String} {pc : Nat} {ls : Array Slot} {rest st0 : List Value} {D : va_G} {k : Nat → ClassId} {A : Nat → Prop} {ws : va_W} {H0 : Heap} {nc ns : Nat}
theorem g_aret {a b : Nat} {rt : FieldType} (C : Cx p s m meth c cc nL (some rt) own args) (hrt : (∃ n, rt = .object n) ∨ ∃ t, rt = .array t) (hv : a = b) (hS : va_S (fun q => s.heap.size ≤ q) s.heap H locs) (hc : cells ≤ nc) (hs : slots ≤ ns) (hdg : decode cc pc = .ok (.areturn, 1)) : W p l e R s m args below meth c H locs cells slots (MQ below (gQ (some (.ref b))) args s nc ns (fun _ => False)) (F0 m pc ls [.ref a]) := by
  subst hv
  refine g_forget hS (W_more hc hs ?_)
  exact W.aret C.1 C.2.1 C.2.2.1 hrt (Or.inr ⟨a, rfl⟩) (fun t ht _ => ⟨rfl, vaF_fresh hS ht⟩) (fun q h => by cases h) hdg C.2.2.2.2.2.2
theorem r_aret {a b : Nat} {rt : FieldType} (C : Cx p s m meth c cc nL (some rt) own args) (hrt : (∃ n, rt = .object n) ∨ ∃ t, rt = .array t) (hv : a = b) (hdg : decode cc pc = .ok (.areturn, 1)) : W p l e R s m args below meth c s.heap [] 0 0 (MQ below (rQ (some (.ref b))) args s 0 0 (fun _ => False)) (F0 m pc ls [.ref a]) := by
  subst hv
  exact W.aret C.1 C.2.1 C.2.2.1 hrt (Or.inr ⟨a, rfl⟩) (fun t ht _ => ⟨rfl, ht⟩) (fun q h => by cases h) hdg C.2.2.2.2.2.2
theorem r_lret9 {v x : Int64} (C : Cx p s m meth c cc nL (some .long) own args) (hv : x = v) (hdg : decode cc pc = .ok (.lreturn, 1)) : W p l e R s m args below meth c s.heap [] 0 0 (MQ below (rQ (some (.long v))) args s 0 0 (fun _ => False)) (F0 m pc ls [.long x]) := by
  subst hv
  exact W.lret C.1 C.2.1 C.2.2.1 (fun t ht _ => ⟨rfl, ht⟩) (fun q h => by cases h) hdg C.2.2.2.2.2.2
theorem g_after5 {mc ms : Nat} {v : Option Value} {a0 : Array Value} (hr : va_Run5 p l e R s m args below meth c H locs cells slots mc ms (F0 m pc ls st0) rest (gQ v a0) (fun _ => False)) (hS : va_S A H0 H locs)
    (kk : ∀ H1 : Heap, va_S A H0 H1 locs → H.size ≤ H1.size → (∀ q : Nat, q < H.size → H1[q]? = H[q]?) → W p l e R s m args below meth c H1 locs (cells + mc) (slots + ms) Q (F0 m (pc + 5) ls (v.toList ++ rest))) : W p l e R s m args below meth c H locs cells slots Q (F0 m pc ls st0) := by
  intro T hT X
  obtain ⟨v', st₀, t, T', L, h0, X', hL, e1, e2, ⟨hv, hz, hk⟩, st⟩ := hr T hT X
  cases hv
  rw [h0] at hz hk
  rw [← e1] at hz hk
  obtain ⟨t2, a1, b1⟩ := kk T'.heap ⟨Nat.le_trans hS.1 hz, fun q h1 h2 => (hk q (Nat.lt_of_lt_of_le h1 hS.1) (fun z => z)).trans (hS.2.1 q h1 h2), hS.2.2⟩ hz (fun q hq => hk q hq (fun z => z)) T' rfl (Stand.forget X' (fun q h => (hL q h).elim))
  exact ⟨t2, st t2 a1, b1⟩
/-- an element of an Object[] -/
theorem w_oald (hexec : p.tables.exec = Jvm.exec) (hb : c.code = cc) (hK : KA D k s) (hP : va_P D clA ws H) (q0 : Nat) {a n q : Nat} {f : Nat → Option Nat} (ha : ws[q0]? = some (a, .inl (k 3, n, .inr (.inr (.inr (.inr f)))))) (j : Nat) {i : Int32} (hi : i = nI j) (hj : j < n) (hn : n < 2 ^ 31) (hf : f j = some q) (hdg : decode cc pc = .ok (.aaload, 1))
    (kk : W p l e R s m args below meth c H locs cells slots Q (F0 m (pc + 1) ls (.ref q :: rest))) : W p l e R s m args below meth c H locs cells slots Q (F0 m pc ls (.int i :: .ref a :: rest)) := by
  subst hi
  refine va_aldq hexec hb hK hP q0 3 ha rfl (vp_in_nI hj hn) hdg ?_
  rw [nI_clamp (by omega), hf]
  exact kk
end ROWS9B
