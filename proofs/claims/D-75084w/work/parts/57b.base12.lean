/-! BASE, part 12b: Object[]s again; lists and the deque in plain words -/
set_option maxRecDepth 100000
theorem D_sub {A : Nat → Prop} {ws ws' : va_W} (hD : va_D A ws) (is : List Nat) (hn : va_nd is = true) (hs : is.map (fun i => ws[i]?) = ws'.map some) : va_D A ws' := hD.sub is hn hs
theorem rfs_z (ad : Nat → Nat) : rfs 0 ad = fun _ => none := funext fun j => if_neg (Nat.not_lt_zero j)
def adp (ad : Nat → Nat) (c v : Nat) : Nat → Nat := fun j => if j = c then v else ad j
theorem adp_s (ad : Nat → Nat) (c v : Nat) : adp ad c v c = v := if_pos rfl
theorem adp_n {ad : Nat → Nat} {c v j : Nat} (h : j ≠ c) : adp ad c v j = ad j := if_neg h
theorem rfs_up (ad : Nat → Nat) (c v : Nat) : va_up (rfs c ad) c (some v) = rfs (c + 1) (adp ad c v) := by
  funext j
  unfold va_up rfs adp
  by_cases h : j = c
  · rw [if_pos h, if_pos (by omega), if_pos h]
  · rw [if_neg h, if_neg h]
    by_cases h2 : j < c
    · rw [if_pos h2, if_pos (by omega)]
    · rw [if_neg h2, if_neg (by omega)]
theorem rfs_set {ad : Nat → Nat} {c j v : Nat} (hj : j < c) : va_up (rfs c ad) j (some v) = rfs c (adp ad j v) := by
  funext i
  unfold va_up rfs adp
  by_cases h : i = j
  · rw [if_pos h, if_pos (by omega), if_pos h]
  · rw [if_neg h, if_neg h]
theorem rfs_cg {c : Nat} {ad ad' : Nat → Nat} (h : ∀ j, j < c → ad j = ad' j) : rfs c ad = rfs c ad' := by
  funext j
  unfold rfs
  by_cases h2 : j < c
  · rw [if_pos h2, if_pos h2, h j h2]
  · rw [if_neg h2, if_neg h2]
theorem rfs_cpy {c n : Nat} {ad : Nat → Nat} (h : c ≤ n) : va_cpy (rfs c ad) (rfs 0 (fun _ => 0)) 0 0 n = rfs c ad := by
  funext j
  unfold va_cpy
  by_cases h2 : 0 ≤ j ∧ j < 0 + n
  · rw [if_pos h2, Nat.sub_zero, Nat.zero_add]
  · rw [if_neg h2]
    unfold rfs
    rw [if_neg (by omega), if_neg (by omega)]
/-- the deque's array: n desks from place h on -/
def dqf (h n : Nat) (ad : Nat → Nat) : Nat → Option Nat := fun j => if j < 17 ∧ (j + 17 - h) % 17 < n then some (ad ((j + 17 - h) % 17)) else none
theorem dq_add {h n : Nat} {ad : Nat → Nat} (v : Nat) (hh : h < 17) (hn : n < 17) : va_up (dqf h n ad) ((h + n) % 17) (some v) = dqf h (n + 1) (adp ad n v) := by
  funext j
  unfold va_up dqf adp
  by_cases e : j = (h + n) % 17
  · rw [if_pos e, if_pos (by omega), if_pos (by omega)]
  · rw [if_neg e]
    by_cases c : j < 17 ∧ (j + 17 - h) % 17 < n
    · rw [if_pos c, if_pos (by omega), if_neg (by omega)]
    · rw [if_neg c, if_neg (by omega)]
theorem dq_first {h n : Nat} {ad : Nat → Nat} (hh : h < 17) (hn : 0 < n) : dqf h n ad h = some (ad 0) := by
  unfold dqf
  rw [if_pos (by omega), show (h + 17 - h) % 17 = 0 by omega]
theorem dq_poll {h n : Nat} {ad : Nat → Nat} (hh : h < 17) (hn : n < 17) : va_up (dqf h (n + 1) ad) h none = dqf ((h + 1) % 17) n (fun i => ad (i + 1)) := by
  funext j
  unfold va_up dqf
  by_cases e : j = h
  · rw [if_pos e, if_neg (by omega)]
  · rw [if_neg e]
    by_cases c : j < 17 ∧ (j + 17 - h) % 17 < n + 1
    · rw [if_pos c, if_pos (by omega)]
      exact congrArg (fun x => some (ad x)) (by omega)
    · rw [if_neg c, if_neg (by omega)]
theorem dq_last {h n : Nat} {ad : Nat → Nat} (hh : h < 17) (hn : n < 17) : dqf h (n + 1) ad ((h + n) % 17) = some (ad n) := by
  unfold dqf
  rw [if_pos (by omega), show ((h + n) % 17 + 17 - h) % 17 = n by omega]
theorem dq_pop {h n : Nat} {ad : Nat → Nat} (hh : h < 17) (hn : n < 17) : va_up (dqf h (n + 1) ad) ((h + n) % 17) none = dqf h n ad := by
  funext j
  unfold va_up dqf
  by_cases e : j = (h + n) % 17
  · rw [if_pos e, if_neg (by omega)]
  · rw [if_neg e]
    by_cases c : j < 17 ∧ (j + 17 - h) % 17 < n + 1
    · rw [if_pos c, if_pos (by omega)]
    · rw [if_neg c, if_neg (by omega)]
theorem dq_0 (ad : Nat → Nat) : rfs 0 (fun _ => 0) = dqf 0 0 ad := by
  funext j
  unfold rfs dqf
  rw [if_neg (by omega), if_neg (by omega)]
theorem dq_cg {h n : Nat} {ad ad' : Nat → Nat} (e : ∀ i, i < n → ad i = ad' i) : dqf h n ad = dqf h n ad' := by
  funext j
  unfold dqf
  by_cases c : j < 17 ∧ (j + 17 - h) % 17 < n
  · rw [if_pos c, if_pos c, e _ c.2]
  · rw [if_neg c, if_neg c]
theorem dq_dec : (∀ a, a < 17 → 0 ≤ nI a + (-1) → nI a + (-1) = nI ((a + 16) % 17)) ∧ ∀ a, a < 17 → ¬ 0 ≤ nI a + (-1) → nI 17 - 1 = nI ((a + 16) % 17) := by decide
set_option maxHeartbeats 4000000 in
theorem dq_sub : ∀ a, a < 17 → ∀ b, b < 17 → (0 ≤ nI a - nI b → nI a - nI b = nI ((a + 17 - b) % 17)) ∧ (¬ 0 ≤ nI a - nI b → nI a - nI b + nI 17 = nI ((a + 17 - b) % 17)) := by decide +kernel
theorem sh1 : ∀ n, n < 64 → nI n >>> ((1 : Int32) &&& 31) = nI (n / 2) := by decide +kernel
theorem mx1 : ∀ n, n < 64 → mx 1 (nI n) = nI (1 + (n - 1)) := by decide +kernel
theorem sub1 {c n : Nat} (h : c = n) : nI (c + 1) - nI n = 1 := by
  subst h
  rw [← nI_1 c, Int32.add_comm, Int32.add_sub_cancel]
section ROWS12B
variable {p : Program} {l : Launch} {e : Env} {R : Room} {s : State} {m : MethodId} {args : Array Value} {below : List Frame} {meth : Method} {c : Code} {H : Heap} {locs : List Loc} {cells slots : Nat} {Q : State → Prop}
variable {cc : ByteArray} {nL : Nat} {ret : Option FieldType} {own : String} {pc : Nat} {ls : Array Slot} {rest st0 : List Value} {D : va_G} {k : Nat → ClassId} {A : Nat → Prop} {ws : va_W} {H0 : Heap} {nc ns : Nat}
theorem o_astN (hexec : p.tables.exec = Jvm.exec) (hb : c.code = cc) (hK : KA D k s) (hP : va_P D clA ws H) (hD : va_D A ws) (hS : va_S A H0 H locs) (q0 : Nat) {a n : Nat} {f : Nat → Option Nat} (ha : ws[q0]? = some (a, .inl (k 3, n, .inr (.inr (.inr (.inr f)))))) (j : Nat) {i : Int32} (hi : i = nI j) (hj : j < n) (hn : n < 2 ^ 31) (hdg : decode cc pc = .ok (.aastore, 1))
    (kk : ∀ (H1 : Heap) (locs1 : List Loc), va_P D clA (ws.set q0 (a, .inl (k 3, n, .inr (.inr (.inr (.inr (va_up f j none))))))) H1 → va_D A (ws.set q0 (a, .inl (k 3, n, .inr (.inr (.inr (.inr (va_up f j none))))))) → va_S A H0 H1 locs1 → W p l e R s m args below meth c H1 locs1 cells slots Q (F0 m (pc + 1) ls rest)) : W p l e R s m args below meth c H locs cells slots Q (F0 m pc ls (.null :: .int i :: .ref a :: rest)) := by
  subst hi
  refine va_astqN (C := "java/lang/Object") hexec hb hK hP hD hS q0 3 ha rfl (vp_in_nI hj hn) hdg ?_
  rw [nI_clamp (by omega)]
  exact kk
theorem n_newr (hexec : p.tables.exec = Jvm.exec) (hb : c.code = cc) {index : Nat} (hown : s.vm.findClass own = some m.cls) (hclink : (Cond.classLink own index "java/lang/Object").before args s = true) (hover : va_AO "java/lang/Object" s) (hK : KA D k s) (hP : va_P D clA ws H) (hD : va_D A ws) (hS : va_S A H0 H locs) (hA : ∀ q, H0.size ≤ q → A q)
    {N' : Nat} (hbytes : N' * 4 ≤ 536870912) (hcells : cells + 1 ≤ R.cells) (hslots : slots + N' ≤ R.slots) (hdg : decode cc pc = .ok (.anewarray index, 3))
    (kk : ∀ (q : Nat) (H1 : Heap), va_P D clA ((q, .inl (k 3, N', .inr (.inr (.inr (.inr (rfs 0 (fun _ => 0))))))) :: ws) H1 → va_D A ((q, .inl (k 3, N', .inr (.inr (.inr (.inr (rfs 0 (fun _ => 0))))))) :: ws) → va_S A H0 H1 locs →
      W p l e R s m args below meth c H1 locs (cells + 1) (slots + N') Q (F0 m (pc + 3) ls (.ref q :: rest))) : W p l e R s m args below meth c H locs cells slots Q (F0 m pc ls (.int (nI N') :: rest)) := by
  have hlt : N' < 2 ^ 31 := by omega
  refine n_newq hexec hb hown hclink hover hK hP hD hS hA (fun z => ?_) (nI_clamp hlt) hbytes hcells hslots hdg fun q H1 hP hD hS => ?_
  · have := nI_lt' (b := 0) z hlt (by decide)
    omega
  · have e : (fun _ => none : Nat → Option Nat) = rfs 0 (fun _ => 0) := (rfs_z _).symm
    rw [e] at hP hD
    exact kk q H1 hP hD hS
/-- an Object[] is copied into a new one that is no shorter -/
theorem o_copy (hexec : p.tables.exec = Jvm.exec) (hb : c.code = cc) (hml : c.maxLocals = ls.size) {index : Nat} (hown : s.vm.findClass own = some m.cls) (hlink : (Cond.methodLink own index arraycopyName).before args s = true) (hnat : (Cond.native arraycopyName).before args s = true) (hstat : (Cond.static arraycopyName).before args s = true) (hini : (Cond.initialized "java/lang/System").before args s = true)
    (hK : KA D k s) (hN : NW s) (hP : va_P D clA ws H) (hD : va_D A ws) (hS : va_S A H0 H locs) (q0 q1 : Nat) {a0 a cN n0 n1 : Nat} {ad : Nat → Nat} (ha0 : ws[q0]? = some (a0, .inl (k 3, n0, .inr (.inr (.inr (.inr (rfs cN ad))))))) (ha1 : ws[q1]? = some (a, .inl (k 3, n1, .inr (.inr (.inr (.inr (rfs 0 (fun _ => 0)))))))) (hcn : cN ≤ n0) (h01 : n0 ≤ n1) (hn1 : n1 < 2 ^ 31) (hob : ∀ j, j < cN → obD D (ad j) s.heap)
    (hframes : 1 ≤ R.frames) (hlocals : (rest.map fun v => v.category).sum + (nativeFrameWords "java/lang/System" "arraycopy" 5 + 11) ≤ R.locals) (hdg : decode cc pc = .ok (.invokestatic index, 3))
    (kk : ∀ (H1 : Heap) (locs1 : List Loc), va_P D clA (ws.set q1 (a, .inl (k 3, n1, .inr (.inr (.inr (.inr (rfs cN ad))))))) H1 → va_D A (ws.set q1 (a, .inl (k 3, n1, .inr (.inr (.inr (.inr (rfs cN ad))))))) → va_S A H0 H1 locs1 → W p l e R s m args below meth c H1 locs1 cells slots Q (F0 m (pc + 3) ls rest)) : W p l e R s m args below meth c H locs cells slots Q (F0 m pc ls (.int (nI n0) :: .int 0 :: .ref a :: .int 0 :: .ref a0 :: rest)) := by
  intro T hT X
  have e0 : (0 : Int32).toNatClampNeg = 0 := rfl
  have en : (nI n0).toNatClampNeg = n0 := nI_clamp (by omega)
  refine (va_copyM (E0 := "java/lang/Object") (E1 := "java/lang/Object") hexec hb hml hown hlink hnat hstat hini hK hP hD hS q0 q1 3 3 ha0 ha1 rfl rfl (by decide) (by decide) (fun z => ?_) ?_ ?_ ?_ hframes hlocals hdg ?_) T hT X
  · have := nI_lt' (b := 0) z (by omega) (by decide)
    omega
  · rw [e0, en]; omega
  · rw [e0, en]; omega
  · intro i hi y hy
    rw [e0, Nat.zero_add] at hy
    unfold rfs at hy
    split at hy
    · rename_i hlt
      have := any_obD hK hN (obD_now X (hob i hlt))
      rw [hT, Option.some.inj hy] at this
      exact this
    · cases hy
  · rw [e0, en, rfs_cpy hcn]
    exact kk
end ROWS12B
theorem arr_cls {D : va_G} {k : Nat → ClassId} {s : State} {ws : va_W} {H : Heap} {a n : Nat} {f : Nat → Option Nat} (hK : KA D k s) (hP : va_P D clA ws H) (q0 : Nat) (ha : ws[q0]? = some (a, .inl (k 3, n, .inr (.inr (.inr (.inr f)))))) : ∃ cell : Cell, H[a]? = some cell ∧ cell.vm.isStatics = false ∧ s.vm.findClass "[Ljava/lang/Object;" = some cell.cls :=
  ⟨_, hP q0 _ ha, rfl, va_nmO (hK.2 3 _ rfl).2 (by decide +kernel)⟩
