/-! BASE, part 6: an array of arrays is made; contracts nM -/
set_option maxRecDepth 100000
def hsA (q N : Nat) : Nat → Option Nat := fun j => if j < N then some (q + 1 + j) else none
theorem outer_i {c : ClassId} {N q : Nat} : ∀ i, Jvm.Free.Multi.outerC c N q i = arrV c N (fun j => va_rf (hsA q i j))
  | 0 => by
    show ({ cls := c, slots := Array.replicate N .null, vm := .none } : Cell) = _
    rw [arrV_new]
    congr 1
  | i + 1 => by
    show (Jvm.Free.Multi.outerC c N q i).setSlot i (.ref (q + 1 + i)) = _
    rw [outer_i i, arrV_store]
    congr 1
    funext j
    by_cases h : j = i
    · subst h
      simp [updV, hsA, va_rf]
    · simp only [updV, hsA, h, if_false]
      by_cases h2 : j < i
      · rw [if_pos h2, if_pos (by omega)]
      · rw [if_neg h2, if_neg (by omega)]
theorem outer_arr {c : ClassId} {N q : Nat} : Jvm.Free.Multi.outerC c N q N = arrV c N (fun j => va_rf (hsA q N j)) := outer_i N
section ROWS6
variable {p : Program} {l : Launch} {e : Env} {R : Room} {s : State} {m : MethodId} {args : Array Value} {below : List Frame} {meth : Method} {c : Code} {H : Heap} {locs : List Loc} {cells slots : Nat} {Q : State → Prop}
variable {cc : ByteArray} {nL : Nat} {ret : Option FieldType} {own : String} {pc : Nat} {ls : Array Slot} {rest st0 : List Value} {D : va_G} {k : Nat → ClassId} {A : Nat → Prop} {ws : va_W} {H0 : Heap}
/-- the cells of a fresh array of N arrays of M numbers -/
def mulW (k : Nat → ClassId) (q N M : Nat) : va_W := (q, .inl (k 4, N, .inr (.inr (.inr (.inr (hsA q N)))))) :: (List.range N).map (fun j => (q + 1 + j, .inl (k 0, M, .inl (fun _ => 0))))
theorem n_multi (hexec : p.tables.exec = Jvm.exec) (hb : c.code = cc) {index : Nat} (hown : s.vm.findClass own = some m.cls) (hclink : (Cond.classLink own index "[[I").before args s = true)
    (hover : (Cond.arrayOver (.array .int)).before args s = true) (harr : (Cond.arrayClass .int).before args s = true) (hK : KA D k s) (hP : va_P D clA ws H) (hD : va_D A ws) (hS : va_S A H0 H locs) (hA : ∀ q, H0.size ≤ q → A q)
    {n w : Int32} {N M : Nat} (hn : ¬ n < 0) (hw : ¬ w < 0) (hN : n.toNatClampNeg = N) (hM : w.toNatClampNeg = M) (hb1 : N * 4 ≤ 536870912) (hb2 : M * 4 ≤ 536870912)
    (hcells : cells + (1 + N) ≤ R.cells) (hslots : slots + (N + N * M) ≤ R.slots) (hdg : decode cc pc = .ok (.multianewarray index 2, 4))
    (kk : ∀ (q : Nat) (H1 : Heap), H0.size ≤ q → va_P D clA (mulW k q N M ++ ws) H1 → va_D A (mulW k q N M ++ ws) → va_S A H0 H1 locs →
      W p l e R s m args below meth c H1 locs (cells + 1 + N) (slots + N + N * M) Q (F0 m (pc + 4) ls (.ref q :: rest))) : W p l e R s m args below meth c H locs cells slots Q (F0 m pc ls (.int w :: .int n :: rest)) := by
  subst hN hM
  intro T hT X
  obtain ⟨vm₁, cA, comp, hW1, hfA, hfC, -, -, X1, step⟩ := X.multianewarray2F hexec (own := own) (index := index) (ty := .int) hown hclink hover harr
      (g := F0 m pc ls (.int w :: .int n :: rest)) rfl (by rw [hb]; exact hdg) (n := n) (k := w) (rest := rest) rfl hn hw hb1 hb2 (by omega) rfl rfl hcells hslots
  have e4 : cA = k 4 := Option.some.inj (hfA.symm.trans (hK.2 4 _ rfl).2)
  have e0 : comp = k 0 := Option.some.inj (hfC.symm.trans (hK.2 0 _ rfl).2)
  subst e4 e0
  obtain ⟨f1, f2, f3, f4⟩ := Jvm.Free.Multi.fill_facts (T.setVm vm₁) (k 4) (k 0) n.toNatClampNeg w.toNatClampNeg (defaultValue .int) n.toNatClampNeg
  have fo := fun (a : Nat) (ha : a < H.size) => Jvm.Free.Multi.fill_old (T.setVm vm₁) (k 4) (k 0) n.toNatClampNeg w.toNatClampNeg (defaultValue .int) (a := a) (by show a < T.heap.size; rw [hT]; exact ha) n.toNatClampNeg
  have fi := Jvm.Free.Multi.fill_inner (T.setVm vm₁) (k 4) (k 0) n.toNatClampNeg w.toNatClampNeg (defaultValue .int) n.toNatClampNeg
  have hz : (T.setVm vm₁).heap = H := hT
  rw [hz] at f1 f2 fi
  generalize hT' : Jvm.Free.Multi.fill (T.setVm vm₁) (k 4) (k 0) n.toNatClampNeg w.toNatClampNeg (defaultValue .int) n.toNatClampNeg = T' at *
  have fo' : ∀ a : Nat, a < H.size → T'.heap[a]? = H[a]? := fun a ha => by rw [fo a ha, hz]
  have hPk : va_P D clA ws T'.heap := hP.kept (fun k x hx => fo' x.1 ((hP k x hx).lt))
  have hmem : ∀ x ∈ mulW k H.size n.toNatClampNeg w.toNatClampNeg, va_at D clA x T'.heap := by
    intro x hx
    rcases List.mem_cons.mp hx with rfl | hx
    · show T'.heap[H.size]? = some (vp_cell _ _)
      rw [f2, outer_arr]
      rfl
    · obtain ⟨j, hj, rfl⟩ := List.mem_map.mp hx
      show T'.heap[H.size + 1 + j]? = some (vp_cell _ _)
      rw [fi j (List.mem_range.mp hj)]
      exact congrArg some (arrV_new _ _ _)
  have hge : ∀ x ∈ mulW k H.size n.toNatClampNeg w.toNatClampNeg, H.size ≤ x.1 := by
    intro x hx
    rcases List.mem_cons.mp hx with rfl | hx
    · exact Nat.le_refl _
    · obtain ⟨j, hj, rfl⟩ := List.mem_map.mp hx
      show H.size ≤ H.size + 1 + j
      omega
  obtain ⟨t, a1, b1⟩ := kk H.size T'.heap hS.1 (va_P_mem.mpr (fun x hx => by
      rcases List.mem_append.mp hx with h | h
      · exact hmem x h
      · exact va_P_mem.mp hPk x h)) (va_D_nod.mpr ⟨by
        rw [List.map_append]
        refine List.nodup_append.mpr ⟨?_, (va_D_nod.mp hD).1, ?_⟩
        · show (H.size :: ((List.range n.toNatClampNeg).map _).map Prod.fst).Nodup
          rw [List.map_map, List.nodup_cons]
          refine ⟨fun h => ?_, ?_⟩
          · obtain ⟨j, -, hj⟩ := List.mem_map.mp h
            have hj : H.size + 1 + j = H.size := hj
            omega
          · rw [List.nodup_iff_pairwise_ne, List.pairwise_map]
            refine (List.nodup_iff_pairwise_ne.mp List.nodup_range).imp (fun {a b} hab h => hab ?_)
            have h : H.size + 1 + a = H.size + 1 + b := h
            omega
        · intro a ha b hb hab
          obtain ⟨x, hx, rfl⟩ := List.mem_map.mp ha
          obtain ⟨y, hy, rfl⟩ := List.mem_map.mp hb
          have h1 := hge x hx
          have h2 := (va_P_mem.mp hP y hy).lt
          omega, fun x hx => by
        rcases List.mem_append.mp hx with h | h
        · exact hA _ (Nat.le_trans hS.1 (hge x h))
        · exact (va_D_nod.mp hD).2 x h⟩) ⟨by have := hS.1; omega, fun x h1 h2 => (fo' x (Nat.lt_of_lt_of_le h1 hS.1)).trans (hS.2.1 x h1 h2), hS.2.2⟩ T' rfl X1
  exact ⟨t, step t (by rw [hT]; exact a1), b1⟩
end ROWS6
