/-! BASE, part 26: a lambda that captures -/
set_option maxRecDepth 100000
theorem lam_site {cf : ClassFile} {index : Nat} {σ : Lambda.Shape} (h : Lambda.shapeOf? cf index = some σ) :
    ∃ b nt name desc sig, cf.constantPool[index]? = some (.invokeDynamic b nt) ∧ cf.constantPool.nameAndType? nt = some (name, desc) ∧ parseMethodDescriptor desc = some sig ∧ sig.parameters = σ.captured := by
  unfold Lambda.shapeOf? at h
  have bi : ∀ {α β : Type} {o : Option α} {f : α → Option β} {z : β}, (o >>= f) = some z → ∃ y, o = some y ∧ f y = some z := fun h => Option.bind_eq_some_iff.mp h
  rcases hidx : cf.constantPool[index]? with _ | x0
  · rw [hidx] at h; cases h
  rw [hidx] at h
  cases x0 with
  | invokeDynamic b nt =>
    obtain ⟨entries, -, h⟩ := bi h
    obtain ⟨bm, -, h⟩ := bi h
    rcases hr : cf.constantPool[bm.bootstrapMethodRef]? with _ | x1
    · rw [hr] at h; cases h
    rw [hr] at h
    cases x1 with
    | methodHandle kd r =>
      rcases kd with _ | _ | _ | _ | _ | _ | _ | kd
      · cases h
      · cases h
      · cases h
      · cases h
      · cases h
      · cases h
      · obtain ⟨u1, -, h⟩ := bi h
        generalize bm.bootstrapArguments = ba at h
        obtain ⟨bl⟩ := ba
        rcases bl with _ | ⟨a0, _ | ⟨a1, _ | ⟨a2, _ | ⟨a3, r⟩⟩⟩⟩
        · cases h
        · cases h
        · cases h
        · conv at h => lhs; whnf
          split at h
          · split at h
            · split at h
              · obtain ⟨⟨name, desc⟩, hnd, h⟩ := bi h
                obtain ⟨site, hsite, h⟩ := bi h
                rcases hrt : site.returnType with _ | ft
                · rw [hrt] at h; cases h
                rw [hrt] at h
                cases ft with
                | object iface =>
                  obtain ⟨⟨ic, iname, idesc, iitf⟩, -, h⟩ := bi h
                  obtain ⟨u2, -, h⟩ := bi h
                  obtain ⟨u3, -, h⟩ := bi h
                  obtain ⟨u4, -, h⟩ := bi h
                  obtain ⟨u5, -, h⟩ := bi h
                  obtain ⟨u6, -, h⟩ := bi h
                  refine ⟨b, nt, name, desc, site, rfl, hnd, hsite, ?_⟩
                  cases h
                  rfl
                | _ => cases h
              · cases h
            · cases h
          · cases h
        · cases h
      · cases h
    | _ => cases h
  | _ => cases h
section ROWS26
variable {p : Program} {l : Launch} {e : Env} {R : Room} {s : State} {m : MethodId} {args : Array Value} {below : List Frame} {meth : Method} {c : Code} {H : Heap} {locs : List Loc} {cells slots : Nat} {Q : State → Prop}
variable {cc : ByteArray} {pc : Nat} {ls : Array Slot} {rest : List Value} {A : Nat → Prop} {H0 : Heap}
theorem w_lamM {x : MethodName} {index : Nat} {σ : Lambda.Shape} {cK : ClassId} {caller : String} {ccF : ByteArray} {mi ci nt nu : Nat} {vals : List Value} (hexec : p.tables.exec = Jvm.exec) (hb : c.code = cc) (hml : c.maxLocals = ls.size) (hts : ∀ w ∈ lw_all, w.before args s = true) (hm : s.methodNamed? x = some m) (hL : LF x pc index σ cK none s) (hx : x.cls = caller) (K : lmOK σ caller ccF mi ci nt nu)
    (hlen : vals.length = σ.captured.length) (hty : (lmL σ caller).2.1.toList.length = vals.length) (hnar : (((lmL σ caller).2.1.toList.zip vals).map fun (t, v) => narrow t v) = vals) (hfit : ∀ (i : Nat) (v : Value), vals[i]? = some v → ∃ t, (lmL σ caller).2.1[i]? = some t ∧ fits t v = true)
    (hS : va_S A H0 H locs) (hloc : ((vals.reverse ++ rest).map fun v => v.category).sum + 3072 ≤ R.locals) (hc : cells + 1 ≤ R.cells) (hs : slots + vals.length ≤ R.slots) (hdg : decode cc pc = .ok (.invokedynamic index, 5))
    (kk : ∀ H1 : Heap, va_S A H0 H1 locs → H.size < H1.size → (∀ q : Nat, q < H.size → H1[q]? = H[q]?) → H1[H.size]? = some { cls := cK, slots := vals.toArray, vm := .none } → W p l e R s m args below meth c H1 locs (cells + 1) (slots + vals.length) Q (F0 m (pc + 5) ls (.ref H.size :: rest))) : W p l e R s m args below meth c H locs cells slots Q (F0 m pc ls (vals.reverse ++ rest)) := by
  intro T hT X
  obtain ⟨kK, tk, file, methk, ck, toy, t, hkK, -, -, -, -, -, -, -, -, -, -, -, -, -, -, -, -, hinst, hkind⟩ := LF.made hL hx K hts (State.WarmedH.refl s)
  obtain ⟨m', k, cf, i0, p0, l', h1, h2, h3, h4, h5, h6, h7, h8⟩ := hL
  cases hm.symm.trans h1
  obtain ⟨b, nt', name, desc, sig, e1, e2, e3, e4⟩ := lam_site h4
  rcases h8 with ⟨a', cell, -, q1, -⟩ | ⟨rfl, -, -⟩
  · cases q1
  have hE : ((kK.instanceTypes.toList.zip vals).map fun (t, v) => narrow t v) = vals := by rw [hinst]; exact hnar
  obtain ⟨X₁, st1⟩ := X.lambdaMakes hexec (g := F0 m pc ls (vals.reverse ++ rest)) rfl hml.symm (by rw [hb]; exact hdg) (vals := vals) (rest := rest) h2 h5 h3 e1 e2 (parseLong_of_parse e3) (by rw [e4]; exact hlen) rfl hkK
    (by rw [lam_words X.admits]; show 2 * 0 + _ + 3072 ≤ R.locals; rw [Nat.mul_zero, Nat.zero_add]; exact hloc) hc (by rw [hE]; exact hs)
    (fun i v hv => by
      rw [hE, List.getElem?_toArray] at hv
      obtain ⟨t', ht', hf'⟩ := hfit i v hv
      have hk2 : s.slotType? cK .none i = some t' := by
        unfold State.slotType?
        rw [hkK]
        show (match kK.kind with | .array _ type => some type | _ => kK.instanceTypes[i]?) = some t'
        rw [hkind, hinst]
        exact ht'
      unfold State.fitsSlot
      rw [hk2]
      exact hf')
  rw [hE] at X₁ st1
  have hsz : T.heap.size = H.size := by rw [hT]
  have hold : ∀ q : Nat, q < H.size → (T.pushCell { cls := cK, slots := vals.toArray, vm := .none }).heap[q]? = H[q]? := fun q hq => by
    rw [State.heap_pushCell_of_lt _ _ (by rw [hsz]; exact hq), hT]
  have hnew : (T.pushCell { cls := cK, slots := vals.toArray, vm := .none }).heap[H.size]? = some { cls := cK, slots := vals.toArray, vm := .none } := by
    rw [← hsz]; exact State.heap_pushCell_size _ _
  have hlt : H.size < (T.pushCell { cls := cK, slots := vals.toArray, vm := .none }).heap.size := (Array.getElem?_eq_some_iff.mp hnew).1
  obtain ⟨t2, a1, b1⟩ := kk _ ⟨Nat.le_trans hS.1 (Nat.le_of_lt hlt), fun q g1 g2 => (hold q (Nat.lt_of_lt_of_le g1 hS.1)).trans (hS.2.1 q g1 g2), hS.2.2⟩ hlt hold hnew _ rfl (by simpa using X₁)
  refine ⟨t2, st1 t2 ?_, b1⟩
  rw [hsz]
  exact a1
end ROWS26
