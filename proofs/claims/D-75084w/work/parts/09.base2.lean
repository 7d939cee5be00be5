/-! BASE, part 2: worlds cell by cell; arrays of arrays; contents of an array by its places -/
set_option maxRecDepth 100000
theorem va_nil {D : va_G} {H : Heap} : va_P D clA [] H := fun k q h => by simp at h
theorem va_cons {D : va_G} {q : Nat × va_E} {ws : va_W} {H : Heap} (h : va_at D clA q H) (t : va_P D clA ws H) : va_P D clA (q :: ws) H := by
  intro k x hk
  cases k with
  | zero => simp at hk; subst hk; exact h
  | succ k => exact t k x (by simpa using hk)
/-- a cell that a call with two cells p, q leaves -/
theorem va_keep2 {D : va_G} {A : Nat → Prop} {ws : va_W} {H H1 : Heap} {p q : Nat} {ep eq_ : va_E} {cn : Nat × va_E} (hP : va_P D clA ws H) (hD : va_D A ws) (hk : ∀ x : Nat, x < H.size → ¬ (x = p ∨ x = q) → H1[x]? = H[x]?) (i j n : Nat) (hi : ws[i]? = some (p, ep)) (hj : ws[j]? = some (q, eq_)) (hn : ws[n]? = some cn) (h1 : n ≠ i) (h2 : n ≠ j) : va_at D clA cn H1 := by
  refine (hP n cn hn).kept (hk cn.1 (hP n cn hn).lt ?_)
  rintro (h | h)
  · exact h1 (hD.1 n i cn (p, ep) hn hi h)
  · exact h2 (hD.1 n j cn (q, eq_) hn hj h)
theorem arrV_cg {cI : ClassId} {N : Nat} {f g : Nat → Value} (h : ∀ j, j < N → f j = g j) : arrV cI N f = arrV cI N g := by
  unfold arrV
  congr 1
  apply Array.ext
  · simp
  · intro j h1 h2
    simp at h1 h2 ⊢
    exact h j h1
theorem va_cgi {D : va_G} {a : Nat} {c : ClassId} {N : Nat} {f g : Nat → Int32} {H : Heap} (h : va_at D clA (a, .inl (c, N, .inl f)) H) (e : ∀ j, j < N → f j = g j) : va_at D clA (a, .inl (c, N, .inl g)) H := by
  show H[a]? = some (vp_cell c (N, .inl g))
  rw [vp_cell_i, ← arrV_cg (f := fun j => .int (f j)) (fun j hj => by rw [e j hj])]
  exact h
section ROWS2
variable {p : Program} {l : Launch} {e : Env} {R : Room} {s : State} {m : MethodId} {args : Array Value} {below : List Frame} {meth : Method} {c : Code} {H : Heap} {locs : List Loc} {cells slots : Nat} {Q : State → Prop}
variable {cc : ByteArray} {pc : Nat} {ls : Array Slot} {rest : List Value} {D : va_G} {k : Nat → ClassId}
theorem w_hald {ws : va_W} {a b : Nat} (hexec : p.tables.exec = Jvm.exec) (hb : c.code = cc) (hK : KA D k s) (hP : va_P D clA ws H) (q0 : Nat) {n : Nat} {f : Nat → Option Nat} (ha : ws[q0]? = some (a, .inl (k 4, n, .inr (.inr (.inr (.inr f)))))) {i : Int32} (j : Nat) (hi : i = nI j) (hj : j < n) (hn : n < 2 ^ 31) (hv : f j = some b) (hdg : decode cc pc = .ok (.aaload, 1))
    (kk : W p l e R s m args below meth c H locs cells slots Q (F0 m (pc + 1) ls (.ref b :: rest))) : W p l e R s m args below meth c H locs cells slots Q (F0 m pc ls (.int i :: .ref a :: rest)) := by
  subst hi
  have hin : vp_in (nI j) n := vp_in_nI hj hn
  have hc : (nI j).toNatClampNeg = j := nI_clamp (Nat.lt_trans hj hn)
  refine W.aald (v := .ref b) (ty := .array .int) hexec hb (hP q0 _ ha) ((hK.2 4 _ rfl).1 n (fun j => va_rf (f j))) rfl (fun q => by cases q) (by show ¬ (nI j < 0 ∨ (arrV _ _ _).slots.size ≤ _); rw [arrV_size]; exact hin) ?_ rfl rfl hdg kk
  show (arrV _ _ _).slots[_]? = _
  rw [hc, arrV_read _ _ hj, hv]
  rfl
end ROWS2
/-- the reference's other cells: draft, buffer, stack, history and its eight arrays -/
abbrev hW (k : Nat → ClassId) (a9 a1 a15 a10 : Nat) (hh : Nat → Nat) (dr fb : Nat → Int32) (st : Nat → Int64) (hs : Nat → Nat → Int32) : va_W :=
  [(a9, .inl (k 0, 1798, .inl dr)), (a1, .inl (k 0, 900, .inl fb)), (a15, .inl (k 2, 1500, .inr (.inl st))), (a10, .inl (k 4, 8, .inr (.inr (.inr (.inr (fun j => some (hh j))))))), (hh 0, .inl (k 0, 1798, .inl (hs 0))), (hh 1, .inl (k 0, 1798, .inl (hs 1))), (hh 2, .inl (k 0, 1798, .inl (hs 2))), (hh 3, .inl (k 0, 1798, .inl (hs 3))), (hh 4, .inl (k 0, 1798, .inl (hs 4))), (hh 5, .inl (k 0, 1798, .inl (hs 5))), (hh 6, .inl (k 0, 1798, .inl (hs 6))), (hh 7, .inl (k 0, 1798, .inl (hs 7)))]
/-- the history behind 'remember' -/
def rem (u : Nat) (d : Nat → Int32) (hs : Nat → Nat → Int32) : Nat → Nat → Int32 := fun j => if u = 8 then (if j < 7 then hs (j + 1) else d) else (if j = u then d else hs j)
def remU (u : Nat) : Nat := if u = 8 then 8 else u + 1
