/-! BASE, part 19: byte arrays -/
set_option maxRecDepth 100000
theorem nar_b (x : Int32) : vp_nar .byte x.toInt8.toInt32 = x.toInt8.toInt32 := by
  show x.toInt8.toInt32.toInt8.toInt32 = _
  rw [Int8.toInt8_toInt32]
section ROWS19
variable {p : Program} {l : Launch} {e : Env} {R : Room} {s : State} {m : MethodId} {args : Array Value} {below : List Frame} {meth : Method} {c : Code} {H : Heap} {locs : List Loc} {cells slots : Nat} {Q : State → Prop}
variable {cc : ByteArray} {nL : Nat} {ret : Option FieldType} {own : String} {pc : Nat} {ls : Array Slot} {rest st0 : List Value} {D : va_G} {k : Nat → ClassId} {A : Nat → Prop} {ws : va_W} {H0 : Heap} {nc ns : Nat}
theorem w_bald {a : Nat} (hexec : p.tables.exec = Jvm.exec) (hb : c.code = cc) (hK : KA D k s) (hP : va_P D clA ws H) (q0 : Nat) {n : Nat} {f : Nat → Int32} (ha : ws[q0]? = some (a, .inl (k 1, n, .inl f))) {i : Int32} (j : Nat) (hi : i = nI j) (hj : j < n) (hn : n < 2 ^ 31) (hdg : decode cc pc = .ok (.baload, 1))
    (kk : W p l e R s m args below meth c H locs cells slots Q (F0 m (pc + 1) ls (.int (f j) :: rest))) : W p l e R s m args below meth c H locs cells slots Q (F0 m pc ls (.int i :: .ref a :: rest)) := by
  subst hi
  refine va_bald hexec hb hK hP q0 1 ha rfl (vp_in_nI hj hn) hdg ?_
  rw [nI_clamp (Nat.lt_trans hj hn)]
  exact kk
theorem w_bast {a : Nat} (hexec : p.tables.exec = Jvm.exec) (hb : c.code = cc) (hK : KA D k s) (hP : va_P D clA ws H) (hD : va_D A ws) (hS : va_S A H0 H locs) (q0 : Nat) {n : Nat} {f : Nat → Int32} (ha : ws[q0]? = some (a, .inl (k 1, n, .inl f))) {i x : Int32} (j : Nat) (hx : vp_nar .byte x = x) (hi : i = nI j) (hj : j < n) (hn : n < 2 ^ 31) (hdg : decode cc pc = .ok (.bastore, 1))
    (kk : ∀ (H1 : Heap) (locs1 : List Loc), va_P D clA (ws.set q0 (a, .inl (k 1, n, .inl (upd f j x)))) H1 → va_D A (ws.set q0 (a, .inl (k 1, n, .inl (upd f j x)))) → va_S A H0 H1 locs1 → W p l e R s m args below meth c H1 locs1 cells slots Q (F0 m (pc + 1) ls rest)) : W p l e R s m args below meth c H locs cells slots Q (F0 m pc ls (.int x :: .int i :: .ref a :: rest)) := by
  subst hi
  refine va_bast hexec hb hK hP hD hS q0 1 ha rfl (vp_in_nI hj hn) hdg ?_
  rw [nI_clamp (Nat.lt_trans hj hn), hx]
  exact kk
end ROWS19
/-- a byte of a word, as the component keeps it -/
abbrev by8 (w k : Int32) : Int32 := (w >>> (k &&& 31)).toInt8.toInt32
def putD (f : Nat → Int32) (b : Nat) (w : Int32) : Nat → Int32 := upd (upd (upd (upd f b (by8 w 24)) (b + 1) (by8 w 16)) (b + 2) (by8 w 8)) (b + 3) (by8 w 0)
