/-! SPEC, part 6 -/
set_option maxRecDepth 100000
theorem upd_self {f : Nat → Int32} {k : Nat} : upd f k (f k) = f := by
  funext j
  by_cases h : j = k
  · subst h; exact pk_us
  · exact pk_un h
theorem upd_upd {f : Nat → Int32} {k : Nat} {v w : Int32} : upd (upd f k v) k w = upd f k w := by
  funext j
  by_cases h : j = k
  · subst h; rw [pk_us, pk_us]
  · rw [pk_un h, pk_un h, pk_un h]
