/-! BASE, part 28: a credit's fields -/
set_option maxRecDepth 100000
section RCF
variable {fb : Nat → Int32} {L : Nat} {dr : Nat → Int32} {σ : PS}
noncomputable def rcF (fb : Nat → Int32) (L : Nat) (σ : PS) (j : Nat) : Int32 :=
  [(rN1 fb L σ).1, (rN2 fb L σ).1, (rN3 fb L σ).1, (rN4 fb L σ).1, (rN5 fb L σ).1, (rN6 fb L σ).1, (rN7 fb L σ).1, bI (TW fb L 3 (rN7 fb L σ).2), bI (TW fb L 4 (TS fb L 3 (rN7 fb L σ).2)), ifp (TW fb L 5 (rT4 fb L σ)) (needF fb L (L + 2) (TS fb L 5 (rT4 fb L σ)) 0).2 0, -1].getD j 0
theorem rc_z {f : Nat → Int32} {b : Nat} : upd (upd f (b + 9) 0) (b + 10) (-1) (b + 9) = 0 := by rw [pk_un (by omega), pk_us]
theorem rc_f {j : Nat} (hj : j < 11) : cf (rcG fb L dr σ).2 (dN dr 0) j = rcF fb L σ j := by
  unfold cf
  have hc : j = 0 ∨ j = 1 ∨ j = 2 ∨ j = 3 ∨ j = 4 ∨ j = 5 ∨ j = 6 ∨ j = 7 ∨ j = 8 ∨ j = 9 ∨ j = 10 := by omega
  by_cases h : TW fb L 5 (rT4 fb L σ)
  · unfold rcG
    rw [ifp_t h]
    dsimp only
    rw [rc_z]
    rcases hc with rfl | rfl | rfl | rfl | rfl | rfl | rfl | rfl | rfl | rfl | rfl <;> (repeat (first | rw [pk_us] | rw [pk_un (by omega)])) <;> simp [rcF, ifp_t h] <;> exact pk_us
  · unfold rcG
    rw [ifp_f h]
    dsimp only
    rcases hc with rfl | rfl | rfl | rfl | rfl | rfl | rfl | rfl | rfl | rfl | rfl <;> (repeat (first | rw [pk_us] | rw [pk_un (by omega)])) <;> simp [rcF, ifp_f h] <;> exact pk_us
end RCF
