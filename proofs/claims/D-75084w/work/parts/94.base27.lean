/-! BASE, part 27: a credit's reading, step by step -/
set_option maxRecDepth 100000
section RC
variable {fb : Nat → Int32} {L : Nat} {dr : Nat → Int32} {σ : PS}
theorem nm_bad {lo hi : Int32} (h : ¬ σ.2.1 = 0) : nmS fb L lo hi σ = (0, σ) := by rw [nmS, ifp_f h]
theorem TS_bd {i : Nat} (h : ¬ σ.2.1 = 0) : TS fb L i σ = σ := by unfold TS twS; rw [ifp_f h]
theorem TW_bad {i : Nat} (h : ¬ σ.2.1 = 0) : ¬ TW fb L i σ := fun q => h q.1
noncomputable abbrev rN1 (fb : Nat → Int32) (L : Nat) (σ : PS) : Int32 × PS := nmS fb L 1 999999 σ
noncomputable abbrev rN2 (fb : Nat → Int32) (L : Nat) (σ : PS) : Int32 × PS := nmS fb L 0 10 (rN1 fb L σ).2
noncomputable abbrev rN3 (fb : Nat → Int32) (L : Nat) (σ : PS) : Int32 × PS := nmS fb L 0 10 (rN2 fb L σ).2
noncomputable abbrev rN4 (fb : Nat → Int32) (L : Nat) (σ : PS) : Int32 × PS := nmS fb L 0 999 (rN3 fb L σ).2
noncomputable abbrev rN5 (fb : Nat → Int32) (L : Nat) (σ : PS) : Int32 × PS := nmS fb L 0 999 (rN4 fb L σ).2
noncomputable abbrev rN6 (fb : Nat → Int32) (L : Nat) (σ : PS) : Int32 × PS := nmS fb L 1 60 (rN5 fb L σ).2
noncomputable abbrev rN7 (fb : Nat → Int32) (L : Nat) (σ : PS) : Int32 × PS := nmS fb L 0 180 (rN6 fb L σ).2
noncomputable abbrev rT4 (fb : Nat → Int32) (L : Nat) (σ : PS) : PS := TS fb L 4 (TS fb L 3 (rN7 fb L σ).2)
theorem rc_e7 (h : ¬ (rN7 fb L σ).2.2.1 = 0) : (rcG fb L dr σ).1 = (rN7 fb L σ).2 := by
  unfold rcG
  have e3 : TS fb L 3 (rN7 fb L σ).2 = (rN7 fb L σ).2 := TS_bd h
  have e4 : TS fb L 4 (rN7 fb L σ).2 = (rN7 fb L σ).2 := TS_bd h
  have e5 : TS fb L 5 (rN7 fb L σ).2 = (rN7 fb L σ).2 := TS_bd h
  have w5 : ¬ TW fb L 5 (TS fb L 4 (TS fb L 3 (rN7 fb L σ).2)) := by rw [e3, e4]; exact TW_bad h
  rw [ifp_f w5]
  show TS fb L 5 (TS fb L 4 (TS fb L 3 (rN7 fb L σ).2)) = _
  rw [e3, e4, e5]
theorem rc_e6 (h : ¬ (rN6 fb L σ).2.2.1 = 0) : (rcG fb L dr σ).1 = (rN6 fb L σ).2 := by
  have e : rN7 fb L σ = (0, (rN6 fb L σ).2) := nm_bad h
  rw [rc_e7 (by rw [e]; exact h), e]
theorem rc_e5 (h : ¬ (rN5 fb L σ).2.2.1 = 0) : (rcG fb L dr σ).1 = (rN5 fb L σ).2 := by
  have e : rN6 fb L σ = (0, (rN5 fb L σ).2) := nm_bad h
  rw [rc_e6 (by rw [e]; exact h), e]
theorem rc_e4 (h : ¬ (rN4 fb L σ).2.2.1 = 0) : (rcG fb L dr σ).1 = (rN4 fb L σ).2 := by
  have e : rN5 fb L σ = (0, (rN4 fb L σ).2) := nm_bad h
  rw [rc_e5 (by rw [e]; exact h), e]
theorem rc_e3 (h : ¬ (rN3 fb L σ).2.2.1 = 0) : (rcG fb L dr σ).1 = (rN3 fb L σ).2 := by
  have e : rN4 fb L σ = (0, (rN3 fb L σ).2) := nm_bad h
  rw [rc_e4 (by rw [e]; exact h), e]
theorem rc_e2 (h : ¬ (rN2 fb L σ).2.2.1 = 0) : (rcG fb L dr σ).1 = (rN2 fb L σ).2 := by
  have e : rN3 fb L σ = (0, (rN2 fb L σ).2) := nm_bad h
  rw [rc_e3 (by rw [e]; exact h), e]
theorem rc_e1 (h : ¬ (rN1 fb L σ).2.2.1 = 0) : (rcG fb L dr σ).1 = (rN1 fb L σ).2 := by
  have e : rN2 fb L σ = (0, (rN1 fb L σ).2) := nm_bad h
  rw [rc_e2 (by rw [e]; exact h), e]
theorem rc_no (h : ¬ TW fb L 5 (rT4 fb L σ)) : (rcG fb L dr σ).1 = TS fb L 5 (rT4 fb L σ) := by
  unfold rcG
  rw [ifp_f h]
theorem rc_ye (h : TW fb L 5 (rT4 fb L σ)) : (rcG fb L dr σ).1 = (needF fb L (L + 2) (TS fb L 5 (rT4 fb L σ)) 0).1 := by
  unfold rcG
  rw [ifp_t h]
  have e : ∀ f : Nat → Int32, upd (upd f (22 + 11 * dN dr 0 + 9) 0) (22 + 11 * dN dr 0 + 10) (-1) (22 + 11 * dN dr 0 + 9) = 0 := fun f => by
    rw [pk_un (by omega), pk_us]
  dsimp only
  rw [e]
end RC
