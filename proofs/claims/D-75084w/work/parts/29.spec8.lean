/-! SPEC, part 8 -/
set_option maxRecDepth 100000
theorem emS_L {dr : Nat → Int32} {v : Int32} {σ : PS} : emS dr v σ = emL dr (ifp (σ.2.1 = 0) [v] []) := by
  by_cases h : σ.2.1 = 0
  · simp only [emS, ifp_t h]; rfl
  · simp only [emS, ifp_f h]; rfl
theorem lit_em {fb : Nat → Int32} {L : Nat} {σ : PS} {dr : Nat → Int32} : emS (emS dr 0 (nmS fb L 0 9999 σ).2) (nmS fb L 0 9999 σ).1 (nmS fb L 0 9999 σ).2 = emL dr (litS fb L σ).2 := by
  by_cases h : (nmS fb L 0 9999 σ).2.2.1 = 0
  · simp only [emS, litS, ifp_t h]; rfl
  · simp only [emS, litS, ifp_f h]; rfl
theorem room5 {dr : Nat → Int32} {L : Nat} {σ : PS} {c : List Int32} (h : dr 5 = nI (dN dr 5)) (hb : 2 * (dN dr 5 + c.length) + 3 * (L - σ.1) ≤ 3000) : emL dr c 5 = nI (dN (emL dr c) 5) ∧ dN (emL dr c) 5 = dN dr 5 + c.length := emL_n c h (by omega)
theorem ifp_T {α : Type} {a b : α} : ifp True a b = a := ifp_t trivial
theorem ifp_F {α : Type} {a b : α} : ifp False a b = b := ifp_f (fun h => h)
