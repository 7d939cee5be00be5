/-! the component: Calendar (printed by gen/m20.py) -/
set_option maxRecDepth 100000
set_option maxHeartbeats 4000000 in
theorem c_isHoliday (l : Launch) (D : va_G) (k : Nat → ClassId) (ca ha : Nat) (hf d : Nat → Int32) (wr : va_W) (hh : ∀ j, j < dN d 2 → hf j = d (6 + j)) (h2 : isN d 2 16) (x : Int32) : rM l D k yX3_isHoliday cX3_isHoliday 3 (some .boolean) 0 0 [.ref ca, .int x] (va_P D clA ((ca, .inr (3, [.ref ha, .int (d 2)])) :: (ha, .inl (k 0, 16, .inl hf)) :: wr)) (some (.int (bI (∃ j, j < dN d 2 ∧ d (6 + j) = x)))) := by
  refine rM_of (by decide) (Nat.le_of_ble_eq_true rfl) ?_
  intro p e s m below meth c ls C hK hP hl
  obtain ⟨hx, hb, hr, hml, hown, hts, hlk⟩ := id C
  have hl : lv_has ls 3 [(0, .ref ca), (1, .int x)] := hl
  obtain ⟨e2, n2⟩ := id h2
  refine lv_iconst (v := 0) hx hb dX3_isHoliday_0 rfl ?_
  refine lv_istore_n (lv' := [(2, .int 0), (0, .ref ca), (1, .int x)]) hx hb dX3_isHoliday_1 rfl hl (by decide) rfl (fun ls hl => ?_)
  have loop_2 : ∀ (n : Nat) (j : Nat), (j ≤ dN d 2) → (∀ a, a < j → ¬ d (6 + a) = x) → (dN d 2 + 1 ≤ j + n) → ∀ (ls : Array Slot), lv_has ls 3 [(0, .ref ca), (1, .int x), (2, .int (nI j))] → W p l e (Rm 0 0 0 0) s m ([.ref ca, .int x] : List Value).toArray below meth c s.heap [] 0 0 (MQ below (rQ (some (.int (bI (∃ j, j < dN d 2 ∧ d (6 + j) = x))))) ([.ref ca, .int x] : List Value).toArray s 0 0 (fun _ => False)) (F0 m 2 ls []) := by
    intro n
    induction n with
    | zero =>
      intro j hj hnone hn
      exact absurd hn (by omega)
    | succ n ih_2 =>
      intro j hj hnone hn ls hl
      refine lv_iload_n hx hb dX3_isHoliday_2 rfl (lv_at hl 2 rfl) ?_
      refine lv_aload_n hx hb dX3_isHoliday_3 rfl (lv_at hl 0 rfl) ?_
      refine va_get hx hb hts in_X3 hown hK hP 0 rfl rfl 1 (by decide) (hts _ q145) (fun _ h => h) rfl dX3_isHoliday_4 ?_
      refine w_topi (y := nI (dN d 2)) e2 ?_
      refine lv_icmp_ge (tgt := 28) hx hb dX3_isHoliday_7 (by decide) (fun c_7 => ?_) (fun c_7 => ?_)
      · have g_7 := nI_le' c_7 (by omega) (by omega)
        refine lv_iconst (v := 0) hx hb dX3_isHoliday_28 rfl ?_
        exact r_zret C (bI_f (fun ⟨a, ha1, ha2⟩ => hnone a (by omega) ha2)) dX3_isHoliday_29
      · have g_7 := nI_nle' c_7 (by omega) (by omega)
        refine lv_aload_n hx hb dX3_isHoliday_10 rfl (lv_at hl 0 rfl) ?_
        refine va_get hx hb hts in_X3 hown hK hP 0 rfl rfl 0 (by decide) (hts _ q144) (fun _ h => h) rfl dX3_isHoliday_11 ?_
        refine lv_iload_n hx hb dX3_isHoliday_14 rfl (lv_at hl 2 rfl) ?_
        refine w_iald hx hb hK hP 1 rfl j rfl (by omega) (Nat.le_of_ble_eq_true rfl) dX3_isHoliday_15 ?_
        refine lv_iload_n hx hb dX3_isHoliday_16 rfl (lv_at hl 1 rfl) ?_
        refine lv_icmp_ne (tgt := 22) hx hb dX3_isHoliday_17 (by decide) (fun c_17 => ?_) (fun c_17 => ?_)
        · refine lv_iinc (v := nI (j + 1)) (lv' := [(2, .int (nI (j + 1))), (0, .ref ca), (1, .int x)]) hx hb dX3_isHoliday_22 hl (k := 2) rfl (nI_1 j) (by decide) rfl (fun ls hl => ?_)
          refine lv_goto (tgt := 2) hx hb dX3_isHoliday_25 (by decide) ?_
          exact ih_2 (j + 1) (by omega) (lt_s hnone (fun h => c_17 ((hh j (by omega)).trans h))) (by omega) ls (lv_sub hl [1, 2, 0] rfl)
        · refine lv_iconst (v := 1) hx hb dX3_isHoliday_20 rfl ?_
          exact r_zret C (bI_t ⟨j, by omega, (hh j (by omega)).symm.trans c_17⟩) dX3_isHoliday_21
  exact loop_2 (dN d 2 + 1) 0 (Nat.zero_le _) (fun a h => absurd h (by omega)) (by omega) ls (lv_sub hl [1, 2, 0] rfl)
set_option maxHeartbeats 4000000 in
theorem c_isBusinessDay (l : Launch) (D : va_G) (k : Nat → ClassId) (ca ha : Nat) (hf d : Nat → Int32) (wr : va_W) (hh : ∀ j, j < dN d 2 → hf j = d (6 + j)) (h2 : isN d 2 16) (x : Nat) (hx0 : x < 2 ^ 30) : rM l D k yX3_isBusinessDay cX3_isBusinessDay 2 (some .boolean) 1 22 [.ref ca, .int (nI x)] (va_P D clA ((ca, .inr (3, [.ref ha, .int (d 2)])) :: (ha, .inl (k 0, 16, .inl hf)) :: wr)) (some (.int (bI (isBus d x)))) := by
  refine rM_of (by decide) (Nat.le_of_ble_eq_true rfl) ?_
  intro p e s m below meth c ls C hK hP hl
  obtain ⟨hx, hb, hr, hml, hown, hts, hlk⟩ := id C
  have hl : lv_has ls 2 [(0, .ref ca), (1, .int (nI x))] := hl
  refine lv_iload_n hx hb dX3_isBusinessDay_0 rfl (lv_at hl 1 rfl) ?_
  refine lv_bipush (v := 7) hx hb dX3_isBusinessDay_1 rfl ?_
  refine lv_irem hx hb dX3_isBusinessDay_3 (by decide) ?_
  refine w_topi (y := nI (x % 7)) (pk_rem (d := 7) (by omega) (by decide) (by decide)) ?_
  refine lv_iconst (v := 5) hx hb dX3_isBusinessDay_4 rfl ?_
  have J_21 : ∀ (z : Int32), (z = bI (isBus d x)) → ∀ (ls : Array Slot), lv_has ls 2 [(0, .ref ca), (1, .int (nI x))] → W p l e (Rm 1 22 0 0) s m ([.ref ca, .int (nI x)] : List Value).toArray below meth c s.heap [] 0 0 (MQ below (rQ (some (.int (bI (isBus d x))))) ([.ref ca, .int (nI x)] : List Value).toArray s 0 0 (fun _ => False)) (F0 m 21 ls [.int z]) := by
    intro z h_z ls hl
    exact r_zret C h_z dX3_isBusinessDay_21
  refine lv_icmp_ge (tgt := 20) hx hb dX3_isBusinessDay_5 (by decide) (fun c_5 => ?_) (fun c_5 => ?_)
  · have g_5 := nI_le' (a := 5) c_5 (by decide) (by omega)
    refine lv_iconst (v := 0) hx hb dX3_isBusinessDay_20 rfl ?_
    exact J_21 0 (by first | exact bI_f (fun h => absurd h.1 (by omega)) | exact bI_f (fun h => by obtain ⟨a, h1, h2⟩ := b_13; exact h.2 a h1 h2) | exact bI_t ⟨by omega, fun a h1 h2 => b_13 ⟨a, h1, h2⟩⟩) ls hl
  · have g_5 := nI_nle' (a := 5) c_5 (by decide) (by omega)
    refine lv_aload_n hx hb dX3_isBusinessDay_8 rfl (lv_at hl 0 rfl) ?_
    refine lv_iload_n hx hb dX3_isBusinessDay_9 rfl (lv_at hl 1 rfl) ?_
    refine r_callV (As := [.int (nI x)]) (rest := []) C (c_isHoliday l D k ca ha hf d wr hh h2 (nI x)) (cwV 1 hts (lw_V q1185 q929 q930 q72 q931) rfl rfl rfl (by decide +kernel) ⟨Nat.le_of_ble_eq_true rfl, Nat.le_of_ble_eq_true rfl⟩) hK (va_recv hK hP (ci := 3) (q0 := 0) rfl rfl) hP rfl hl.1 rfl (Nat.le_of_ble_eq_true rfl) dX3_isBusinessDay_10 ⟨Nat.le_of_ble_eq_true rfl, Nat.le_of_ble_eq_true rfl⟩ ?_
    refine lv_if_ne (tgt := 20) hx hb dX3_isBusinessDay_13 (by decide) (fun c_13 => ?_) (fun c_13 => ?_)
    · have b_13 := bI_nz c_13
      refine lv_iconst (v := 0) hx hb dX3_isBusinessDay_20 rfl ?_
      exact J_21 0 (by first | exact bI_f (fun h => absurd h.1 (by omega)) | exact bI_f (fun h => by obtain ⟨a, h1, h2⟩ := b_13; exact h.2 a h1 h2) | exact bI_t ⟨by omega, fun a h1 h2 => b_13 ⟨a, h1, h2⟩⟩) ls hl
    · have b_13 := bI_0.mp c_13
      refine lv_iconst (v := 1) hx hb dX3_isBusinessDay_16 rfl ?_
      refine lv_goto (tgt := 21) hx hb dX3_isBusinessDay_17 (by decide) ?_
      exact J_21 1 (by first | exact bI_f (fun h => absurd h.1 (by omega)) | exact bI_f (fun h => by obtain ⟨a, h1, h2⟩ := b_13; exact h.2 a h1 h2) | exact bI_t ⟨by omega, fun a h1 h2 => b_13 ⟨a, h1, h2⟩⟩) ls hl
