/-! the reference: static helpers (printed by gen/m1.py) -/
set_option maxRecDepth 100000
set_option maxHeartbeats 4000000 in
theorem m_in (l : Launch) (D : va_G) (k : Nat → ClassId) (v lo hi : Int32) : rM l D k yX5_in cX5_in 3 (some .boolean) 0 0 [.int v, .int lo, .int hi] (fun _ => True) (some (.int (bI (inR v lo hi)))) := by
  refine rM_of (by decide) (Nat.le_of_ble_eq_true rfl) ?_
  intro p e s m below meth c ls C hK _ hl
  obtain ⟨hx, hb, hr, hml, hown, hts, hlk⟩ := id C
  have hl : lv_has ls 3 [(0, .int v), (1, .int lo), (2, .int hi)] := hl
  refine lv_iload_n hx hb dX5_in_0 rfl (lv_at hl 0 rfl) ?_
  refine lv_iload_n hx hb dX5_in_1 rfl (lv_at hl 1 rfl) ?_
  refine lv_icmp_lt (tgt := 14) hx hb dX5_in_2 (by decide) (fun c_2 => ?_) (fun c_2 => ?_)
  · refine lv_iconst (v := 0) hx hb dX5_in_14 rfl ?_
    exact r_zret C (bI_f (by simp only [inR, Int32.lt_iff_toInt_lt, Int32.le_iff_toInt_le] at *; omega)) dX5_in_15
  · refine lv_iload_n hx hb dX5_in_5 rfl (lv_at hl 0 rfl) ?_
    refine lv_iload_n hx hb dX5_in_6 rfl (lv_at hl 2 rfl) ?_
    refine lv_icmp_gt (tgt := 14) hx hb dX5_in_7 (by decide) (fun c_7 => ?_) (fun c_7 => ?_)
    · refine lv_iconst (v := 0) hx hb dX5_in_14 rfl ?_
      exact r_zret C (bI_f (by simp only [inR, Int32.lt_iff_toInt_lt, Int32.le_iff_toInt_le] at *; omega)) dX5_in_15
    · refine lv_iconst (v := 1) hx hb dX5_in_10 rfl ?_
      refine lv_goto (tgt := 15) hx hb dX5_in_11 (by decide) ?_
      exact r_zret C (bI_t (by simp only [inR, Int32.lt_iff_toInt_lt, Int32.le_iff_toInt_le] at *; omega)) dX5_in_15
set_option maxHeartbeats 4000000 in
theorem m_min (l : Launch) (D : va_G) (k : Nat → ClassId) (a b : Int32) : rM l D k yX5_min cX5_min 2 (some .int) 0 0 [.int a, .int b] (fun _ => True) (some (.int (mn a b))) := by
  refine rM_of (by decide) (Nat.le_of_ble_eq_true rfl) ?_
  intro p e s m below meth c ls C hK _ hl
  obtain ⟨hx, hb, hr, hml, hown, hts, hlk⟩ := id C
  have hl : lv_has ls 2 [(0, .int a), (1, .int b)] := hl
  refine lv_iload_n hx hb dX5_min_0 rfl (lv_at hl 0 rfl) ?_
  refine lv_iload_n hx hb dX5_min_1 rfl (lv_at hl 1 rfl) ?_
  refine lv_icmp_ge (tgt := 9) hx hb dX5_min_2 (by decide) (fun c_2 => ?_) (fun c_2 => ?_)
  · refine lv_iload_n hx hb dX5_min_9 rfl (lv_at hl 1 rfl) ?_
    exact r_iret C (by unfold mn; simp only [Int32.lt_iff_toInt_lt, Int32.le_iff_toInt_le] at *; split <;> first | rfl | omega) dX5_min_10
  · refine lv_iload_n hx hb dX5_min_5 rfl (lv_at hl 0 rfl) ?_
    refine lv_goto (tgt := 10) hx hb dX5_min_6 (by decide) ?_
    exact r_iret C (by unfold mn; simp only [Int32.lt_iff_toInt_lt, Int32.le_iff_toInt_le] at *; split <;> first | rfl | omega) dX5_min_10
set_option maxHeartbeats 4000000 in
theorem m_credit (l : Launch) (D : va_G) (k : Nat → ClassId) (a : Int32) : rM l D k yX5_credit cX5_credit 1 (some .int) 0 0 [.int a] (fun _ => True) (some (.int (22 + 11 * a))) := by
  refine rM_of (by decide) (Nat.le_of_ble_eq_true rfl) ?_
  intro p e s m below meth c ls C hK _ hl
  obtain ⟨hx, hb, hr, hml, hown, hts, hlk⟩ := id C
  have hl : lv_has ls 1 [(0, .int a)] := hl
  refine lv_bipush (v := 22) hx hb dX5_credit_0 rfl ?_
  refine lv_bipush (v := 11) hx hb dX5_credit_2 rfl ?_
  refine lv_iload_n hx hb dX5_credit_4 rfl (lv_at hl 0 rfl) ?_
  refine lv_imul hx hb dX5_credit_5 ?_
  refine lv_iadd hx hb dX5_credit_6 ?_
  exact r_iret C rfl dX5_credit_7
set_option maxHeartbeats 4000000 in
theorem m_presentation (l : Launch) (D : va_G) (k : Nat → ClassId) (a : Int32) : rM l D k yX5_presentation cX5_presentation 1 (some .int) 0 0 [.int a] (fun _ => True) (some (.int (154 + 6 * a))) := by
  refine rM_of (by decide) (Nat.le_of_ble_eq_true rfl) ?_
  intro p e s m below meth c ls C hK _ hl
  obtain ⟨hx, hb, hr, hml, hown, hts, hlk⟩ := id C
  have hl : lv_has ls 1 [(0, .int a)] := hl
  refine lv_sipush (v := 154) hx hb dX5_presentation_0 rfl ?_
  refine lv_bipush (v := 6) hx hb dX5_presentation_3 rfl ?_
  refine lv_iload_n hx hb dX5_presentation_5 rfl (lv_at hl 0 rfl) ?_
  refine lv_imul hx hb dX5_presentation_6 ?_
  refine lv_iadd hx hb dX5_presentation_7 ?_
  exact r_iret C rfl dX5_presentation_8
set_option maxHeartbeats 4000000 in
theorem m_isDay (l : Launch) (D : va_G) (k : Nat → ClassId) (a : Int32) : rM l D k yX5_isDay cX5_isDay 1 (some .boolean) 1 22 [.int a] (fun _ => True) (some (.int (bI (inR a 0 9999)))) := by
  refine rM_of (by decide) (Nat.le_of_ble_eq_true rfl) ?_
  intro p e s m below meth c ls C hK _ hl
  obtain ⟨hx, hb, hr, hml, hown, hts, hlk⟩ := id C
  have hl : lv_has ls 1 [(0, .int a)] := hl
  refine lv_iload_n hx hb dX5_isDay_0 rfl (lv_at hl 0 rfl) ?_
  refine lv_iconst (v := 0) hx hb dX5_isDay_1 rfl ?_
  refine lv_sipush (v := 9999) hx hb dX5_isDay_2 rfl ?_
  refine r_callS (As := [.int a, .int 0, .int 9999]) (rest := []) C (m_in l D k a 0 9999) (va_cwS 3 hts (lw_S q1724 q1725 q76 q1726) rfl rfl rfl (by decide +kernel) ⟨Nat.le_of_ble_eq_true rfl, Nat.le_of_ble_eq_true rfl⟩) hK trivial rfl hl.1 rfl (Nat.le_of_ble_eq_true rfl) dX5_isDay_5 ⟨Nat.le_of_ble_eq_true rfl, Nat.le_of_ble_eq_true rfl⟩ ?_
  exact r_zret C rfl dX5_isDay_8
set_option maxHeartbeats 4000000 in
theorem m_isDigit (l : Launch) (D : va_G) (k : Nat → ClassId) (a : Int32) : rM l D k yX5_isDigit cX5_isDigit 1 (some .boolean) 1 22 [.int a] (fun _ => True) (some (.int (bI (inR a 48 57)))) := by
  refine rM_of (by decide) (Nat.le_of_ble_eq_true rfl) ?_
  intro p e s m below meth c ls C hK _ hl
  obtain ⟨hx, hb, hr, hml, hown, hts, hlk⟩ := id C
  have hl : lv_has ls 1 [(0, .int a)] := hl
  refine lv_iload_n hx hb dX5_isDigit_0 rfl (lv_at hl 0 rfl) ?_
  refine lv_bipush (v := 48) hx hb dX5_isDigit_1 rfl ?_
  refine lv_bipush (v := 57) hx hb dX5_isDigit_3 rfl ?_
  refine r_callS (As := [.int a, .int 48, .int 57]) (rest := []) C (m_in l D k a 48 57) (va_cwS 3 hts (lw_S q1724 q1725 q76 q1726) rfl rfl rfl (by decide +kernel) ⟨Nat.le_of_ble_eq_true rfl, Nat.le_of_ble_eq_true rfl⟩) hK trivial rfl hl.1 rfl (Nat.le_of_ble_eq_true rfl) dX5_isDigit_5 ⟨Nat.le_of_ble_eq_true rfl, Nat.le_of_ble_eq_true rfl⟩ ?_
  exact r_zret C rfl dX5_isDigit_8
set_option maxHeartbeats 4000000 in
theorem m_limited (l : Launch) (D : va_G) (k : Nat → ClassId) (v : Int64) : rM l D k yX5_limited cX5_limited 2 (some .long) 0 0 [.long v] (fun _ => True) (some (.long (lim v))) := by
  refine rM_of (by decide) (Nat.le_of_ble_eq_true rfl) ?_
  intro p e s m below meth c ls C hK _ hl
  obtain ⟨hx, hb, hr, hml, hown, hts, hlk⟩ := id C
  have hl : lv_has ls 2 [(0, .long v)] := hl
  refine lv_lload_n hx hb dX5_limited_0 rfl (lv_at hl 0 rfl) ?_
  refine lv_ldc2 (v := 100000000) hx hb hown (hts _ q2007) dX5_limited_1 ?_
  refine W.lcmp hx hb dX5_limited_4 ?_
  refine lv_if_le (tgt := 14) hx hb dX5_limited_5 (by decide) (fun c_5 => ?_) (fun c_5 => ?_)
  · refine lv_lload_n hx hb dX5_limited_14 rfl (lv_at hl 0 rfl) ?_
    refine lv_ldc2 (v := (-100000000)) hx hb hown (hts _ q2008) dX5_limited_15 ?_
    refine W.lcmp hx hb dX5_limited_18 ?_
    refine lv_if_ge (tgt := 28) hx hb dX5_limited_19 (by decide) (fun c_19 => ?_) (fun c_19 => ?_)
    · refine lv_lload_n hx hb dX5_limited_28 rfl (lv_at hl 0 rfl) ?_
      exact r_lret C (by unfold lim; simp only [lg_cmp_le, lg_cmp_ge, Int64.lt_iff_toInt_lt, Int64.le_iff_toInt_le] at *; (repeat' split) <;> first | rfl | omega) dX5_limited_29
    · refine lv_ldc2 (v := (-100000000)) hx hb hown (hts _ q2008) dX5_limited_22 ?_
      refine lv_goto (tgt := 29) hx hb dX5_limited_25 (by decide) ?_
      exact r_lret C (by unfold lim; simp only [lg_cmp_le, lg_cmp_ge, Int64.lt_iff_toInt_lt, Int64.le_iff_toInt_le] at *; (repeat' split) <;> first | rfl | omega) dX5_limited_29
  · refine lv_ldc2 (v := 100000000) hx hb hown (hts _ q2007) dX5_limited_8 ?_
    refine lv_goto (tgt := 29) hx hb dX5_limited_11 (by decide) ?_
    exact r_lret C (by unfold lim; simp only [lg_cmp_le, lg_cmp_ge, Int64.lt_iff_toInt_lt, Int64.le_iff_toInt_le] at *; (repeat' split) <;> first | rfl | omega) dX5_limited_29
set_option maxHeartbeats 4000000 in
theorem m_operate (l : Launch) (D : va_G) (k : Nat → ClassId) (o : Int32) (a b : Int64) : rM l D k yX5_operate cX5_operate 5 (some .long) 1 21 [.int o, .long a, .long b] (fun _ => True) (some (.long (opr o a b))) := by
  refine rM_of (by decide) (Nat.le_of_ble_eq_true rfl) ?_
  intro p e s m below meth c ls C hK _ hl
  obtain ⟨hx, hb, hr, hml, hown, hts, hlk⟩ := id C
  have hl : lv_has ls 5 [(0, .int o), (1, .long a), (3, .long b)] := hl
  refine lv_iload_n hx hb dX5_operate_0 rfl (lv_at hl 0 rfl) ?_
  refine lv_iconst (v := 5) hx hb dX5_operate_1 rfl ?_
  refine lv_icmp_ne (tgt := 19) hx hb dX5_operate_2 (by decide) (fun c_2 => ?_) (fun c_2 => ?_)
  · refine lv_iload_n hx hb dX5_operate_19 rfl (lv_at hl 0 rfl) ?_
    refine lv_iconst (v := 2) hx hb dX5_operate_20 rfl ?_
    refine lv_icmp_ne (tgt := 30) hx hb dX5_operate_21 (by decide) (fun c_21 => ?_) (fun c_21 => ?_)
    · refine lv_iload_n hx hb dX5_operate_30 rfl (lv_at hl 0 rfl) ?_
      refine lv_iconst (v := 3) hx hb dX5_operate_31 rfl ?_
      refine lv_icmp_ne (tgt := 41) hx hb dX5_operate_32 (by decide) (fun c_32 => ?_) (fun c_32 => ?_)
      · refine lv_lload_n hx hb dX5_operate_41 rfl (lv_at hl 1 rfl) ?_
        refine lv_lload_n hx hb dX5_operate_42 rfl (lv_at hl 2 rfl) ?_
        refine lv_lmul hx hb dX5_operate_43 ?_
        refine r_callS (As := [.long (a * b)]) (rest := []) C (m_limited l D k (a * b)) (va_cwS 1 hts (lw_S q2004 q2005 q76 q2006) rfl rfl rfl (by decide +kernel) ⟨Nat.le_of_ble_eq_true rfl, Nat.le_of_ble_eq_true rfl⟩) hK trivial rfl hl.1 rfl (Nat.le_of_ble_eq_true rfl) dX5_operate_44 ⟨Nat.le_of_ble_eq_true rfl, Nat.le_of_ble_eq_true rfl⟩ ?_
        exact r_lret C (by simp_all [opr, lg_cmp_eq]) dX5_operate_47
      · refine lv_lload_n hx hb dX5_operate_35 rfl (lv_at hl 1 rfl) ?_
        refine lv_lload_n hx hb dX5_operate_36 rfl (lv_at hl 2 rfl) ?_
        refine lv_lsub hx hb dX5_operate_37 ?_
        refine lv_goto (tgt := 44) hx hb dX5_operate_38 (by decide) ?_
        refine r_callS (As := [.long (a - b)]) (rest := []) C (m_limited l D k (a - b)) (va_cwS 1 hts (lw_S q2004 q2005 q76 q2006) rfl rfl rfl (by decide +kernel) ⟨Nat.le_of_ble_eq_true rfl, Nat.le_of_ble_eq_true rfl⟩) hK trivial rfl hl.1 rfl (Nat.le_of_ble_eq_true rfl) dX5_operate_44 ⟨Nat.le_of_ble_eq_true rfl, Nat.le_of_ble_eq_true rfl⟩ ?_
        exact r_lret C (by simp_all [opr, lg_cmp_eq]) dX5_operate_47
    · refine lv_lload_n hx hb dX5_operate_24 rfl (lv_at hl 1 rfl) ?_
      refine lv_lload_n hx hb dX5_operate_25 rfl (lv_at hl 2 rfl) ?_
      refine lv_ladd hx hb dX5_operate_26 ?_
      refine lv_goto (tgt := 44) hx hb dX5_operate_27 (by decide) ?_
      refine r_callS (As := [.long (a + b)]) (rest := []) C (m_limited l D k (a + b)) (va_cwS 1 hts (lw_S q2004 q2005 q76 q2006) rfl rfl rfl (by decide +kernel) ⟨Nat.le_of_ble_eq_true rfl, Nat.le_of_ble_eq_true rfl⟩) hK trivial rfl hl.1 rfl (Nat.le_of_ble_eq_true rfl) dX5_operate_44 ⟨Nat.le_of_ble_eq_true rfl, Nat.le_of_ble_eq_true rfl⟩ ?_
      exact r_lret C (by simp_all [opr, lg_cmp_eq]) dX5_operate_47
  · refine lv_lload_n hx hb dX5_operate_5 rfl (lv_at hl 2 rfl) ?_
    refine lv_lconst (v := 0) hx hb dX5_operate_6 rfl ?_
    refine W.lcmp hx hb dX5_operate_7 ?_
    refine lv_if_ne (tgt := 15) hx hb dX5_operate_8 (by decide) (fun c_8 => ?_) (fun c_8 => ?_)
    · refine lv_lload_n hx hb dX5_operate_15 rfl (lv_at hl 1 rfl) ?_
      refine lv_lload_n hx hb dX5_operate_16 rfl (lv_at hl 2 rfl) ?_
      refine lv_ldiv hx hb dX5_operate_17 (fun h => c_8 ((lg_cmp_eq _ _).mpr h)) ?_
      exact r_lret C (by simp_all [opr, lg_cmp_eq]) dX5_operate_18
    · refine lv_lconst (v := 0) hx hb dX5_operate_11 rfl ?_
      refine lv_goto (tgt := 18) hx hb dX5_operate_12 (by decide) ?_
      exact r_lret C (by simp_all [opr, lg_cmp_eq]) dX5_operate_18
