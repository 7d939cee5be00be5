/-! texts: length, charAt (printed by gen/m11.py) -/
set_option maxRecDepth 100000
set_option maxHeartbeats 4000000 in
theorem j_checkIndexN (l : Launch) (D : va_G) (k : Nat → ClassId) (j n : Nat) (hj : j < n) (hn : n < 2 ^ 31) : rM l D k yJ16_checkIndex cJ16_checkIndex 3 (some .int) 0 0 [.int (nI j), .int (nI n), .null] (fun _ => True) (some (.int (nI j))) := by
  refine rM_of (by decide) (Nat.le_of_ble_eq_true rfl) ?_
  intro p e s m below meth c ls C hK _ hl
  obtain ⟨hx, hb, hr, hml, hown, hts, hlk⟩ := id C
  have hl : lv_has ls 3 [(0, .int (nI j)), (1, .int (nI n)), (2, .null)] := hl
  refine lv_iload_n hx hb dJ16_checkIndex_0 rfl (lv_at hl 0 rfl) ?_
  refine lv_if_lt (tgt := 9) hx hb dJ16_checkIndex_1 (by decide) (fun c_1 => ?_) (fun c_1 => ?_)
  · exact absurd c_1 (nI_pos (by omega))
  · refine lv_iload_n hx hb dJ16_checkIndex_4 rfl (lv_at hl 0 rfl) ?_
    refine lv_iload_n hx hb dJ16_checkIndex_5 rfl (lv_at hl 1 rfl) ?_
    refine lv_icmp_lt (tgt := 16) hx hb dJ16_checkIndex_6 (by decide) (fun c_6 => ?_) (fun c_6 => ?_)
    · refine lv_iload_n hx hb dJ16_checkIndex_16 rfl (lv_at hl 0 rfl) ?_
      exact r_iret C rfl dJ16_checkIndex_17
    · exact absurd (nI_lt hj hn) c_6
set_option maxHeartbeats 4000000 in
theorem j_checkIndexR (l : Launch) (D : va_G) (k : Nat → ClassId) (j n : Nat) (tz : Nat) (hj : j < n) (hn : n < 2 ^ 31) : rM l D k yJ16_checkIndex cJ16_checkIndex 3 (some .int) 0 0 [.int (nI j), .int (nI n), .ref tz] (fun _ => True) (some (.int (nI j))) := by
  refine rM_of (by decide) (Nat.le_of_ble_eq_true rfl) ?_
  intro p e s m below meth c ls C hK _ hl
  obtain ⟨hx, hb, hr, hml, hown, hts, hlk⟩ := id C
  have hl : lv_has ls 3 [(0, .int (nI j)), (1, .int (nI n)), (2, .ref tz)] := hl
  refine lv_iload_n hx hb dJ16_checkIndex_0 rfl (lv_at hl 0 rfl) ?_
  refine lv_if_lt (tgt := 9) hx hb dJ16_checkIndex_1 (by decide) (fun c_1 => ?_) (fun c_1 => ?_)
  · exact absurd c_1 (nI_pos (by omega))
  · refine lv_iload_n hx hb dJ16_checkIndex_4 rfl (lv_at hl 0 rfl) ?_
    refine lv_iload_n hx hb dJ16_checkIndex_5 rfl (lv_at hl 1 rfl) ?_
    refine lv_icmp_lt (tgt := 16) hx hb dJ16_checkIndex_6 (by decide) (fun c_6 => ?_) (fun c_6 => ?_)
    · refine lv_iload_n hx hb dJ16_checkIndex_16 rfl (lv_at hl 0 rfl) ?_
      exact r_iret C rfl dJ16_checkIndex_17
    · exact absurd (nI_lt hj hn) c_6
set_option maxHeartbeats 4000000 in
theorem j_StrCheckIndex (l : Launch) (D : va_G) (k : Nat → ClassId) (j n : Nat) (hj : j < n) (hn : n < 2 ^ 31) : sM l D k yJ10_checkIndex cJ10_checkIndex 2 none 1 22 [.int (nI j), .int (nI n)] (EnS) (none) := by
  refine sM_of (by decide) (Nat.le_of_ble_eq_true rfl) ?_
  intro p e s m below meth c ls C hK hP hl
  obtain ⟨hz1, hz2⟩ := id hP
  obtain ⟨hx, hb, hr, hml, hown, hts, hlk⟩ := id C
  have hl : lv_has ls 2 [(0, .int (nI j)), (1, .int (nI n))] := hl
  refine lv_iload_n hx hb dJ10_checkIndex_0 rfl (lv_at hl 0 rfl) ?_
  refine lv_iload_n hx hb dJ10_checkIndex_1 rfl (lv_at hl 1 rfl) ?_
  rcases hz2 with hz | ⟨tz, hz⟩
  · refine va_gets (v := .null) hx hb hz va_S.rf hown (hts _ q610) (fun _ h => h) dJ10_checkIndex_2 ?_
    refine r_callS (As := [.int (nI j), .int (nI n), .null]) (rest := []) C (j_checkIndexN l D k j n (by omega) (by omega)) (va_cwS 3 hts (lw_S q633 q294 q91 q295) rfl rfl rfl (by decide +kernel) ⟨Nat.le_of_ble_eq_true rfl, Nat.le_of_ble_eq_true rfl⟩) hK trivial rfl hl.1 rfl (Nat.le_of_ble_eq_true rfl) dJ10_checkIndex_5 ⟨Nat.le_of_ble_eq_true rfl, Nat.le_of_ble_eq_true rfl⟩ ?_
    refine lv_pop hx hb dJ10_checkIndex_8 rfl ?_
    exact r_vret C dJ10_checkIndex_9
  · refine va_gets (v := .ref tz) hx hb hz va_S.rf hown (hts _ q610) (fun _ h => h) dJ10_checkIndex_2 ?_
    refine r_callS (As := [.int (nI j), .int (nI n), .ref tz]) (rest := []) C (j_checkIndexR l D k j n tz (by omega) (by omega)) (va_cwS 3 hts (lw_S q633 q294 q91 q295) rfl rfl rfl (by decide +kernel) ⟨Nat.le_of_ble_eq_true rfl, Nat.le_of_ble_eq_true rfl⟩) hK trivial rfl hl.1 rfl (Nat.le_of_ble_eq_true rfl) dJ10_checkIndex_5 ⟨Nat.le_of_ble_eq_true rfl, Nat.le_of_ble_eq_true rfl⟩ ?_
    refine lv_pop hx hb dJ10_checkIndex_8 rfl ?_
    exact r_vret C dJ10_checkIndex_9
set_option maxHeartbeats 4000000 in
theorem j_L1charAt (l : Launch) (D : va_G) (k : Nat → ClassId) (v n j : Nat) (f : Nat → Int32) (hj : j < n) (hn : n < 2 ^ 31) : sM l D k yJ15_charAt cJ15_charAt 2 (some .char) 2 43 [.ref v, .int (nI j)] (fun U => EnS U ∧ baC v n f U) (some (.int (((f j &&& 255).toUInt32 % 65536).toInt32))) := by
  refine sM_of (by decide) (Nat.le_of_ble_eq_true rfl) ?_
  intro p e s m below meth c ls C hK hP hl
  obtain ⟨hE, hb2⟩ := id hP
  obtain ⟨hx, hb, hr, hml, hown, hts, hlk⟩ := id C
  have hl : lv_has ls 2 [(0, .ref v), (1, .int (nI j))] := hl
  refine lv_iload_n hx hb dJ15_charAt_0 rfl (lv_at hl 1 rfl) ?_
  refine lv_aload_n hx hb dJ15_charAt_1 rfl (lv_at hl 0 rfl) ?_
  refine va_tlen (v := nI n) hx hb hb2 va_S.rf rfl dJ15_charAt_2 ?_
  refine s_callS (As := [.int (nI j), .int (nI n)]) (rest := []) C (j_StrCheckIndex l D k j n (by omega) (by omega)) (va_cwS 2 hts (lw_S q1760 q631 q84 q632) rfl rfl rfl (by decide +kernel) ⟨Nat.le_of_ble_eq_true rfl, Nat.le_of_ble_eq_true rfl⟩) hK mv_EnS (mv_at mv_EnS hE) rfl hl.1 rfl (Nat.le_of_ble_eq_true rfl) dJ15_charAt_3 ⟨Nat.le_of_ble_eq_true rfl, Nat.le_of_ble_eq_true rfl⟩ ?_
  refine lv_aload_n hx hb dJ15_charAt_6 rfl (lv_at hl 0 rfl) ?_
  refine lv_iload_n hx hb dJ15_charAt_7 rfl (lv_at hl 1 rfl) ?_
  refine va_tb (i := nI j) (v := .int (f j)) hx hb hb2 va_S.rf (vp_in_nI (by omega) (by omega)) (by rw [nI_clamp (by omega)]) dJ15_charAt_8 ?_
  refine lv_sipush (v := 255) hx hb dJ15_charAt_9 rfl ?_
  refine lv_iand hx hb dJ15_charAt_12 ?_
  refine lv_i2c (v := (((f j) &&& 255).toUInt32 % 65536).toInt32) hx hb dJ15_charAt_13 rfl ?_
  exact r_nret C rfl (by rw [sc_c2]; exact sc_nar _) dJ15_charAt_14
set_option maxHeartbeats 4000000 in
theorem j_isLatin1 (l : Launch) (D : va_G) (k : Nat → ClassId) (a v n : Nat) (f : Nat → Int32) : sM l D k yJ10_isLatin1 cJ10_isLatin1 1 (some .boolean) 0 0 [.ref a] (fun U => EnS U ∧ stC a v n f U) (some (.int (bI True))) := by
  refine sM_of (by decide) (Nat.le_of_ble_eq_true rfl) ?_
  intro p e s m below meth c ls C hK hP hl
  obtain ⟨hE, hC⟩ := id hP
  obtain ⟨hx, hb, hr, hml, hown, hts, hlk⟩ := id C
  have hl : lv_has ls 1 [(0, .ref a)] := hl
  refine va_gets (v := .int 1) hx hb hE.1 va_S.rf hown (hts _ q730) (fun _ h => h) dJ10_isLatin1_0 ?_
  refine lv_if_eq (tgt := 17) hx hb dJ10_isLatin1_3 (by decide) (fun c_3 => ?_) (fun c_3 => ?_)
  · exact absurd c_3 (by decide)
  · refine lv_aload_n hx hb dJ10_isLatin1_6 rfl (lv_at hl 0 rfl) ?_
    refine vk_getf hx hb hC.2.1 va_S.rf hown (hts _ q773) (fun _ h => h) dJ10_isLatin1_7 ?_
    refine lv_if_ne (tgt := 17) hx hb dJ10_isLatin1_10 (by decide) (fun c_10 => ?_) (fun c_10 => ?_)
    · exact absurd c_10 (by decide)
    · refine lv_iconst (v := 1) hx hb dJ10_isLatin1_13 rfl ?_
      refine lv_goto (tgt := 18) hx hb dJ10_isLatin1_14 (by decide) ?_
      exact r_zret C (bI_t trivial) dJ10_isLatin1_18
set_option maxHeartbeats 4000000 in
theorem j_coder (l : Launch) (D : va_G) (k : Nat → ClassId) (a v n : Nat) (f : Nat → Int32) : sM l D k yJ10_coder cJ10_coder 1 (some .byte) 0 0 [.ref a] (fun U => EnS U ∧ stC a v n f U) (some (.int 0)) := by
  refine sM_of (by decide) (Nat.le_of_ble_eq_true rfl) ?_
  intro p e s m below meth c ls C hK hP hl
  obtain ⟨hE, hC⟩ := id hP
  obtain ⟨hx, hb, hr, hml, hown, hts, hlk⟩ := id C
  have hl : lv_has ls 1 [(0, .ref a)] := hl
  refine va_gets (v := .int 1) hx hb hE.1 va_S.rf hown (hts _ q730) (fun _ h => h) dJ10_coder_0 ?_
  refine lv_if_eq (tgt := 13) hx hb dJ10_coder_3 (by decide) (fun c_3 => ?_) (fun c_3 => ?_)
  · exact absurd c_3 (by decide)
  · refine lv_aload_n hx hb dJ10_coder_6 rfl (lv_at hl 0 rfl) ?_
    refine vk_getf hx hb hC.2.1 va_S.rf hown (hts _ q773) (fun _ h => h) dJ10_coder_7 ?_
    refine lv_goto (tgt := 14) hx hb dJ10_coder_10 (by decide) ?_
    exact r_nret C rfl rfl dJ10_coder_14
set_option maxHeartbeats 4000000 in
theorem j_length (l : Launch) (D : va_G) (k : Nat → ClassId) (a v n : Nat) (f : Nat → Int32) : sM l D k yJ10_length cJ10_length 1 (some .int) 1 20 [.ref a] (fun U => EnS U ∧ stC a v n f U) (some (.int (nI n))) := by
  refine sM_of (by decide) (Nat.le_of_ble_eq_true rfl) ?_
  intro p e s m below meth c ls C hK hP hl
  obtain ⟨hE, hC⟩ := id hP
  obtain ⟨hx, hb, hr, hml, hown, hts, hlk⟩ := id C
  have hl : lv_has ls 1 [(0, .ref a)] := hl
  refine lv_aload_n hx hb dJ10_length_0 rfl (lv_at hl 0 rfl) ?_
  refine vk_getf hx hb hC.2.2.1 va_S.rf hown (hts _ q772) (fun _ h => h) dJ10_length_1 ?_
  refine va_tlen (v := nI n) hx hb hC.2.2.2 va_S.rf rfl dJ10_length_4 ?_
  refine lv_aload_n hx hb dJ10_length_5 rfl (lv_at hl 0 rfl) ?_
  refine s_callV (As := []) (rest := [.int (nI n)]) C (j_coder l D k a v n f) (cwV 0 hts (lw_V q726 q727 q728 q84 q729) rfl rfl rfl (by decide +kernel) ⟨Nat.le_of_ble_eq_true rfl, Nat.le_of_ble_eq_true rfl⟩) hK (by obtain ⟨cell, h1, h2, h3, -⟩ := hC.1; exact ⟨cell, h1, h2, h3⟩) (mv_and mv_EnS mv_stC) (mv_at (mv_and mv_EnS mv_stC) ⟨hE, hC⟩) rfl hl.1 rfl (Nat.le_of_ble_eq_true rfl) dJ10_length_6 ⟨Nat.le_of_ble_eq_true rfl, Nat.le_of_ble_eq_true rfl⟩ ?_
  refine lv_ishr hx hb dJ10_length_9 ?_
  refine w_topi (y := nI n) (sb_shr0 _) ?_
  exact r_iret C rfl dJ10_length_10
set_option maxHeartbeats 4000000 in
theorem j_charAt (l : Launch) (D : va_G) (k : Nat → ClassId) (a v n : Nat) (f : Nat → Int32) (j : Nat) (hj : j < n) (hn : n < 2 ^ 31) : sM l D k yJ10_charAt cJ10_charAt 2 (some .char) 3 64 [.ref a, .int (nI j)] (fun U => EnS U ∧ stC a v n f U) (some (.int (((f j &&& 255).toUInt32 % 65536).toInt32))) := by
  refine sM_of (by decide) (Nat.le_of_ble_eq_true rfl) ?_
  intro p e s m below meth c ls C hK hP hl
  obtain ⟨hE, hC⟩ := id hP
  obtain ⟨hx, hb, hr, hml, hown, hts, hlk⟩ := id C
  have hl : lv_has ls 2 [(0, .ref a), (1, .int (nI j))] := hl
  refine lv_aload_n hx hb dJ10_charAt_0 rfl (lv_at hl 0 rfl) ?_
  refine s_callV (As := []) (rest := []) C (j_isLatin1 l D k a v n f) (cwV 0 hts (lw_V q790 q791 q792 q84 q793) rfl rfl rfl (by decide +kernel) ⟨Nat.le_of_ble_eq_true rfl, Nat.le_of_ble_eq_true rfl⟩) hK (by obtain ⟨cell, h1, h2, h3, -⟩ := hC.1; exact ⟨cell, h1, h2, h3⟩) (mv_and mv_EnS mv_stC) (mv_at (mv_and mv_EnS mv_stC) ⟨hE, hC⟩) rfl hl.1 rfl (Nat.le_of_ble_eq_true rfl) dJ10_charAt_1 ⟨Nat.le_of_ble_eq_true rfl, Nat.le_of_ble_eq_true rfl⟩ ?_
  refine lv_if_eq (tgt := 16) hx hb dJ10_charAt_4 (by decide) (fun c_4 => ?_) (fun c_4 => ?_)
  · exact absurd trivial (bI_0.mp c_4)
  · have b_4 := bI_nz c_4
    refine lv_aload_n hx hb dJ10_charAt_7 rfl (lv_at hl 0 rfl) ?_
    refine vk_getf hx hb hC.2.2.1 va_S.rf hown (hts _ q772) (fun _ h => h) dJ10_charAt_8 ?_
    refine lv_iload_n hx hb dJ10_charAt_11 rfl (lv_at hl 1 rfl) ?_
    refine s_callS (As := [.ref v, .int (nI j)]) (rest := []) C (j_L1charAt l D k v n j f (by omega) (by omega)) (va_cwS 2 hts (lw_S q1757 q1758 q90 q1759) rfl rfl rfl (by decide +kernel) ⟨Nat.le_of_ble_eq_true rfl, Nat.le_of_ble_eq_true rfl⟩) hK (mv_and mv_EnS mv_baC) (mv_at (mv_and mv_EnS mv_baC) ⟨hE, hC.2.2.2⟩) rfl hl.1 rfl (Nat.le_of_ble_eq_true rfl) dJ10_charAt_12 ⟨Nat.le_of_ble_eq_true rfl, Nat.le_of_ble_eq_true rfl⟩ ?_
    exact r_nret C rfl (by rw [sc_c2]; exact sc_nar _) dJ10_charAt_15
