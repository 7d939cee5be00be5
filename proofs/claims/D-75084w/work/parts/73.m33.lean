/-! the component: append; the object is made (printed by gen/m33.py) -/
set_option maxRecDepth 100000
set_option maxHeartbeats 4000000 in
theorem c_put (l : Launch) (D : va_G) (k : Nat → ClassId) (g : Nat → Nat) (o bb dq cu b : Nat) (eo : Int32) (f : Nat → Int32) (hb0 : b + 4 ≤ 900) (w0 : Int32) : jM l D k yX1_put cX1_put 3 none 0 0 0 0 [.ref o, .int w0] g [(o, .inr (1, [.ref bb, .ref dq, .ref cu, .int (nI b), .int eo])), (bb, .inl (k 1, 900, .inl f))] (fun HH => True) (fun _ : Unit => none) (fun _ _ => True) (fun _ : Unit => [(o, .inr (1, [.ref bb, .ref dq, .ref cu, .int (nI (b + 4)), .int eo])), (bb, .inl (k 1, 900, .inl (putD f b w0)))]) := by
  refine jM_of (by decide) (Nat.le_of_ble_eq_true rfl) ?_
  intro p e s m below meth c ls A hAe C hnm hmn hK hP hD hA hAN _ hX hS hl
  have hN : NW s := hX.nw
  obtain ⟨hx, hb, hr, hml, hown, hts, hlk⟩ := id C
  have hl : lv_has ls 3 [(0, .ref o), (1, .int w0)] := hl
  refine lv_bipush (v := 24) hx hb dX1_put_0 rfl ?_
  refine lv_istore_n (lv' := [(2, .int 24), (0, .ref o), (1, .int w0)]) hx hb dX1_put_2 rfl hl (by decide) rfl (fun ls hl => ?_)
  refine lv_iload_n hx hb dX1_put_3 rfl (lv_at hl 0 rfl) ?_
  refine lv_if_lt (tgt := 36) hx hb dX1_put_4 (by decide) (fun c_4 => ?_) (fun c_4 => ?_)
  · exact absurd c_4 (by decide)
  · refine lv_aload_n hx hb dX1_put_7 rfl (lv_at hl 1 rfl) ?_
    refine va_get hx hb hts in_X1 hown hK hP 0 rfl rfl 0 (by decide) (hts _ q219) (fun _ h => h) rfl dX1_put_8 ?_
    refine lv_aload_n hx hb dX1_put_11 rfl (lv_at hl 1 rfl) ?_
    refine va_get hx hb hts in_X1 hown hK hP 0 rfl rfl 3 (by decide) (hts _ q222) (fun _ h => h) rfl dX1_put_12 ?_
    refine lv_iload_n hx hb dX1_put_15 rfl (lv_at hl 2 rfl) ?_
    refine lv_iload_n hx hb dX1_put_16 rfl (lv_at hl 0 rfl) ?_
    refine lv_ishr hx hb dX1_put_17 ?_
    refine lv_i2b (v := (w0 >>> ((24 : Int32) &&& 31)).toInt8.toInt32) hx hb dX1_put_18 rfl ?_
    refine w_bast hx hb hK hP (va_D_of hD rfl) hS 1 rfl b (nar_b _) rfl (by omega) (Nat.le_of_ble_eq_true rfl) dX1_put_19 (fun H locs hP _ hS => ?_)
    have hP : va_P D clA [(o, .inr (1, [.ref bb, .ref dq, .ref cu, .int (nI b), .int eo])), (bb, .inl (k 1, 900, .inl (upd f b ((w0 >>> ((24 : Int32) &&& 31)).toInt8.toInt32))))] H := hP
    refine lv_aload_n hx hb dX1_put_20 rfl (lv_at hl 1 rfl) ?_
    refine lv_dup hx hb dX1_put_21 rfl ?_
    refine va_get hx hb hts in_X1 hown hK hP 0 rfl rfl 3 (by decide) (hts _ q222) (fun _ h => h) rfl dX1_put_22 ?_
    refine lv_iconst (v := 1) hx hb dX1_put_25 rfl ?_
    refine lv_iadd hx hb dX1_put_26 ?_
    refine w_topi (y := nI (b + 1)) (nI_add b 1) ?_
    refine va_put hx hb hts in_X1 tyX1 tyX1_ok nmX1 hown hK hP (va_D_of hD rfl) hS 0 rfl rfl 3 (by decide) (hts _ q222) (fun _ h => h) rfl rfl rfl rfl (Nat.le_of_ble_eq_true rfl) dX1_put_27 (fun H locs hP _ hS => ?_)
    have hP : va_P D clA [(o, .inr (1, [.ref bb, .ref dq, .ref cu, .int (nI (b + 1)), .int eo])), (bb, .inl (k 1, 900, .inl (upd f b ((w0 >>> ((24 : Int32) &&& 31)).toInt8.toInt32))))] H := hP
    refine lv_iinc (v := 16) (lv' := [(2, .int 16), (0, .ref o), (1, .int w0)]) hx hb dX1_put_30 hl (k := 0) rfl (by decide) (by decide) rfl (fun ls hl => ?_)
    refine lv_goto (tgt := 3) hx hb dX1_put_33 (by decide) ?_
    refine lv_iload_n hx hb dX1_put_3 rfl (lv_at hl 0 rfl) ?_
    refine lv_if_lt (tgt := 36) hx hb dX1_put_4 (by decide) (fun c_4 => ?_) (fun c_4 => ?_)
    · exact absurd c_4 (by decide)
    · refine lv_aload_n hx hb dX1_put_7 rfl (lv_at hl 1 rfl) ?_
      refine va_get hx hb hts in_X1 hown hK hP 0 rfl rfl 0 (by decide) (hts _ q219) (fun _ h => h) rfl dX1_put_8 ?_
      refine lv_aload_n hx hb dX1_put_11 rfl (lv_at hl 1 rfl) ?_
      refine va_get hx hb hts in_X1 hown hK hP 0 rfl rfl 3 (by decide) (hts _ q222) (fun _ h => h) rfl dX1_put_12 ?_
      refine lv_iload_n hx hb dX1_put_15 rfl (lv_at hl 2 rfl) ?_
      refine lv_iload_n hx hb dX1_put_16 rfl (lv_at hl 0 rfl) ?_
      refine lv_ishr hx hb dX1_put_17 ?_
      refine lv_i2b (v := (w0 >>> ((16 : Int32) &&& 31)).toInt8.toInt32) hx hb dX1_put_18 rfl ?_
      refine w_bast hx hb hK hP (va_D_of hD rfl) hS 1 rfl (b + 1) (nar_b _) rfl (by omega) (Nat.le_of_ble_eq_true rfl) dX1_put_19 (fun H locs hP _ hS => ?_)
      have hP : va_P D clA [(o, .inr (1, [.ref bb, .ref dq, .ref cu, .int (nI (b + 1)), .int eo])), (bb, .inl (k 1, 900, .inl (upd (upd f b ((w0 >>> ((24 : Int32) &&& 31)).toInt8.toInt32)) (b + 1) ((w0 >>> ((16 : Int32) &&& 31)).toInt8.toInt32))))] H := hP
      refine lv_aload_n hx hb dX1_put_20 rfl (lv_at hl 1 rfl) ?_
      refine lv_dup hx hb dX1_put_21 rfl ?_
      refine va_get hx hb hts in_X1 hown hK hP 0 rfl rfl 3 (by decide) (hts _ q222) (fun _ h => h) rfl dX1_put_22 ?_
      refine lv_iconst (v := 1) hx hb dX1_put_25 rfl ?_
      refine lv_iadd hx hb dX1_put_26 ?_
      refine w_topi (y := nI ((b + 1) + 1)) (nI_add (b + 1) 1) ?_
      refine va_put hx hb hts in_X1 tyX1 tyX1_ok nmX1 hown hK hP (va_D_of hD rfl) hS 0 rfl rfl 3 (by decide) (hts _ q222) (fun _ h => h) rfl rfl rfl rfl (Nat.le_of_ble_eq_true rfl) dX1_put_27 (fun H locs hP _ hS => ?_)
      have hP : va_P D clA [(o, .inr (1, [.ref bb, .ref dq, .ref cu, .int (nI ((b + 1) + 1)), .int eo])), (bb, .inl (k 1, 900, .inl (upd (upd f b ((w0 >>> ((24 : Int32) &&& 31)).toInt8.toInt32)) (b + 1) ((w0 >>> ((16 : Int32) &&& 31)).toInt8.toInt32))))] H := hP
      refine lv_iinc (v := 8) (lv' := [(2, .int 8), (0, .ref o), (1, .int w0)]) hx hb dX1_put_30 hl (k := 0) rfl (by decide) (by decide) rfl (fun ls hl => ?_)
      refine lv_goto (tgt := 3) hx hb dX1_put_33 (by decide) ?_
      refine lv_iload_n hx hb dX1_put_3 rfl (lv_at hl 0 rfl) ?_
      refine lv_if_lt (tgt := 36) hx hb dX1_put_4 (by decide) (fun c_4 => ?_) (fun c_4 => ?_)
      · exact absurd c_4 (by decide)
      · refine lv_aload_n hx hb dX1_put_7 rfl (lv_at hl 1 rfl) ?_
        refine va_get hx hb hts in_X1 hown hK hP 0 rfl rfl 0 (by decide) (hts _ q219) (fun _ h => h) rfl dX1_put_8 ?_
        refine lv_aload_n hx hb dX1_put_11 rfl (lv_at hl 1 rfl) ?_
        refine va_get hx hb hts in_X1 hown hK hP 0 rfl rfl 3 (by decide) (hts _ q222) (fun _ h => h) rfl dX1_put_12 ?_
        refine lv_iload_n hx hb dX1_put_15 rfl (lv_at hl 2 rfl) ?_
        refine lv_iload_n hx hb dX1_put_16 rfl (lv_at hl 0 rfl) ?_
        refine lv_ishr hx hb dX1_put_17 ?_
        refine lv_i2b (v := (w0 >>> ((8 : Int32) &&& 31)).toInt8.toInt32) hx hb dX1_put_18 rfl ?_
        refine w_bast hx hb hK hP (va_D_of hD rfl) hS 1 rfl ((b + 1) + 1) (nar_b _) rfl (by omega) (Nat.le_of_ble_eq_true rfl) dX1_put_19 (fun H locs hP _ hS => ?_)
        have hP : va_P D clA [(o, .inr (1, [.ref bb, .ref dq, .ref cu, .int (nI ((b + 1) + 1)), .int eo])), (bb, .inl (k 1, 900, .inl (upd (upd (upd f b ((w0 >>> ((24 : Int32) &&& 31)).toInt8.toInt32)) (b + 1) ((w0 >>> ((16 : Int32) &&& 31)).toInt8.toInt32)) ((b + 1) + 1) ((w0 >>> ((8 : Int32) &&& 31)).toInt8.toInt32))))] H := hP
        refine lv_aload_n hx hb dX1_put_20 rfl (lv_at hl 1 rfl) ?_
        refine lv_dup hx hb dX1_put_21 rfl ?_
        refine va_get hx hb hts in_X1 hown hK hP 0 rfl rfl 3 (by decide) (hts _ q222) (fun _ h => h) rfl dX1_put_22 ?_
        refine lv_iconst (v := 1) hx hb dX1_put_25 rfl ?_
        refine lv_iadd hx hb dX1_put_26 ?_
        refine w_topi (y := nI (((b + 1) + 1) + 1)) (nI_add ((b + 1) + 1) 1) ?_
        refine va_put hx hb hts in_X1 tyX1 tyX1_ok nmX1 hown hK hP (va_D_of hD rfl) hS 0 rfl rfl 3 (by decide) (hts _ q222) (fun _ h => h) rfl rfl rfl rfl (Nat.le_of_ble_eq_true rfl) dX1_put_27 (fun H locs hP _ hS => ?_)
        have hP : va_P D clA [(o, .inr (1, [.ref bb, .ref dq, .ref cu, .int (nI (((b + 1) + 1) + 1)), .int eo])), (bb, .inl (k 1, 900, .inl (upd (upd (upd f b ((w0 >>> ((24 : Int32) &&& 31)).toInt8.toInt32)) (b + 1) ((w0 >>> ((16 : Int32) &&& 31)).toInt8.toInt32)) ((b + 1) + 1) ((w0 >>> ((8 : Int32) &&& 31)).toInt8.toInt32))))] H := hP
        refine lv_iinc (v := 0) (lv' := [(2, .int 0), (0, .ref o), (1, .int w0)]) hx hb dX1_put_30 hl (k := 0) rfl (by decide) (by decide) rfl (fun ls hl => ?_)
        refine lv_goto (tgt := 3) hx hb dX1_put_33 (by decide) ?_
        refine lv_iload_n hx hb dX1_put_3 rfl (lv_at hl 0 rfl) ?_
        refine lv_if_lt (tgt := 36) hx hb dX1_put_4 (by decide) (fun c_4 => ?_) (fun c_4 => ?_)
        · exact absurd c_4 (by decide)
        · refine lv_aload_n hx hb dX1_put_7 rfl (lv_at hl 1 rfl) ?_
          refine va_get hx hb hts in_X1 hown hK hP 0 rfl rfl 0 (by decide) (hts _ q219) (fun _ h => h) rfl dX1_put_8 ?_
          refine lv_aload_n hx hb dX1_put_11 rfl (lv_at hl 1 rfl) ?_
          refine va_get hx hb hts in_X1 hown hK hP 0 rfl rfl 3 (by decide) (hts _ q222) (fun _ h => h) rfl dX1_put_12 ?_
          refine lv_iload_n hx hb dX1_put_15 rfl (lv_at hl 2 rfl) ?_
          refine lv_iload_n hx hb dX1_put_16 rfl (lv_at hl 0 rfl) ?_
          refine lv_ishr hx hb dX1_put_17 ?_
          refine lv_i2b (v := (w0 >>> ((0 : Int32) &&& 31)).toInt8.toInt32) hx hb dX1_put_18 rfl ?_
          refine w_bast hx hb hK hP (va_D_of hD rfl) hS 1 rfl (((b + 1) + 1) + 1) (nar_b _) rfl (by omega) (Nat.le_of_ble_eq_true rfl) dX1_put_19 (fun H locs hP _ hS => ?_)
          have hP : va_P D clA [(o, .inr (1, [.ref bb, .ref dq, .ref cu, .int (nI (((b + 1) + 1) + 1)), .int eo])), (bb, .inl (k 1, 900, .inl (upd (upd (upd (upd f b ((w0 >>> ((24 : Int32) &&& 31)).toInt8.toInt32)) (b + 1) ((w0 >>> ((16 : Int32) &&& 31)).toInt8.toInt32)) ((b + 1) + 1) ((w0 >>> ((8 : Int32) &&& 31)).toInt8.toInt32)) (((b + 1) + 1) + 1) ((w0 >>> ((0 : Int32) &&& 31)).toInt8.toInt32))))] H := hP
          refine lv_aload_n hx hb dX1_put_20 rfl (lv_at hl 1 rfl) ?_
          refine lv_dup hx hb dX1_put_21 rfl ?_
          refine va_get hx hb hts in_X1 hown hK hP 0 rfl rfl 3 (by decide) (hts _ q222) (fun _ h => h) rfl dX1_put_22 ?_
          refine lv_iconst (v := 1) hx hb dX1_put_25 rfl ?_
          refine lv_iadd hx hb dX1_put_26 ?_
          refine w_topi (y := nI ((((b + 1) + 1) + 1) + 1)) (nI_add (((b + 1) + 1) + 1) 1) ?_
          refine va_put hx hb hts in_X1 tyX1 tyX1_ok nmX1 hown hK hP (va_D_of hD rfl) hS 0 rfl rfl 3 (by decide) (hts _ q222) (fun _ h => h) rfl rfl rfl rfl (Nat.le_of_ble_eq_true rfl) dX1_put_27 (fun H locs hP _ hS => ?_)
          have hP : va_P D clA [(o, .inr (1, [.ref bb, .ref dq, .ref cu, .int (nI ((((b + 1) + 1) + 1) + 1)), .int eo])), (bb, .inl (k 1, 900, .inl (upd (upd (upd (upd f b ((w0 >>> ((24 : Int32) &&& 31)).toInt8.toInt32)) (b + 1) ((w0 >>> ((16 : Int32) &&& 31)).toInt8.toInt32)) ((b + 1) + 1) ((w0 >>> ((8 : Int32) &&& 31)).toInt8.toInt32)) (((b + 1) + 1) + 1) ((w0 >>> ((0 : Int32) &&& 31)).toInt8.toInt32))))] H := hP
          refine lv_iinc (v := (-8)) (lv' := [(2, .int (-8)), (0, .ref o), (1, .int w0)]) hx hb dX1_put_30 hl (k := 0) rfl (by decide) (by decide) rfl (fun ls hl => ?_)
          refine lv_goto (tgt := 3) hx hb dX1_put_33 (by decide) ?_
          refine lv_iload_n hx hb dX1_put_3 rfl (lv_at hl 0 rfl) ?_
          refine lv_if_lt (tgt := 36) hx hb dX1_put_4 (by decide) (fun c_4 => ?_) (fun c_4 => ?_)
          · exact j_vret hAe C () rfl trivial hP (va_D_of hD rfl) hS (by first | exact Nat.le_of_ble_eq_true rfl | omega | (dsimp only [Rm]; omega)) (by first | exact Nat.le_of_ble_eq_true rfl | omega | (dsimp only [Rm]; omega)) dX1_put_36
          · exact absurd c_4 (by decide)
set_option maxHeartbeats 4000000 in
theorem c_append_no (l : Launch) (D : va_G) (k : Nat → ClassId) (g : Nat → Nat) (o bb dq cu b : Nat) (eo : Int32) (f : Nat → Int32) (hb0 : b ≤ 900) (hf0 : ¬ b + 20 ≤ 900) (w0 w1 w2 w3 w4 : Int32) : jM l D k yX1_append cX1_append 6 (some .int) 0 0 0 0 [.ref o, .int w0, .int w1, .int w2, .int w3, .int w4] g [(o, .inr (1, [.ref bb, .ref dq, .ref cu, .int (nI b), .int eo])), (bb, .inl (k 1, 900, .inl f))] (fun HH => True) (fun _ : Unit => some (.int (-1))) (fun _ _ => True) (fun _ : Unit => [(o, .inr (1, [.ref bb, .ref dq, .ref cu, .int (nI b), .int eo])), (bb, .inl (k 1, 900, .inl f))]) := by
  refine jM_of (by decide) (Nat.le_of_ble_eq_true rfl) ?_
  intro p e s m below meth c ls A hAe C hnm hmn hK hP hD hA hAN _ hX hS hl
  have hN : NW s := hX.nw
  obtain ⟨hx, hb, hr, hml, hown, hts, hlk⟩ := id C
  have hl : lv_has ls 6 [(0, .ref o), (1, .int w0), (2, .int w1), (3, .int w2), (4, .int w3), (5, .int w4)] := hl
  refine lv_aload_n hx hb dX1_append_0 rfl (lv_at hl 0 rfl) ?_
  refine va_get hx hb hts in_X1 hown hK hP 0 rfl rfl 3 (by decide) (hts _ q222) (fun _ h => h) rfl dX1_append_1 ?_
  refine lv_bipush (v := 20) hx hb dX1_append_4 rfl ?_
  refine lv_iadd hx hb dX1_append_6 ?_
  refine w_topi (y := nI (b + 20)) (nI_add b 20) ?_
  refine lv_sipush (v := 900) hx hb dX1_append_7 rfl ?_
  refine lv_icmp_le (tgt := 15) hx hb dX1_append_10 (by decide) (fun c_10 => ?_) (fun c_10 => ?_)
  · exact absurd (nI_le' (b := 900) c_10 (by omega) (by decide)) hf0
  · refine lv_iconst (v := (-1)) hx hb dX1_append_13 rfl ?_
    exact j_iret hAe C () rfl trivial hP (va_D_of hD rfl) hS (by first | exact Nat.le_of_ble_eq_true rfl | omega | (dsimp only [Rm]; omega)) (by first | exact Nat.le_of_ble_eq_true rfl | omega | (dsimp only [Rm]; omega)) dX1_append_14
set_option maxHeartbeats 4000000 in
theorem c_append_ok (l : Launch) (D : va_G) (k : Nat → ClassId) (g : Nat → Nat) (o bb dq cu b : Nat) (eo : Int32) (f : Nat → Int32) (hb0 : b + 20 ≤ 900) (w0 w1 w2 w3 w4 : Int32) : jM l D k yX1_append cX1_append 6 (some .int) 1 22 0 0 [.ref o, .int w0, .int w1, .int w2, .int w3, .int w4] g [(o, .inr (1, [.ref bb, .ref dq, .ref cu, .int (nI b), .int eo])), (bb, .inl (k 1, 900, .inl f))] (fun HH => True) (fun _ : Unit => some (.int (nI (b + 20)))) (fun _ _ => True) (fun _ : Unit => [(o, .inr (1, [.ref bb, .ref dq, .ref cu, .int (nI (b + 20)), .int eo])), (bb, .inl (k 1, 900, .inl (putD (putD (putD (putD (putD f b w0) (b + 4) w1) (b + 8) w2) (b + 12) w3) (b + 16) w4)))]) := by
  refine jM_of (by decide) (Nat.le_of_ble_eq_true rfl) ?_
  intro p e s m below meth c ls A hAe C hnm hmn hK hP hD hA hAN _ hX hS hl
  have hN : NW s := hX.nw
  obtain ⟨hx, hb, hr, hml, hown, hts, hlk⟩ := id C
  have hl : lv_has ls 6 [(0, .ref o), (1, .int w0), (2, .int w1), (3, .int w2), (4, .int w3), (5, .int w4)] := hl
  refine lv_aload_n hx hb dX1_append_0 rfl (lv_at hl 0 rfl) ?_
  refine va_get hx hb hts in_X1 hown hK hP 0 rfl rfl 3 (by decide) (hts _ q222) (fun _ h => h) rfl dX1_append_1 ?_
  refine lv_bipush (v := 20) hx hb dX1_append_4 rfl ?_
  refine lv_iadd hx hb dX1_append_6 ?_
  refine w_topi (y := nI (b + 20)) (nI_add b 20) ?_
  refine lv_sipush (v := 900) hx hb dX1_append_7 rfl ?_
  refine lv_icmp_le (tgt := 15) hx hb dX1_append_10 (by decide) (fun c_10 => ?_) (fun c_10 => ?_)
  · refine lv_aload_n hx hb dX1_append_15 rfl (lv_at hl 0 rfl) ?_
    refine lv_iload_n hx hb dX1_append_16 rfl (lv_at hl 1 rfl) ?_
    refine j_after (w1 := [(o, .inr (1, [.ref bb, .ref dq, .ref cu, .int (nI b), .int eo])), (bb, .inl (k 1, 900, .inl f))]) (w2 := []) (va_runV (As := [.int w0]) (rest := []) (g := F0 m 17 ls [.int w0, .ref o]) C.fix (c_put l D k g o bb dq cu b eo f (by omega) w0) (cwV 1 hts (lw_V q239 q241 qs0 q68 q242) rfl rfl rfl (by decide +kernel) ⟨Nat.le_of_ble_eq_true rfl, Nat.le_of_ble_eq_true rfl⟩) (preV mv2_jPre hK (va_recv hK hP (ci := 1) (q0 := 0) rfl rfl) (fun U hU hW => jPre_at (w1 := [(o, .inr (1, [.ref bb, .ref dq, .ref cu, .int (nI b), .int eo])), (bb, .inl (k 1, 900, .inl f))]) (w2 := []) hP (va_D_of hD rfl) hAN hX hS trivial hU hW)) rfl rfl hl.1 rfl (lv_room (Nat.le_of_ble_eq_true rfl)) dX1_append_17 ⟨(by first | exact Nat.le_of_ble_eq_true rfl | omega | (dsimp only [Rm]; omega)), (by first | exact Nat.le_of_ble_eq_true rfl | omega | (dsimp only [Rm]; omega))⟩) hP (va_D_of hD rfl) hS hA (fun xx H locs hB hP hD hS hsz hk => ?_)
    have hP : va_P D clA [(o, .inr (1, [.ref bb, .ref dq, .ref cu, .int (nI (b + 4)), .int eo])), (bb, .inl (k 1, 900, .inl (putD f b w0)))] H := hP
    have hD : va_D A [(o, .inr (1, [.ref bb, .ref dq, .ref cu, .int (nI (b + 4)), .int eo])), (bb, .inl (k 1, 900, .inl (putD f b w0)))] := hD
    refine lv_aload_n hx hb dX1_append_20 rfl (lv_at hl 0 rfl) ?_
    refine lv_iload_n hx hb dX1_append_21 rfl (lv_at hl 2 rfl) ?_
    refine j_after (w1 := [(o, .inr (1, [.ref bb, .ref dq, .ref cu, .int (nI (b + 4)), .int eo])), (bb, .inl (k 1, 900, .inl (putD f b w0)))]) (w2 := []) (va_runV (As := [.int w1]) (rest := []) (g := F0 m 22 ls [.int w1, .ref o]) C.fix (c_put l D k g o bb dq cu (b + 4) eo (putD f b w0) (by omega) w1) (cwV 1 hts (lw_V q239 q241 qs0 q68 q242) rfl rfl rfl (by decide +kernel) ⟨Nat.le_of_ble_eq_true rfl, Nat.le_of_ble_eq_true rfl⟩) (preV mv2_jPre hK (va_recv hK hP (ci := 1) (q0 := 0) rfl rfl) (fun U hU hW => jPre_at (w1 := [(o, .inr (1, [.ref bb, .ref dq, .ref cu, .int (nI (b + 4)), .int eo])), (bb, .inl (k 1, 900, .inl (putD f b w0)))]) (w2 := []) hP (va_D_of hD rfl) hAN hX hS trivial hU hW)) rfl rfl hl.1 rfl (lv_room (Nat.le_of_ble_eq_true rfl)) dX1_append_22 ⟨(by first | exact Nat.le_of_ble_eq_true rfl | omega | (dsimp only [Rm]; omega)), (by first | exact Nat.le_of_ble_eq_true rfl | omega | (dsimp only [Rm]; omega))⟩) hP (va_D_of hD rfl) hS hA (fun xx H locs hB hP hD hS hsz hk => ?_)
    have hP : va_P D clA [(o, .inr (1, [.ref bb, .ref dq, .ref cu, .int (nI (b + 8)), .int eo])), (bb, .inl (k 1, 900, .inl (putD (putD f b w0) (b + 4) w1)))] H := hP
    have hD : va_D A [(o, .inr (1, [.ref bb, .ref dq, .ref cu, .int (nI (b + 8)), .int eo])), (bb, .inl (k 1, 900, .inl (putD (putD f b w0) (b + 4) w1)))] := hD
    refine lv_aload_n hx hb dX1_append_25 rfl (lv_at hl 0 rfl) ?_
    refine lv_iload_n hx hb dX1_append_26 rfl (lv_at hl 3 rfl) ?_
    refine j_after (w1 := [(o, .inr (1, [.ref bb, .ref dq, .ref cu, .int (nI (b + 8)), .int eo])), (bb, .inl (k 1, 900, .inl (putD (putD f b w0) (b + 4) w1)))]) (w2 := []) (va_runV (As := [.int w2]) (rest := []) (g := F0 m 27 ls [.int w2, .ref o]) C.fix (c_put l D k g o bb dq cu (b + 8) eo (putD (putD f b w0) (b + 4) w1) (by omega) w2) (cwV 1 hts (lw_V q239 q241 qs0 q68 q242) rfl rfl rfl (by decide +kernel) ⟨Nat.le_of_ble_eq_true rfl, Nat.le_of_ble_eq_true rfl⟩) (preV mv2_jPre hK (va_recv hK hP (ci := 1) (q0 := 0) rfl rfl) (fun U hU hW => jPre_at (w1 := [(o, .inr (1, [.ref bb, .ref dq, .ref cu, .int (nI (b + 8)), .int eo])), (bb, .inl (k 1, 900, .inl (putD (putD f b w0) (b + 4) w1)))]) (w2 := []) hP (va_D_of hD rfl) hAN hX hS trivial hU hW)) rfl rfl hl.1 rfl (lv_room (Nat.le_of_ble_eq_true rfl)) dX1_append_27 ⟨(by first | exact Nat.le_of_ble_eq_true rfl | omega | (dsimp only [Rm]; omega)), (by first | exact Nat.le_of_ble_eq_true rfl | omega | (dsimp only [Rm]; omega))⟩) hP (va_D_of hD rfl) hS hA (fun xx H locs hB hP hD hS hsz hk => ?_)
    have hP : va_P D clA [(o, .inr (1, [.ref bb, .ref dq, .ref cu, .int (nI (b + 12)), .int eo])), (bb, .inl (k 1, 900, .inl (putD (putD (putD f b w0) (b + 4) w1) (b + 8) w2)))] H := hP
    have hD : va_D A [(o, .inr (1, [.ref bb, .ref dq, .ref cu, .int (nI (b + 12)), .int eo])), (bb, .inl (k 1, 900, .inl (putD (putD (putD f b w0) (b + 4) w1) (b + 8) w2)))] := hD
    refine lv_aload_n hx hb dX1_append_30 rfl (lv_at hl 0 rfl) ?_
    refine lv_iload hx hb dX1_append_31 (lv_at hl 4 rfl) ?_
    refine j_after (w1 := [(o, .inr (1, [.ref bb, .ref dq, .ref cu, .int (nI (b + 12)), .int eo])), (bb, .inl (k 1, 900, .inl (putD (putD (putD f b w0) (b + 4) w1) (b + 8) w2)))]) (w2 := []) (va_runV (As := [.int w3]) (rest := []) (g := F0 m 33 ls [.int w3, .ref o]) C.fix (c_put l D k g o bb dq cu (b + 12) eo (putD (putD (putD f b w0) (b + 4) w1) (b + 8) w2) (by omega) w3) (cwV 1 hts (lw_V q239 q241 qs0 q68 q242) rfl rfl rfl (by decide +kernel) ⟨Nat.le_of_ble_eq_true rfl, Nat.le_of_ble_eq_true rfl⟩) (preV mv2_jPre hK (va_recv hK hP (ci := 1) (q0 := 0) rfl rfl) (fun U hU hW => jPre_at (w1 := [(o, .inr (1, [.ref bb, .ref dq, .ref cu, .int (nI (b + 12)), .int eo])), (bb, .inl (k 1, 900, .inl (putD (putD (putD f b w0) (b + 4) w1) (b + 8) w2)))]) (w2 := []) hP (va_D_of hD rfl) hAN hX hS trivial hU hW)) rfl rfl hl.1 rfl (lv_room (Nat.le_of_ble_eq_true rfl)) dX1_append_33 ⟨(by first | exact Nat.le_of_ble_eq_true rfl | omega | (dsimp only [Rm]; omega)), (by first | exact Nat.le_of_ble_eq_true rfl | omega | (dsimp only [Rm]; omega))⟩) hP (va_D_of hD rfl) hS hA (fun xx H locs hB hP hD hS hsz hk => ?_)
    have hP : va_P D clA [(o, .inr (1, [.ref bb, .ref dq, .ref cu, .int (nI (b + 16)), .int eo])), (bb, .inl (k 1, 900, .inl (putD (putD (putD (putD f b w0) (b + 4) w1) (b + 8) w2) (b + 12) w3)))] H := hP
    have hD : va_D A [(o, .inr (1, [.ref bb, .ref dq, .ref cu, .int (nI (b + 16)), .int eo])), (bb, .inl (k 1, 900, .inl (putD (putD (putD (putD f b w0) (b + 4) w1) (b + 8) w2) (b + 12) w3)))] := hD
    refine lv_aload_n hx hb dX1_append_36 rfl (lv_at hl 0 rfl) ?_
    refine lv_iload hx hb dX1_append_37 (lv_at hl 5 rfl) ?_
    refine j_after (w1 := [(o, .inr (1, [.ref bb, .ref dq, .ref cu, .int (nI (b + 16)), .int eo])), (bb, .inl (k 1, 900, .inl (putD (putD (putD (putD f b w0) (b + 4) w1) (b + 8) w2) (b + 12) w3)))]) (w2 := []) (va_runV (As := [.int w4]) (rest := []) (g := F0 m 39 ls [.int w4, .ref o]) C.fix (c_put l D k g o bb dq cu (b + 16) eo (putD (putD (putD (putD f b w0) (b + 4) w1) (b + 8) w2) (b + 12) w3) (by omega) w4) (cwV 1 hts (lw_V q239 q241 qs0 q68 q242) rfl rfl rfl (by decide +kernel) ⟨Nat.le_of_ble_eq_true rfl, Nat.le_of_ble_eq_true rfl⟩) (preV mv2_jPre hK (va_recv hK hP (ci := 1) (q0 := 0) rfl rfl) (fun U hU hW => jPre_at (w1 := [(o, .inr (1, [.ref bb, .ref dq, .ref cu, .int (nI (b + 16)), .int eo])), (bb, .inl (k 1, 900, .inl (putD (putD (putD (putD f b w0) (b + 4) w1) (b + 8) w2) (b + 12) w3)))]) (w2 := []) hP (va_D_of hD rfl) hAN hX hS trivial hU hW)) rfl rfl hl.1 rfl (lv_room (Nat.le_of_ble_eq_true rfl)) dX1_append_39 ⟨(by first | exact Nat.le_of_ble_eq_true rfl | omega | (dsimp only [Rm]; omega)), (by first | exact Nat.le_of_ble_eq_true rfl | omega | (dsimp only [Rm]; omega))⟩) hP (va_D_of hD rfl) hS hA (fun xx H locs hB hP hD hS hsz hk => ?_)
    have hP : va_P D clA [(o, .inr (1, [.ref bb, .ref dq, .ref cu, .int (nI (b + 20)), .int eo])), (bb, .inl (k 1, 900, .inl (putD (putD (putD (putD (putD f b w0) (b + 4) w1) (b + 8) w2) (b + 12) w3) (b + 16) w4)))] H := hP
    have hD : va_D A [(o, .inr (1, [.ref bb, .ref dq, .ref cu, .int (nI (b + 20)), .int eo])), (bb, .inl (k 1, 900, .inl (putD (putD (putD (putD (putD f b w0) (b + 4) w1) (b + 8) w2) (b + 12) w3) (b + 16) w4)))] := hD
    refine lv_aload_n hx hb dX1_append_42 rfl (lv_at hl 0 rfl) ?_
    refine va_get hx hb hts in_X1 hown hK hP 0 rfl rfl 3 (by decide) (hts _ q222) (fun _ h => h) rfl dX1_append_43 ?_
    exact j_iret hAe C () rfl trivial hP (va_D_of hD rfl) hS (by first | exact Nat.le_of_ble_eq_true rfl | omega | (dsimp only [Rm]; omega)) (by first | exact Nat.le_of_ble_eq_true rfl | omega | (dsimp only [Rm]; omega)) dX1_append_46
  · exact absurd (nI_nle' (b := 900) c_10 (by omega) (by decide)) (by omega)
set_option maxHeartbeats 4000000 in
theorem c_init (l : Launch) (D : va_G) (k : Nat → ClassId) (g : Nat → Nat) (o : Nat) : jM l D k yX1_init cX1_init 1 none 6 3111 10 960 [.ref o] g [(o, .inr (1, [.null, .null, .null, .int 0, .int 0]))] (fun HH => True) (fun xx : Nat × Nat × Nat × Nat × Nat × Nat × Nat × Nat × Nat × Nat => none) (fun _ _ => True) (fun xx : Nat × Nat × Nat × Nat × Nat × Nat × Nat × Nat × Nat × Nat => [(o, .inr (1, [.ref xx.1, .ref xx.2.1, .ref xx.2.2.2.1, .int 0, .int (-1)])), (xx.1, .inl (k 1, 900, .inl (fun _ => 0))), (xx.2.1, .inr (11, [.ref xx.2.2.1, .int 0, .int 0])), (xx.2.2.1, .inl (k 3, 17, .inr (.inr (.inr (.inr (rfs 0 (fun _ => 0))))))), (xx.2.2.2.1, .inr (2, [.ref xx.2.2.2.2.1, .ref xx.2.2.2.2.2.2.1, .ref xx.2.2.2.2.2.2.2.2.1, .ref (g 4), .int 0])), (xx.2.2.2.2.1, .inr (3, [.ref xx.2.2.2.2.2.1, .int 0])), (xx.2.2.2.2.2.1, .inl (k 0, 16, .inl (fun _ => 0))), (xx.2.2.2.2.2.2.1, .inr (4, [.ref xx.2.2.2.2.2.2.2.1, .int 12])), (xx.2.2.2.2.2.2.2.1, .inr (12, [.int (nI 0), .ref (g 1), .int 0])), (xx.2.2.2.2.2.2.2.2.1, .inr (4, [.ref xx.2.2.2.2.2.2.2.2.2, .int 24])), (xx.2.2.2.2.2.2.2.2.2, .inr (12, [.int (nI 0), .ref (g 1), .int 0]))]) := by
  refine jM_of (by decide) (Nat.le_of_ble_eq_true rfl) ?_
  intro p e s m below meth c ls A hAe C hnm hmn hK hP hD hA hAN _ hX hS hl
  have hN : NW s := hX.nw
  obtain ⟨hx, hb, hr, hml, hown, hts, hlk⟩ := id C
  have hl : lv_has ls 1 [(0, .ref o)] := hl
  refine lv_aload_n hx hb dX1_init_0 rfl (lv_at hl 0 rfl) ?_
  refine W.objInit hx hb hown (hts _ q111) (hts _ q112) (hts _ q113) rfl (by rw [hml]; exact hl.1) rfl dX1_init_1 (Nat.le_of_ble_eq_true rfl) (Nat.le_of_ble_eq_true rfl) ?_
  refine lv_aload_n hx hb dX1_init_4 rfl (lv_at hl 0 rfl) ?_
  refine lv_sipush (v := 900) hx hb dX1_init_5 rfl ?_
  refine n_newa (atype := .byte) (a0 := (900, .inl (fun _ => 0))) hx hb (hts _ q135) hK hP (va_D_of hD rfl) hS hA 1 rfl (fun _ => rfl) (by decide) rfl (Nat.le_of_ble_eq_true rfl) (by first | exact Nat.le_of_ble_eq_true rfl | omega | (dsimp only [Rm]; omega)) (by first | exact Nat.le_of_ble_eq_true rfl | omega | (dsimp only [Rm]; omega)) dX1_init_8 (fun bb H _ hP hD hS => ?_)
  refine va_putF hx hb hts in_X1 tyX1 tyX1_ok nmX1 hown hK hP (va_D_of hD rfl) hS 1 rfl rfl 0 (by decide) (hts _ q219) (fun _ h => h) rfl hnm rfl rfl rfl rfl (Nat.le_of_ble_eq_true rfl) dX1_init_10 (fun H locs hP _ hS => ?_)
  have hP : va_P D clA [(bb, .inl (k 1, 900, .inl (fun _ => 0))), (o, .inr (1, [.ref bb, .null, .null, .int 0, .int 0]))] H := hP
  refine lv_aload_n hx hb dX1_init_13 rfl (lv_at hl 0 rfl) ?_
  refine n_new (fs := [.null, .int 0, .int 0]) hx hb hts in_J1 tyJ1 tyJ1_ok hown (hts _ q114) (hts _ q115) (hts _ q70) hK hP (va_D_of hD rfl) hS hA (ci := 11) rfl (by decide +kernel) (by first | exact Nat.le_of_ble_eq_true rfl | omega | (dsimp only [Rm]; omega)) (by first | exact Nat.le_of_ble_eq_true rfl | omega | (dsimp only [Rm]; omega)) dX1_init_14 (fun dq H _ hP hD hS => ?_)
  refine lv_dup hx hb dX1_init_17 rfl ?_
  refine j_after (w1 := [(dq, .inr (11, [.null, .int 0, .int 0]))]) (w2 := [(bb, .inl (k 1, 900, .inl (fun _ => 0))), (o, .inr (1, [.ref bb, .null, .null, .int 0, .int 0]))]) (va_runI (As := []) (rest := [.ref dq, .ref o]) (g := F0 m 18 ls [.ref dq, .ref dq, .ref o]) C.fix (j_dqInit l D k g dq) (cwC 0 hts q116 q117 q70 q118 rfl rfl rfl (by decide +kernel) ⟨Nat.le_of_ble_eq_true rfl, Nat.le_of_ble_eq_true rfl⟩) (preS mv2_jPre hK (fun U hU hW => jPre_at (w1 := [(dq, .inr (11, [.null, .int 0, .int 0]))]) (w2 := [(bb, .inl (k 1, 900, .inl (fun _ => 0))), (o, .inr (1, [.ref bb, .null, .null, .int 0, .int 0]))]) hP (va_D_of hD rfl) hAN hX hS trivial hU hW)) rfl rfl hl.1 rfl (lv_room (Nat.le_of_ble_eq_true rfl)) dX1_init_18 ⟨(by first | exact Nat.le_of_ble_eq_true rfl | omega | (dsimp only [Rm]; omega)), (by first | exact Nat.le_of_ble_eq_true rfl | omega | (dsimp only [Rm]; omega))⟩) hP (va_D_of hD rfl) hS hA (fun el H locs hB hP hD hS hsz hk => ?_)
  have hP : va_P D clA [(dq, .inr (11, [.ref el, .int 0, .int 0])), (el, .inl (k 3, 17, .inr (.inr (.inr (.inr (rfs 0 (fun _ => 0))))))), (bb, .inl (k 1, 900, .inl (fun _ => 0))), (o, .inr (1, [.ref bb, .null, .null, .int 0, .int 0]))] H := hP
  have hD : va_D A [(dq, .inr (11, [.ref el, .int 0, .int 0])), (el, .inl (k 3, 17, .inr (.inr (.inr (.inr (rfs 0 (fun _ => 0))))))), (bb, .inl (k 1, 900, .inl (fun _ => 0))), (o, .inr (1, [.ref bb, .null, .null, .int 0, .int 0]))] := hD
  refine va_putF hx hb hts in_X1 tyX1 tyX1_ok nmX1 hown hK hP (va_D_of hD rfl) hS 3 rfl rfl 1 (by decide) (hts _ q220) (fun _ h => h) rfl hnm rfl rfl rfl rfl (Nat.le_of_ble_eq_true rfl) dX1_init_21 (fun H locs hP _ hS => ?_)
  have hP : va_P D clA [(dq, .inr (11, [.ref el, .int 0, .int 0])), (el, .inl (k 3, 17, .inr (.inr (.inr (.inr (rfs 0 (fun _ => 0))))))), (bb, .inl (k 1, 900, .inl (fun _ => 0))), (o, .inr (1, [.ref bb, .ref dq, .null, .int 0, .int 0]))] H := hP
  refine lv_aload_n hx hb dX1_init_24 rfl (lv_at hl 0 rfl) ?_
  refine n_new (fs := [.null, .null, .null, .null, .int 0]) hx hb hts in_X2 tyX2 tyX2_ok hown (hts _ q136) (hts _ q137) (hts _ q71) hK hP (va_D_of hD rfl) hS hA (ci := 2) rfl (by decide +kernel) (by first | exact Nat.le_of_ble_eq_true rfl | omega | (dsimp only [Rm]; omega)) (by first | exact Nat.le_of_ble_eq_true rfl | omega | (dsimp only [Rm]; omega)) dX1_init_25 (fun ds H _ hP hD hS => ?_)
  refine lv_dup hx hb dX1_init_28 rfl ?_
  refine n_new (fs := [.null, .int 0]) hx hb hts in_X3 tyX3 tyX3_ok hown (hts _ q138) (hts _ q139) (hts _ q72) hK hP (va_D_of hD rfl) hS hA (ci := 3) rfl (by decide +kernel) (by first | exact Nat.le_of_ble_eq_true rfl | omega | (dsimp only [Rm]; omega)) (by first | exact Nat.le_of_ble_eq_true rfl | omega | (dsimp only [Rm]; omega)) dX1_init_29 (fun ca H _ hP hD hS => ?_)
  refine lv_dup hx hb dX1_init_32 rfl ?_
  refine k_after (va_runIN (As := []) (rest := [.ref ca, .ref ds, .ref ds, .ref o]) (g := F0 m 33 ls [.ref ca, .ref ca, .ref ds, .ref ds, .ref o]) C.fix (c_CalInit l D k g ca ([(ds, .inr (2, [.null, .null, .null, .null, .int 0])), (dq, .inr (11, [.ref el, .int 0, .int 0])), (el, .inl (k 3, 17, .inr (.inr (.inr (.inr (rfs 0 (fun _ => 0))))))), (bb, .inl (k 1, 900, .inl (fun _ => 0))), (o, .inr (1, [.ref bb, .ref dq, .null, .int 0, .int 0]))]) A (va_D_of hD rfl) hAN) ⟨(va_cnB 0 hts (lw_meth q142) rfl rfl rfl (hN _ q140 rfl) (hts _ q72) (by decide +kernel) ⟨Nat.le_of_ble_eq_true rfl, Nat.le_of_ble_eq_true rfl⟩), rfl, hts _ q141⟩ (preS (mv2_hPre mv2_hKX) hK (fun U hU hW => ⟨by rw [hU]; exact hP, by rw [hU]; exact fun q h => hA q (Nat.le_trans hS.1 h), (hKX_at hX hS hAN trivial hU hW)⟩)) rfl rfl hl.1 rfl (lv_room (Nat.le_of_ble_eq_true rfl)) dX1_init_33 ⟨(by first | exact Nat.le_of_ble_eq_true rfl | omega | (dsimp only [Rm]; omega)), (by first | exact Nat.le_of_ble_eq_true rfl | omega | (dsimp only [Rm]; omega))⟩) hS (fun _ h => h) (fun ha H locs hB hP hD hS hsz hk => ?_)
  have hP : va_P D clA [(ca, .inr (3, [.ref ha, .int 0])), (ha, .inl (k 0, 16, .inl (fun _ => 0))), (ds, .inr (2, [.null, .null, .null, .null, .int 0])), (dq, .inr (11, [.ref el, .int 0, .int 0])), (el, .inl (k 3, 17, .inr (.inr (.inr (.inr (rfs 0 (fun _ => 0))))))), (bb, .inl (k 1, 900, .inl (fun _ => 0))), (o, .inr (1, [.ref bb, .ref dq, .null, .int 0, .int 0]))] H := hP
  have hD : va_D A [(ca, .inr (3, [.ref ha, .int 0])), (ha, .inl (k 0, 16, .inl (fun _ => 0))), (ds, .inr (2, [.null, .null, .null, .null, .int 0])), (dq, .inr (11, [.ref el, .int 0, .int 0])), (el, .inl (k 3, 17, .inr (.inr (.inr (.inr (rfs 0 (fun _ => 0))))))), (bb, .inl (k 1, 900, .inl (fun _ => 0))), (o, .inr (1, [.ref bb, .ref dq, .null, .int 0, .int 0]))] := hD
  have hP : va_P D clA [(ds, .inr (2, [.null, .null, .null, .null, .int 0])), (ca, .inr (3, [.ref ha, .int 0])), (ha, .inl (k 0, 16, .inl (fun _ => 0))), (dq, .inr (11, [.ref el, .int 0, .int 0])), (el, .inl (k 3, 17, .inr (.inr (.inr (.inr (rfs 0 (fun _ => 0))))))), (bb, .inl (k 1, 900, .inl (fun _ => 0))), (o, .inr (1, [.ref bb, .ref dq, .null, .int 0, .int 0]))] H := P_prm [2, 0, 1, 3, 4, 5, 6] 7 rfl (by decide) hP
  have hD : va_D A [(ds, .inr (2, [.null, .null, .null, .null, .int 0])), (ca, .inr (3, [.ref ha, .int 0])), (ha, .inl (k 0, 16, .inl (fun _ => 0))), (dq, .inr (11, [.ref el, .int 0, .int 0])), (el, .inl (k 3, 17, .inr (.inr (.inr (.inr (rfs 0 (fun _ => 0))))))), (bb, .inl (k 1, 900, .inl (fun _ => 0))), (o, .inr (1, [.ref bb, .ref dq, .null, .int 0, .int 0]))] := D_prm [2, 0, 1, 3, 4, 5, 6] 7 rfl (by decide) (va_D_of (ws' := [(ca, .inr (3, [.ref ha, .int 0])), (ha, .inl (k 0, 16, .inl (fun _ => 0))), (ds, .inr (2, [.null, .null, .null, .null, .int 0])), (dq, .inr (11, [.ref el, .int 0, .int 0])), (el, .inl (k 3, 17, .inr (.inr (.inr (.inr (rfs 0 (fun _ => 0))))))), (bb, .inl (k 1, 900, .inl (fun _ => 0))), (o, .inr (1, [.ref bb, .ref dq, .null, .int 0, .int 0]))]) hD rfl)
  refine j_after (w1 := [(ds, .inr (2, [.null, .null, .null, .null, .int 0]))]) (w2 := [(ca, .inr (3, [.ref ha, .int 0])), (ha, .inl (k 0, 16, .inl (fun _ => 0))), (dq, .inr (11, [.ref el, .int 0, .int 0])), (el, .inl (k 3, 17, .inr (.inr (.inr (.inr (rfs 0 (fun _ => 0))))))), (bb, .inl (k 1, 900, .inl (fun _ => 0))), (o, .inr (1, [.ref bb, .ref dq, .null, .int 0, .int 0]))]) (va_runI (As := [.ref ca]) (rest := [.ref ds, .ref o]) (g := F0 m 36 ls [.ref ca, .ref ds, .ref ds, .ref o]) C.fix (c_deskInit l D k g ds ca) (cwC 1 hts q153 q154 q71 q155 rfl rfl rfl (by decide +kernel) ⟨Nat.le_of_ble_eq_true rfl, Nat.le_of_ble_eq_true rfl⟩) (preS mv2_jPre hK (fun U hU hW => jPre_at (w1 := [(ds, .inr (2, [.null, .null, .null, .null, .int 0]))]) (w2 := [(ca, .inr (3, [.ref ha, .int 0])), (ha, .inl (k 0, 16, .inl (fun _ => 0))), (dq, .inr (11, [.ref el, .int 0, .int 0])), (el, .inl (k 3, 17, .inr (.inr (.inr (.inr (rfs 0 (fun _ => 0))))))), (bb, .inl (k 1, 900, .inl (fun _ => 0))), (o, .inr (1, [.ref bb, .ref dq, .null, .int 0, .int 0]))]) hP (va_D_of hD rfl) hAN hX hS trivial hU hW)) rfl rfl hl.1 rfl (lv_room (Nat.le_of_ble_eq_true rfl)) dX1_init_36 ⟨(by first | exact Nat.le_of_ble_eq_true rfl | omega | (dsimp only [Rm]; omega)), (by first | exact Nat.le_of_ble_eq_true rfl | omega | (dsimp only [Rm]; omega))⟩) hP (va_D_of hD rfl) hS hA (fun xx H locs hB hP hD hS hsz hk => ?_)
  obtain ⟨b1, l1, b2, l2⟩ := xx
  have hP : va_P D clA [(ds, .inr (2, [.ref ca, .ref b1, .ref b2, .ref (g 4), .int 0])), (b1, .inr (4, [.ref l1, .int 12])), (l1, .inr (12, [.int (nI 0), .ref (g 1), .int 0])), (b2, .inr (4, [.ref l2, .int 24])), (l2, .inr (12, [.int (nI 0), .ref (g 1), .int 0])), (ca, .inr (3, [.ref ha, .int 0])), (ha, .inl (k 0, 16, .inl (fun _ => 0))), (dq, .inr (11, [.ref el, .int 0, .int 0])), (el, .inl (k 3, 17, .inr (.inr (.inr (.inr (rfs 0 (fun _ => 0))))))), (bb, .inl (k 1, 900, .inl (fun _ => 0))), (o, .inr (1, [.ref bb, .ref dq, .null, .int 0, .int 0]))] H := hP
  have hD : va_D A [(ds, .inr (2, [.ref ca, .ref b1, .ref b2, .ref (g 4), .int 0])), (b1, .inr (4, [.ref l1, .int 12])), (l1, .inr (12, [.int (nI 0), .ref (g 1), .int 0])), (b2, .inr (4, [.ref l2, .int 24])), (l2, .inr (12, [.int (nI 0), .ref (g 1), .int 0])), (ca, .inr (3, [.ref ha, .int 0])), (ha, .inl (k 0, 16, .inl (fun _ => 0))), (dq, .inr (11, [.ref el, .int 0, .int 0])), (el, .inl (k 3, 17, .inr (.inr (.inr (.inr (rfs 0 (fun _ => 0))))))), (bb, .inl (k 1, 900, .inl (fun _ => 0))), (o, .inr (1, [.ref bb, .ref dq, .null, .int 0, .int 0]))] := hD
  refine va_put hx hb hts in_X1 tyX1 tyX1_ok nmX1 hown hK hP (va_D_of hD rfl) hS 10 rfl rfl 2 (by decide) (hts _ q221) (fun _ h => h) rfl rfl rfl rfl (Nat.le_of_ble_eq_true rfl) dX1_init_39 (fun H locs hP _ hS => ?_)
  have hP : va_P D clA [(ds, .inr (2, [.ref ca, .ref b1, .ref b2, .ref (g 4), .int 0])), (b1, .inr (4, [.ref l1, .int 12])), (l1, .inr (12, [.int (nI 0), .ref (g 1), .int 0])), (b2, .inr (4, [.ref l2, .int 24])), (l2, .inr (12, [.int (nI 0), .ref (g 1), .int 0])), (ca, .inr (3, [.ref ha, .int 0])), (ha, .inl (k 0, 16, .inl (fun _ => 0))), (dq, .inr (11, [.ref el, .int 0, .int 0])), (el, .inl (k 3, 17, .inr (.inr (.inr (.inr (rfs 0 (fun _ => 0))))))), (bb, .inl (k 1, 900, .inl (fun _ => 0))), (o, .inr (1, [.ref bb, .ref dq, .ref ds, .int 0, .int 0]))] H := hP
  refine lv_aload_n hx hb dX1_init_42 rfl (lv_at hl 0 rfl) ?_
  refine lv_iconst (v := (-1)) hx hb dX1_init_43 rfl ?_
  refine va_put hx hb hts in_X1 tyX1 tyX1_ok nmX1 hown hK hP (va_D_of hD rfl) hS 10 rfl rfl 4 (by decide) (hts _ q223) (fun _ h => h) rfl rfl rfl rfl (Nat.le_of_ble_eq_true rfl) dX1_init_44 (fun H locs hP _ hS => ?_)
  have hP : va_P D clA [(ds, .inr (2, [.ref ca, .ref b1, .ref b2, .ref (g 4), .int 0])), (b1, .inr (4, [.ref l1, .int 12])), (l1, .inr (12, [.int (nI 0), .ref (g 1), .int 0])), (b2, .inr (4, [.ref l2, .int 24])), (l2, .inr (12, [.int (nI 0), .ref (g 1), .int 0])), (ca, .inr (3, [.ref ha, .int 0])), (ha, .inl (k 0, 16, .inl (fun _ => 0))), (dq, .inr (11, [.ref el, .int 0, .int 0])), (el, .inl (k 3, 17, .inr (.inr (.inr (.inr (rfs 0 (fun _ => 0))))))), (bb, .inl (k 1, 900, .inl (fun _ => 0))), (o, .inr (1, [.ref bb, .ref dq, .ref ds, .int 0, .int (-1)]))] H := hP
  exact j_vret hAe C (bb, dq, el, ds, ca, ha, b1, l1, b2, l2) rfl trivial (hP.sub [10, 9, 7, 8, 0, 5, 6, 1, 2, 3, 4] rfl) (va_D_of (D_sub (ws' := [(o, .inr (1, [.ref bb, .ref dq, .ref ds, .int 0, .int (-1)])), (bb, .inl (k 1, 900, .inl (fun _ => 0))), (dq, .inr (11, [.ref el, .int 0, .int 0])), (el, .inl (k 3, 17, .inr (.inr (.inr (.inr (rfs 0 (fun _ => 0))))))), (ds, .inr (2, [.ref ca, .ref b1, .ref b2, .ref (g 4), .int 0])), (ca, .inr (3, [.ref ha, .int 0])), (ha, .inl (k 0, 16, .inl (fun _ => 0))), (b1, .inr (4, [.ref l1, .int 12])), (l1, .inr (12, [.int (nI 0), .ref (g 1), .int 0])), (b2, .inr (4, [.ref l2, .int 24])), (l2, .inr (12, [.int (nI 0), .ref (g 1), .int 0]))]) (va_D_of (ws' := [(ds, .inr (2, [.ref ca, .ref b1, .ref b2, .ref (g 4), .int 0])), (b1, .inr (4, [.ref l1, .int 12])), (l1, .inr (12, [.int (nI 0), .ref (g 1), .int 0])), (b2, .inr (4, [.ref l2, .int 24])), (l2, .inr (12, [.int (nI 0), .ref (g 1), .int 0])), (ca, .inr (3, [.ref ha, .int 0])), (ha, .inl (k 0, 16, .inl (fun _ => 0))), (dq, .inr (11, [.ref el, .int 0, .int 0])), (el, .inl (k 3, 17, .inr (.inr (.inr (.inr (rfs 0 (fun _ => 0))))))), (bb, .inl (k 1, 900, .inl (fun _ => 0))), (o, .inr (1, [.ref bb, .ref dq, .ref ds, .int 0, .int (-1)]))]) hD rfl) [10, 9, 7, 8, 0, 5, 6, 1, 2, 3, 4] rfl rfl) rfl) hS (by first | exact Nat.le_of_ble_eq_true rfl | omega | (dsimp only [Rm]; omega)) (by first | exact Nat.le_of_ble_eq_true rfl | omega | (dsimp only [Rm]; omega)) dX1_init_47
