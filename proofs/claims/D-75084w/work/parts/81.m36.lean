/-! the component: errors of the text (printed by gen/m36.py) -/
set_option maxRecDepth 100000
theorem zq_val {C n d : String} {A : Nat → Prop} {U : State} {H : Heap} (h : va_Zq C n d A U H) : ∃ us : Value, va_Z C n d us A U H ∧ (us = .null ∨ ∃ t, us = .ref t) := by
  rcases h with h | ⟨t, h⟩
  · exact ⟨.null, h, Or.inl rfl⟩
  · exact ⟨.ref t, h, Or.inr ⟨t, rfl⟩⟩
/-- a thrown error of the text: its code and place -/
def exn (D : va_G) (cd off : Int32) (E : String) (q : Nat) (H : Heap) : Prop :=
  (cd = -2 ∧ E = RX8 ∧ va_P D clA [(q, .inr (6, [.int off, .null, .null, .null, .null, .null, .int 0]))] H) ∨ (E = RX9 ∧ va_P D clA [(q, .inr (7, [.int off, .null, .null, .null, .null, .null, .int 0, .int cd]))] H)
def sg (x : Int32) : Int32 := x.toInt8.toInt32
def cB (fb : Nat → Int32) : Nat → Int32 := fun j => sg (fb j)
def cby (fb : Nat → Int32) (L x : Nat) : Int32 := if x < L then cB fb x else -1
/-- the buffer's bytes -/
def okF (fb : Nat → Int32) : Prop := ∀ j, ∃ n, n < 256 ∧ fb j = nI n
theorem sg_all : ∀ n, n < 256 → ∀ c, c < 128 → (sg (nI n) = nI c ↔ n = c) := by decide +kernel
theorem sg_eq {fb : Nat → Int32} (hf : okF fb) (j c : Nat) (hc : c < 128) : cB fb j = nI c ↔ fb j = nI c := by
  obtain ⟨n, hn, e⟩ := hf j
  unfold cB
  rw [e, sg_all n hn c hc]
  constructor
  · intro h; rw [h]
  · intro h; exact nI_eq' h (by omega) (by omega)
theorem cby_eq {fb : Nat → Int32} {L j : Nat} (hf : okF fb) (c : Nat) (hc : c < 128) : cby fb L j = nI c ↔ byt fb L j = nI c := by
  unfold cby byt
  split
  · exact sg_eq hf j c hc
  · exact Iff.rfl
set_option maxHeartbeats 4000000 in
theorem j_Tinit_X8 (l : Launch) (D : va_G) (k : Nat → ClassId) (g : Nat → Nat) (q0 : Nat) : jM l D k yJ4_init_3 cJ4_init_3 5 none 1 20 0 0 [.ref q0, .null, .null, .int 0, .int 0] g [(q0, .inr (6, [.int 0, .null, .null, .null, .null, .null, .int 0]))] (fun HH => True) (fun _ : Unit => none) (fun _ _ => True) (fun _ : Unit => [(q0, .inr (6, [.int 0, .null, .null, .null, .null, .null, .int 0]))]) := by
  refine jM_of (by decide) (Nat.le_of_ble_eq_true rfl) ?_
  intro p e s m below meth c ls A hAe C hnm hmn hK hP hD hA hAN _ hX hS hl
  have hN : NW s := hX.nw
  obtain ⟨hx, hb, hr, hml, hown, hts, hlk⟩ := id C
  have hl : lv_has ls 5 [(0, .ref q0), (1, .null), (2, .null), (3, .int 0), (4, .int 0)] := hl
  obtain ⟨us, hus, hus2⟩ := zq_val hX.kt.1.1
  obtain ⟨ul, hul, hul2⟩ := zq_val hX.kt.2.1
  refine lv_aload_n hx hb dJ4_init_3_0 rfl (lv_at hl 0 rfl) ?_
  refine W.objInit hx hb hown (hts _ q409) (hts _ q112) (hts _ q113) rfl (by rw [hml]; exact hl.1) rfl dJ4_init_3_1 (Nat.le_of_ble_eq_true rfl) (Nat.le_of_ble_eq_true rfl) ?_
  refine lv_aload_n hx hb dJ4_init_3_4 rfl (lv_at hl 0 rfl) ?_
  refine lv_aload_n hx hb dJ4_init_3_5 rfl (lv_at hl 0 rfl) ?_
  refine va_put hx hb hts in_X8 tyX8 tyX8_ok nmX8 hown hK hP (va_D_of hD rfl) hS 0 rfl rfl 1 (by decide) (hts _ q441) (fun _ h => h) rfl rfl rfl rfl (Nat.le_of_ble_eq_true rfl) dJ4_init_3_6 (fun H locs hP _ hS => ?_)
  have hP : va_P D clA [(q0, .inr (6, [.int 0, .ref q0, .null, .null, .null, .null, .int 0]))] H := hP
  refine lv_aload_n hx hb dJ4_init_3_9 rfl (lv_at hl 0 rfl) ?_
  refine va_gets (v := us) hx hb hus (S_wide hS hAN) hown (hts _ q410) (fun _ h => h) dJ4_init_3_10 ?_
  refine va_put hx hb hts in_X8 tyX8 tyX8_ok nmX8 hown hK hP (va_D_of hD rfl) hS 0 rfl rfl 2 (by decide) (hts _ q442) (fun _ h => h) rfl rfl (by rcases hus2 with rfl | ⟨t, rfl⟩ <;> rfl) (by rcases hus2 with rfl | ⟨t, rfl⟩ <;> rfl) (Nat.le_of_ble_eq_true rfl) dJ4_init_3_13 (fun H locs hP _ hS => ?_)
  have hP : va_P D clA [(q0, .inr (6, [.int 0, .ref q0, us, .null, .null, .null, .int 0]))] H := hP
  refine lv_aload_n hx hb dJ4_init_3_16 rfl (lv_at hl 0 rfl) ?_
  refine va_gets (v := ul) hx hb hul (S_wide hS hAN) hown (hts _ q412) (fun _ h => h) dJ4_init_3_17 ?_
  refine va_put hx hb hts in_X8 tyX8 tyX8_ok nmX8 hown hK hP (va_D_of hD rfl) hS 0 rfl rfl 3 (by decide) (hts _ q443) (fun _ h => h) rfl rfl (by rcases hul2 with rfl | ⟨t, rfl⟩ <;> rfl) (by rcases hul2 with rfl | ⟨t, rfl⟩ <;> rfl) (Nat.le_of_ble_eq_true rfl) dJ4_init_3_20 (fun H locs hP _ hS => ?_)
  have hP : va_P D clA [(q0, .inr (6, [.int 0, .ref q0, us, ul, .null, .null, .int 0]))] H := hP
  show W p l e (Rm 1 20 0 0) s m ([.ref q0, .null, .null, .int 0, .int 0] : List Value).toArray below meth c H locs 0 0 (MQ below (jQ D (fun _ : Unit => none) (fun _ _ => True) (fun _ : Unit => [(q0, .inr (6, [.int 0, .null, .null, .null, .null, .null, .int 0]))]) (inL [(q0, .inr (6, [.int 0, .null, .null, .null, .null, .null, .int 0]))])) ([.ref q0, .null, .null, .int 0, .int 0] : List Value).toArray s 0 0 (inL [(q0, .inr (6, [.int 0, .null, .null, .null, .null, .null, .int 0]))])) (F0 m 23 ls [])
  refine lv_iload hx hb dJ4_init_3_23 (lv_at hl 4 rfl) ?_
  refine lv_if_eq (tgt := 36) hx hb dJ4_init_3_25 (by decide) (fun c_25 => ?_) (fun c_25 => ?_)
  · refine lv_aload_n hx hb dJ4_init_3_36 rfl (lv_at hl 0 rfl) ?_
    refine lv_null hx hb dJ4_init_3_37 ?_
    refine va_put hx hb hts in_X8 tyX8 tyX8_ok nmX8 hown hK hP (va_D_of hD rfl) hS 0 rfl rfl 2 (by decide) (hts _ q442) (fun _ h => h) rfl rfl rfl rfl (Nat.le_of_ble_eq_true rfl) dJ4_init_3_38 (fun H locs hP _ hS => ?_)
    have hP : va_P D clA [(q0, .inr (6, [.int 0, .ref q0, .null, ul, .null, .null, .int 0]))] H := hP
    refine lv_aload_n hx hb dJ4_init_3_41 rfl (lv_at hl 0 rfl) ?_
    refine lv_aload_nN hx hb dJ4_init_3_42 rfl (lv_at hl 1 rfl) ?_
    refine va_put hx hb hts in_X8 tyX8 tyX8_ok nmX8 hown hK hP (va_D_of hD rfl) hS 0 rfl rfl 4 (by decide) (hts _ q440) (fun _ h => h) rfl rfl rfl rfl (Nat.le_of_ble_eq_true rfl) dJ4_init_3_43 (fun H locs hP _ hS => ?_)
    have hP : va_P D clA [(q0, .inr (6, [.int 0, .ref q0, .null, ul, .null, .null, .int 0]))] H := hP
    refine lv_aload_n hx hb dJ4_init_3_46 rfl (lv_at hl 0 rfl) ?_
    refine lv_aload_nN hx hb dJ4_init_3_47 rfl (lv_at hl 2 rfl) ?_
    refine va_put hx hb hts in_X8 tyX8 tyX8_ok nmX8 hown hK hP (va_D_of hD rfl) hS 0 rfl rfl 1 (by decide) (hts _ q441) (fun _ h => h) rfl rfl rfl rfl (Nat.le_of_ble_eq_true rfl) dJ4_init_3_48 (fun H locs hP _ hS => ?_)
    have hP : va_P D clA [(q0, .inr (6, [.int 0, .null, .null, ul, .null, .null, .int 0]))] H := hP
    refine lv_iload_n hx hb dJ4_init_3_51 rfl (lv_at hl 3 rfl) ?_
    refine lv_if_ne (tgt := 60) hx hb dJ4_init_3_52 (by decide) (fun c_52 => ?_) (fun c_52 => ?_)
    · exact absurd rfl c_52
    · refine lv_aload_n hx hb dJ4_init_3_55 rfl (lv_at hl 0 rfl) ?_
      refine lv_null hx hb dJ4_init_3_56 ?_
      refine va_put hx hb hts in_X8 tyX8 tyX8_ok nmX8 hown hK hP (va_D_of hD rfl) hS 0 rfl rfl 3 (by decide) (hts _ q443) (fun _ h => h) rfl rfl rfl rfl (Nat.le_of_ble_eq_true rfl) dJ4_init_3_57 (fun H locs hP _ hS => ?_)
      have hP : va_P D clA [(q0, .inr (6, [.int 0, .null, .null, .null, .null, .null, .int 0]))] H := hP
      exact j_vret hAe C () rfl trivial hP (va_D_of hD rfl) hS (by first | exact Nat.le_of_ble_eq_true rfl | omega | (dsimp only [Rm]; omega)) (by first | exact Nat.le_of_ble_eq_true rfl | omega | (dsimp only [Rm]; omega)) dJ4_init_3_60
  · exact absurd rfl c_25
set_option maxHeartbeats 4000000 in
theorem j_Einit_X8 (l : Launch) (D : va_G) (k : Nat → ClassId) (g : Nat → Nat) (q0 : Nat) : jM l D k yJ5_init_3 cJ5_init_3 5 none 2 44 0 0 [.ref q0, .null, .null, .int 0, .int 0] g [(q0, .inr (6, [.int 0, .null, .null, .null, .null, .null, .int 0]))] (fun HH => True) (fun _ : Unit => none) (fun _ _ => True) (fun _ : Unit => [(q0, .inr (6, [.int 0, .null, .null, .null, .null, .null, .int 0]))]) := by
  refine jM_of (by decide) (Nat.le_of_ble_eq_true rfl) ?_
  intro p e s m below meth c ls A hAe C hnm hmn hK hP hD hA hAN _ hX hS hl
  have hN : NW s := hX.nw
  obtain ⟨hx, hb, hr, hml, hown, hts, hlk⟩ := id C
  have hl : lv_has ls 5 [(0, .ref q0), (1, .null), (2, .null), (3, .int 0), (4, .int 0)] := hl
  refine lv_aload_n hx hb dJ5_init_3_0 rfl (lv_at hl 0 rfl) ?_
  refine lv_aload_nN hx hb dJ5_init_3_1 rfl (lv_at hl 1 rfl) ?_
  refine lv_aload_nN hx hb dJ5_init_3_2 rfl (lv_at hl 2 rfl) ?_
  refine lv_iload_n hx hb dJ5_init_3_3 rfl (lv_at hl 3 rfl) ?_
  refine lv_iload hx hb dJ5_init_3_4 (lv_at hl 4 rfl) ?_
  refine j_after (w1 := [(q0, .inr (6, [.int 0, .null, .null, .null, .null, .null, .int 0]))]) (w2 := []) (va_runI (As := [.null, .null, .int 0, .int 0]) (rest := []) (g := F0 m 6 ls [.int 0, .int 0, .null, .null, .ref q0]) C.fix (j_Tinit_X8 l D k g q0) (cwC 4 hts q894 q895 q77 q896 rfl rfl rfl (by decide +kernel) ⟨Nat.le_of_ble_eq_true rfl, Nat.le_of_ble_eq_true rfl⟩) (preS mv2_jPre hK (fun U hU hW => jPre_at (w1 := [(q0, .inr (6, [.int 0, .null, .null, .null, .null, .null, .int 0]))]) (w2 := []) hP (va_D_of hD rfl) hAN hX hS trivial hU hW)) rfl rfl hl.1 rfl (lv_room (Nat.le_of_ble_eq_true rfl)) dJ5_init_3_6 ⟨(by first | exact Nat.le_of_ble_eq_true rfl | omega | (dsimp only [Rm]; omega)), (by first | exact Nat.le_of_ble_eq_true rfl | omega | (dsimp only [Rm]; omega))⟩) hP (va_D_of hD rfl) hS hA (fun xx H locs hB hP hD hS hsz hk => ?_)
  have hP : va_P D clA [(q0, .inr (6, [.int 0, .null, .null, .null, .null, .null, .int 0]))] H := hP
  have hD : va_D A [(q0, .inr (6, [.int 0, .null, .null, .null, .null, .null, .int 0]))] := hD
  exact j_vret hAe C () rfl trivial hP (va_D_of hD rfl) hS (by first | exact Nat.le_of_ble_eq_true rfl | omega | (dsimp only [Rm]; omega)) (by first | exact Nat.le_of_ble_eq_true rfl | omega | (dsimp only [Rm]; omega)) dJ5_init_3_9
set_option maxHeartbeats 4000000 in
theorem c_X7init_X8 (l : Launch) (D : va_G) (k : Nat → ClassId) (g : Nat → Nat) (q0 : Nat) (off : Int32) : jM l D k yX7_init cX7_init 2 none 3 68 0 0 [.ref q0, .int off] g [(q0, .inr (6, [.int 0, .null, .null, .null, .null, .null, .int 0]))] (fun HH => True) (fun _ : Unit => none) (fun _ _ => True) (fun _ : Unit => [(q0, .inr (6, [.int off, .null, .null, .null, .null, .null, .int 0]))]) := by
  refine jM_of (by decide) (Nat.le_of_ble_eq_true rfl) ?_
  intro p e s m below meth c ls A hAe C hnm hmn hK hP hD hA hAN _ hX hS hl
  have hN : NW s := hX.nw
  obtain ⟨hx, hb, hr, hml, hown, hts, hlk⟩ := id C
  have hl : lv_has ls 2 [(0, .ref q0), (1, .int off)] := hl
  refine lv_aload_n hx hb dX7_init_0 rfl (lv_at hl 0 rfl) ?_
  refine lv_null hx hb dX7_init_1 ?_
  refine lv_null hx hb dX7_init_2 ?_
  refine lv_iconst (v := 0) hx hb dX7_init_3 rfl ?_
  refine lv_iconst (v := 0) hx hb dX7_init_4 rfl ?_
  refine j_after (w1 := [(q0, .inr (6, [.int 0, .null, .null, .null, .null, .null, .int 0]))]) (w2 := []) (va_runI (As := [.null, .null, .int 0, .int 0]) (rest := []) (g := F0 m 5 ls [.int 0, .int 0, .null, .null, .ref q0]) C.fix (j_Einit_X8 l D k g q0) (cwC 4 hts q891 q892 q78 q893 rfl rfl rfl (by decide +kernel) ⟨Nat.le_of_ble_eq_true rfl, Nat.le_of_ble_eq_true rfl⟩) (preS mv2_jPre hK (fun U hU hW => jPre_at (w1 := [(q0, .inr (6, [.int 0, .null, .null, .null, .null, .null, .int 0]))]) (w2 := []) hP (va_D_of hD rfl) hAN hX hS trivial hU hW)) rfl rfl hl.1 rfl (lv_room (Nat.le_of_ble_eq_true rfl)) dX7_init_5 ⟨(by first | exact Nat.le_of_ble_eq_true rfl | omega | (dsimp only [Rm]; omega)), (by first | exact Nat.le_of_ble_eq_true rfl | omega | (dsimp only [Rm]; omega))⟩) hP (va_D_of hD rfl) hS hA (fun xx H locs hB hP hD hS hsz hk => ?_)
  have hP : va_P D clA [(q0, .inr (6, [.int 0, .null, .null, .null, .null, .null, .int 0]))] H := hP
  have hD : va_D A [(q0, .inr (6, [.int 0, .null, .null, .null, .null, .null, .int 0]))] := hD
  refine lv_aload_n hx hb dX7_init_8 rfl (lv_at hl 0 rfl) ?_
  refine lv_iload_n hx hb dX7_init_9 rfl (lv_at hl 1 rfl) ?_
  refine va_putF hx hb hts in_X8 tyX8 tyX8_ok nmX8 hown hK hP (va_D_of hD rfl) hS 0 rfl rfl 0 (by decide) (hts _ q897) (fun _ h => h) rfl hnm rfl rfl rfl rfl (Nat.le_of_ble_eq_true rfl) dX7_init_10 (fun H locs hP _ hS => ?_)
  have hP : va_P D clA [(q0, .inr (6, [.int off, .null, .null, .null, .null, .null, .int 0]))] H := hP
  exact j_vret hAe C () rfl trivial hP (va_D_of hD rfl) hS (by first | exact Nat.le_of_ble_eq_true rfl | omega | (dsimp only [Rm]; omega)) (by first | exact Nat.le_of_ble_eq_true rfl | omega | (dsimp only [Rm]; omega)) dX7_init_13
set_option maxHeartbeats 4000000 in
theorem c_X8init (l : Launch) (D : va_G) (k : Nat → ClassId) (g : Nat → Nat) (q0 : Nat) (off : Int32) : jM l D k yX8_init cX8_init 2 none 4 89 0 0 [.ref q0, .int off] g [(q0, .inr (6, [.int 0, .null, .null, .null, .null, .null, .int 0]))] (fun HH => True) (fun _ : Unit => none) (fun _ _ => True) (fun _ : Unit => [(q0, .inr (6, [.int off, .null, .null, .null, .null, .null, .int 0]))]) := by
  refine jM_of (by decide) (Nat.le_of_ble_eq_true rfl) ?_
  intro p e s m below meth c ls A hAe C hnm hmn hK hP hD hA hAN _ hX hS hl
  have hN : NW s := hX.nw
  obtain ⟨hx, hb, hr, hml, hown, hts, hlk⟩ := id C
  have hl : lv_has ls 2 [(0, .ref q0), (1, .int off)] := hl
  refine lv_aload_n hx hb dX8_init_0 rfl (lv_at hl 0 rfl) ?_
  refine lv_iload_n hx hb dX8_init_1 rfl (lv_at hl 1 rfl) ?_
  refine j_after (w1 := [(q0, .inr (6, [.int 0, .null, .null, .null, .null, .null, .int 0]))]) (w2 := []) (va_runI (As := [.int off]) (rest := []) (g := F0 m 2 ls [.int off, .ref q0]) C.fix (c_X7init_X8 l D k g q0 off) (cwC 1 hts q888 q889 q94 q890 rfl rfl rfl (by decide +kernel) ⟨Nat.le_of_ble_eq_true rfl, Nat.le_of_ble_eq_true rfl⟩) (preS mv2_jPre hK (fun U hU hW => jPre_at (w1 := [(q0, .inr (6, [.int 0, .null, .null, .null, .null, .null, .int 0]))]) (w2 := []) hP (va_D_of hD rfl) hAN hX hS trivial hU hW)) rfl rfl hl.1 rfl (lv_room (Nat.le_of_ble_eq_true rfl)) dX8_init_2 ⟨(by first | exact Nat.le_of_ble_eq_true rfl | omega | (dsimp only [Rm]; omega)), (by first | exact Nat.le_of_ble_eq_true rfl | omega | (dsimp only [Rm]; omega))⟩) hP (va_D_of hD rfl) hS hA (fun xx H locs hB hP hD hS hsz hk => ?_)
  have hP : va_P D clA [(q0, .inr (6, [.int off, .null, .null, .null, .null, .null, .int 0]))] H := hP
  have hD : va_D A [(q0, .inr (6, [.int off, .null, .null, .null, .null, .null, .int 0]))] := hD
  exact j_vret hAe C () rfl trivial hP (va_D_of hD rfl) hS (by first | exact Nat.le_of_ble_eq_true rfl | omega | (dsimp only [Rm]; omega)) (by first | exact Nat.le_of_ble_eq_true rfl | omega | (dsimp only [Rm]; omega)) dX8_init_5
set_option maxHeartbeats 4000000 in
theorem j_Tinit_X9 (l : Launch) (D : va_G) (k : Nat → ClassId) (g : Nat → Nat) (q0 : Nat) : jM l D k yJ4_init_3 cJ4_init_3 5 none 1 20 0 0 [.ref q0, .null, .null, .int 0, .int 0] g [(q0, .inr (7, [.int 0, .null, .null, .null, .null, .null, .int 0, .int 0]))] (fun HH => True) (fun _ : Unit => none) (fun _ _ => True) (fun _ : Unit => [(q0, .inr (7, [.int 0, .null, .null, .null, .null, .null, .int 0, .int 0]))]) := by
  refine jM_of (by decide) (Nat.le_of_ble_eq_true rfl) ?_
  intro p e s m below meth c ls A hAe C hnm hmn hK hP hD hA hAN _ hX hS hl
  have hN : NW s := hX.nw
  obtain ⟨hx, hb, hr, hml, hown, hts, hlk⟩ := id C
  have hl : lv_has ls 5 [(0, .ref q0), (1, .null), (2, .null), (3, .int 0), (4, .int 0)] := hl
  obtain ⟨us, hus, hus2⟩ := zq_val hX.kt.1.1
  obtain ⟨ul, hul, hul2⟩ := zq_val hX.kt.2.1
  refine lv_aload_n hx hb dJ4_init_3_0 rfl (lv_at hl 0 rfl) ?_
  refine W.objInit hx hb hown (hts _ q409) (hts _ q112) (hts _ q113) rfl (by rw [hml]; exact hl.1) rfl dJ4_init_3_1 (Nat.le_of_ble_eq_true rfl) (Nat.le_of_ble_eq_true rfl) ?_
  refine lv_aload_n hx hb dJ4_init_3_4 rfl (lv_at hl 0 rfl) ?_
  refine lv_aload_n hx hb dJ4_init_3_5 rfl (lv_at hl 0 rfl) ?_
  refine va_put hx hb hts in_X9 tyX9 tyX9_ok nmX9 hown hK hP (va_D_of hD rfl) hS 0 rfl rfl 1 (by decide) (hts _ q441) (fun _ h => h) rfl rfl rfl rfl (Nat.le_of_ble_eq_true rfl) dJ4_init_3_6 (fun H locs hP _ hS => ?_)
  have hP : va_P D clA [(q0, .inr (7, [.int 0, .ref q0, .null, .null, .null, .null, .int 0, .int 0]))] H := hP
  refine lv_aload_n hx hb dJ4_init_3_9 rfl (lv_at hl 0 rfl) ?_
  refine va_gets (v := us) hx hb hus (S_wide hS hAN) hown (hts _ q410) (fun _ h => h) dJ4_init_3_10 ?_
  refine va_put hx hb hts in_X9 tyX9 tyX9_ok nmX9 hown hK hP (va_D_of hD rfl) hS 0 rfl rfl 2 (by decide) (hts _ q442) (fun _ h => h) rfl rfl (by rcases hus2 with rfl | ⟨t, rfl⟩ <;> rfl) (by rcases hus2 with rfl | ⟨t, rfl⟩ <;> rfl) (Nat.le_of_ble_eq_true rfl) dJ4_init_3_13 (fun H locs hP _ hS => ?_)
  have hP : va_P D clA [(q0, .inr (7, [.int 0, .ref q0, us, .null, .null, .null, .int 0, .int 0]))] H := hP
  refine lv_aload_n hx hb dJ4_init_3_16 rfl (lv_at hl 0 rfl) ?_
  refine va_gets (v := ul) hx hb hul (S_wide hS hAN) hown (hts _ q412) (fun _ h => h) dJ4_init_3_17 ?_
  refine va_put hx hb hts in_X9 tyX9 tyX9_ok nmX9 hown hK hP (va_D_of hD rfl) hS 0 rfl rfl 3 (by decide) (hts _ q443) (fun _ h => h) rfl rfl (by rcases hul2 with rfl | ⟨t, rfl⟩ <;> rfl) (by rcases hul2 with rfl | ⟨t, rfl⟩ <;> rfl) (Nat.le_of_ble_eq_true rfl) dJ4_init_3_20 (fun H locs hP _ hS => ?_)
  have hP : va_P D clA [(q0, .inr (7, [.int 0, .ref q0, us, ul, .null, .null, .int 0, .int 0]))] H := hP
  show W p l e (Rm 1 20 0 0) s m ([.ref q0, .null, .null, .int 0, .int 0] : List Value).toArray below meth c H locs 0 0 (MQ below (jQ D (fun _ : Unit => none) (fun _ _ => True) (fun _ : Unit => [(q0, .inr (7, [.int 0, .null, .null, .null, .null, .null, .int 0, .int 0]))]) (inL [(q0, .inr (7, [.int 0, .null, .null, .null, .null, .null, .int 0, .int 0]))])) ([.ref q0, .null, .null, .int 0, .int 0] : List Value).toArray s 0 0 (inL [(q0, .inr (7, [.int 0, .null, .null, .null, .null, .null, .int 0, .int 0]))])) (F0 m 23 ls [])
  refine lv_iload hx hb dJ4_init_3_23 (lv_at hl 4 rfl) ?_
  refine lv_if_eq (tgt := 36) hx hb dJ4_init_3_25 (by decide) (fun c_25 => ?_) (fun c_25 => ?_)
  · refine lv_aload_n hx hb dJ4_init_3_36 rfl (lv_at hl 0 rfl) ?_
    refine lv_null hx hb dJ4_init_3_37 ?_
    refine va_put hx hb hts in_X9 tyX9 tyX9_ok nmX9 hown hK hP (va_D_of hD rfl) hS 0 rfl rfl 2 (by decide) (hts _ q442) (fun _ h => h) rfl rfl rfl rfl (Nat.le_of_ble_eq_true rfl) dJ4_init_3_38 (fun H locs hP _ hS => ?_)
    have hP : va_P D clA [(q0, .inr (7, [.int 0, .ref q0, .null, ul, .null, .null, .int 0, .int 0]))] H := hP
    refine lv_aload_n hx hb dJ4_init_3_41 rfl (lv_at hl 0 rfl) ?_
    refine lv_aload_nN hx hb dJ4_init_3_42 rfl (lv_at hl 1 rfl) ?_
    refine va_put hx hb hts in_X9 tyX9 tyX9_ok nmX9 hown hK hP (va_D_of hD rfl) hS 0 rfl rfl 4 (by decide) (hts _ q440) (fun _ h => h) rfl rfl rfl rfl (Nat.le_of_ble_eq_true rfl) dJ4_init_3_43 (fun H locs hP _ hS => ?_)
    have hP : va_P D clA [(q0, .inr (7, [.int 0, .ref q0, .null, ul, .null, .null, .int 0, .int 0]))] H := hP
    refine lv_aload_n hx hb dJ4_init_3_46 rfl (lv_at hl 0 rfl) ?_
    refine lv_aload_nN hx hb dJ4_init_3_47 rfl (lv_at hl 2 rfl) ?_
    refine va_put hx hb hts in_X9 tyX9 tyX9_ok nmX9 hown hK hP (va_D_of hD rfl) hS 0 rfl rfl 1 (by decide) (hts _ q441) (fun _ h => h) rfl rfl rfl rfl (Nat.le_of_ble_eq_true rfl) dJ4_init_3_48 (fun H locs hP _ hS => ?_)
    have hP : va_P D clA [(q0, .inr (7, [.int 0, .null, .null, ul, .null, .null, .int 0, .int 0]))] H := hP
    refine lv_iload_n hx hb dJ4_init_3_51 rfl (lv_at hl 3 rfl) ?_
    refine lv_if_ne (tgt := 60) hx hb dJ4_init_3_52 (by decide) (fun c_52 => ?_) (fun c_52 => ?_)
    · exact absurd rfl c_52
    · refine lv_aload_n hx hb dJ4_init_3_55 rfl (lv_at hl 0 rfl) ?_
      refine lv_null hx hb dJ4_init_3_56 ?_
      refine va_put hx hb hts in_X9 tyX9 tyX9_ok nmX9 hown hK hP (va_D_of hD rfl) hS 0 rfl rfl 3 (by decide) (hts _ q443) (fun _ h => h) rfl rfl rfl rfl (Nat.le_of_ble_eq_true rfl) dJ4_init_3_57 (fun H locs hP _ hS => ?_)
      have hP : va_P D clA [(q0, .inr (7, [.int 0, .null, .null, .null, .null, .null, .int 0, .int 0]))] H := hP
      exact j_vret hAe C () rfl trivial hP (va_D_of hD rfl) hS (by first | exact Nat.le_of_ble_eq_true rfl | omega | (dsimp only [Rm]; omega)) (by first | exact Nat.le_of_ble_eq_true rfl | omega | (dsimp only [Rm]; omega)) dJ4_init_3_60
  · exact absurd rfl c_25
set_option maxHeartbeats 4000000 in
theorem j_Einit_X9 (l : Launch) (D : va_G) (k : Nat → ClassId) (g : Nat → Nat) (q0 : Nat) : jM l D k yJ5_init_3 cJ5_init_3 5 none 2 44 0 0 [.ref q0, .null, .null, .int 0, .int 0] g [(q0, .inr (7, [.int 0, .null, .null, .null, .null, .null, .int 0, .int 0]))] (fun HH => True) (fun _ : Unit => none) (fun _ _ => True) (fun _ : Unit => [(q0, .inr (7, [.int 0, .null, .null, .null, .null, .null, .int 0, .int 0]))]) := by
  refine jM_of (by decide) (Nat.le_of_ble_eq_true rfl) ?_
  intro p e s m below meth c ls A hAe C hnm hmn hK hP hD hA hAN _ hX hS hl
  have hN : NW s := hX.nw
  obtain ⟨hx, hb, hr, hml, hown, hts, hlk⟩ := id C
  have hl : lv_has ls 5 [(0, .ref q0), (1, .null), (2, .null), (3, .int 0), (4, .int 0)] := hl
  refine lv_aload_n hx hb dJ5_init_3_0 rfl (lv_at hl 0 rfl) ?_
  refine lv_aload_nN hx hb dJ5_init_3_1 rfl (lv_at hl 1 rfl) ?_
  refine lv_aload_nN hx hb dJ5_init_3_2 rfl (lv_at hl 2 rfl) ?_
  refine lv_iload_n hx hb dJ5_init_3_3 rfl (lv_at hl 3 rfl) ?_
  refine lv_iload hx hb dJ5_init_3_4 (lv_at hl 4 rfl) ?_
  refine j_after (w1 := [(q0, .inr (7, [.int 0, .null, .null, .null, .null, .null, .int 0, .int 0]))]) (w2 := []) (va_runI (As := [.null, .null, .int 0, .int 0]) (rest := []) (g := F0 m 6 ls [.int 0, .int 0, .null, .null, .ref q0]) C.fix (j_Tinit_X9 l D k g q0) (cwC 4 hts q894 q895 q77 q896 rfl rfl rfl (by decide +kernel) ⟨Nat.le_of_ble_eq_true rfl, Nat.le_of_ble_eq_true rfl⟩) (preS mv2_jPre hK (fun U hU hW => jPre_at (w1 := [(q0, .inr (7, [.int 0, .null, .null, .null, .null, .null, .int 0, .int 0]))]) (w2 := []) hP (va_D_of hD rfl) hAN hX hS trivial hU hW)) rfl rfl hl.1 rfl (lv_room (Nat.le_of_ble_eq_true rfl)) dJ5_init_3_6 ⟨(by first | exact Nat.le_of_ble_eq_true rfl | omega | (dsimp only [Rm]; omega)), (by first | exact Nat.le_of_ble_eq_true rfl | omega | (dsimp only [Rm]; omega))⟩) hP (va_D_of hD rfl) hS hA (fun xx H locs hB hP hD hS hsz hk => ?_)
  have hP : va_P D clA [(q0, .inr (7, [.int 0, .null, .null, .null, .null, .null, .int 0, .int 0]))] H := hP
  have hD : va_D A [(q0, .inr (7, [.int 0, .null, .null, .null, .null, .null, .int 0, .int 0]))] := hD
  exact j_vret hAe C () rfl trivial hP (va_D_of hD rfl) hS (by first | exact Nat.le_of_ble_eq_true rfl | omega | (dsimp only [Rm]; omega)) (by first | exact Nat.le_of_ble_eq_true rfl | omega | (dsimp only [Rm]; omega)) dJ5_init_3_9
set_option maxHeartbeats 4000000 in
theorem c_X7init_X9 (l : Launch) (D : va_G) (k : Nat → ClassId) (g : Nat → Nat) (q0 : Nat) (off : Int32) : jM l D k yX7_init cX7_init 2 none 3 68 0 0 [.ref q0, .int off] g [(q0, .inr (7, [.int 0, .null, .null, .null, .null, .null, .int 0, .int 0]))] (fun HH => True) (fun _ : Unit => none) (fun _ _ => True) (fun _ : Unit => [(q0, .inr (7, [.int off, .null, .null, .null, .null, .null, .int 0, .int 0]))]) := by
  refine jM_of (by decide) (Nat.le_of_ble_eq_true rfl) ?_
  intro p e s m below meth c ls A hAe C hnm hmn hK hP hD hA hAN _ hX hS hl
  have hN : NW s := hX.nw
  obtain ⟨hx, hb, hr, hml, hown, hts, hlk⟩ := id C
  have hl : lv_has ls 2 [(0, .ref q0), (1, .int off)] := hl
  refine lv_aload_n hx hb dX7_init_0 rfl (lv_at hl 0 rfl) ?_
  refine lv_null hx hb dX7_init_1 ?_
  refine lv_null hx hb dX7_init_2 ?_
  refine lv_iconst (v := 0) hx hb dX7_init_3 rfl ?_
  refine lv_iconst (v := 0) hx hb dX7_init_4 rfl ?_
  refine j_after (w1 := [(q0, .inr (7, [.int 0, .null, .null, .null, .null, .null, .int 0, .int 0]))]) (w2 := []) (va_runI (As := [.null, .null, .int 0, .int 0]) (rest := []) (g := F0 m 5 ls [.int 0, .int 0, .null, .null, .ref q0]) C.fix (j_Einit_X9 l D k g q0) (cwC 4 hts q891 q892 q78 q893 rfl rfl rfl (by decide +kernel) ⟨Nat.le_of_ble_eq_true rfl, Nat.le_of_ble_eq_true rfl⟩) (preS mv2_jPre hK (fun U hU hW => jPre_at (w1 := [(q0, .inr (7, [.int 0, .null, .null, .null, .null, .null, .int 0, .int 0]))]) (w2 := []) hP (va_D_of hD rfl) hAN hX hS trivial hU hW)) rfl rfl hl.1 rfl (lv_room (Nat.le_of_ble_eq_true rfl)) dX7_init_5 ⟨(by first | exact Nat.le_of_ble_eq_true rfl | omega | (dsimp only [Rm]; omega)), (by first | exact Nat.le_of_ble_eq_true rfl | omega | (dsimp only [Rm]; omega))⟩) hP (va_D_of hD rfl) hS hA (fun xx H locs hB hP hD hS hsz hk => ?_)
  have hP : va_P D clA [(q0, .inr (7, [.int 0, .null, .null, .null, .null, .null, .int 0, .int 0]))] H := hP
  have hD : va_D A [(q0, .inr (7, [.int 0, .null, .null, .null, .null, .null, .int 0, .int 0]))] := hD
  refine lv_aload_n hx hb dX7_init_8 rfl (lv_at hl 0 rfl) ?_
  refine lv_iload_n hx hb dX7_init_9 rfl (lv_at hl 1 rfl) ?_
  refine va_putF hx hb hts in_X9 tyX9 tyX9_ok nmX9 hown hK hP (va_D_of hD rfl) hS 0 rfl rfl 0 (by decide) (hts _ q897) (fun _ h => h) rfl hnm rfl rfl rfl rfl (Nat.le_of_ble_eq_true rfl) dX7_init_10 (fun H locs hP _ hS => ?_)
  have hP : va_P D clA [(q0, .inr (7, [.int off, .null, .null, .null, .null, .null, .int 0, .int 0]))] H := hP
  exact j_vret hAe C () rfl trivial hP (va_D_of hD rfl) hS (by first | exact Nat.le_of_ble_eq_true rfl | omega | (dsimp only [Rm]; omega)) (by first | exact Nat.le_of_ble_eq_true rfl | omega | (dsimp only [Rm]; omega)) dX7_init_13
set_option maxHeartbeats 4000000 in
theorem c_X9init (l : Launch) (D : va_G) (k : Nat → ClassId) (g : Nat → Nat) (q0 : Nat) (cd off : Int32) : jM l D k yX9_init cX9_init 3 none 4 89 0 0 [.ref q0, .int cd, .int off] g [(q0, .inr (7, [.int 0, .null, .null, .null, .null, .null, .int 0, .int 0]))] (fun HH => True) (fun _ : Unit => none) (fun _ _ => True) (fun _ : Unit => [(q0, .inr (7, [.int off, .null, .null, .null, .null, .null, .int 0, .int cd]))]) := by
  refine jM_of (by decide) (Nat.le_of_ble_eq_true rfl) ?_
  intro p e s m below meth c ls A hAe C hnm hmn hK hP hD hA hAN _ hX hS hl
  have hN : NW s := hX.nw
  obtain ⟨hx, hb, hr, hml, hown, hts, hlk⟩ := id C
  have hl : lv_has ls 3 [(0, .ref q0), (1, .int cd), (2, .int off)] := hl
  refine lv_aload_n hx hb dX9_init_0 rfl (lv_at hl 0 rfl) ?_
  refine lv_iload_n hx hb dX9_init_1 rfl (lv_at hl 2 rfl) ?_
  refine j_after (w1 := [(q0, .inr (7, [.int 0, .null, .null, .null, .null, .null, .int 0, .int 0]))]) (w2 := []) (va_runI (As := [.int off]) (rest := []) (g := F0 m 2 ls [.int off, .ref q0]) C.fix (c_X7init_X9 l D k g q0 off) (cwC 1 hts q921 q889 q94 q890 rfl rfl rfl (by decide +kernel) ⟨Nat.le_of_ble_eq_true rfl, Nat.le_of_ble_eq_true rfl⟩) (preS mv2_jPre hK (fun U hU hW => jPre_at (w1 := [(q0, .inr (7, [.int 0, .null, .null, .null, .null, .null, .int 0, .int 0]))]) (w2 := []) hP (va_D_of hD rfl) hAN hX hS trivial hU hW)) rfl rfl hl.1 rfl (lv_room (Nat.le_of_ble_eq_true rfl)) dX9_init_2 ⟨(by first | exact Nat.le_of_ble_eq_true rfl | omega | (dsimp only [Rm]; omega)), (by first | exact Nat.le_of_ble_eq_true rfl | omega | (dsimp only [Rm]; omega))⟩) hP (va_D_of hD rfl) hS hA (fun xx H locs hB hP hD hS hsz hk => ?_)
  have hP : va_P D clA [(q0, .inr (7, [.int off, .null, .null, .null, .null, .null, .int 0, .int 0]))] H := hP
  have hD : va_D A [(q0, .inr (7, [.int off, .null, .null, .null, .null, .null, .int 0, .int 0]))] := hD
  refine lv_aload_n hx hb dX9_init_5 rfl (lv_at hl 0 rfl) ?_
  refine lv_iload_n hx hb dX9_init_6 rfl (lv_at hl 1 rfl) ?_
  refine va_putF hx hb hts in_X9 tyX9 tyX9_ok nmX9 hown hK hP (va_D_of hD rfl) hS 0 rfl rfl 7 (by decide) (hts _ q922) (fun _ h => h) rfl hnm rfl rfl rfl rfl (Nat.le_of_ble_eq_true rfl) dX9_init_7 (fun H locs hP _ hS => ?_)
  have hP : va_P D clA [(q0, .inr (7, [.int off, .null, .null, .null, .null, .null, .int 0, .int cd]))] H := hP
  exact j_vret hAe C () rfl trivial hP (va_D_of hD rfl) hS (by first | exact Nat.le_of_ble_eq_true rfl | omega | (dsimp only [Rm]; omega)) (by first | exact Nat.le_of_ble_eq_true rfl | omega | (dsimp only [Rm]; omega)) dX9_init_10
set_option maxHeartbeats 4000000 in
theorem c_reqSyntax (l : Launch) (D : va_G) (k : Nat → ClassId) (g : Nat → Nat) (pa : Nat) (P0 : Prop) (off : Int32) (htr : l.stackTraces = false) : uM l D k yX6_requireSyntax cX6_requireSyntax 3 none 5 110 1 7 [.ref pa, .int (bI P0), .int off] g [] (fun HH => True) (fun _ : Unit => none) (fun (xx : Unit) HH => P0) (fun _ : Unit => []) (fun E q HH => ¬ P0 ∧ exn D (-2) off E q HH) := by
  refine uM_of (by decide) (Nat.le_of_ble_eq_true rfl) ?_
  intro p e s m below meth c ls A hAe C hnt hnm hmn hK hP hD hA hAN _ hX hS hl
  have hN : NW s := hX.nw
  obtain ⟨hx, hb, hr, hml, hown, hts, hlk⟩ := id C
  have hl : lv_has ls 3 [(0, .ref pa), (1, .int (bI P0)), (2, .int off)] := hl
  refine lv_iload_n hx hb dX6_requireSyntax_0 rfl (lv_at hl 1 rfl) ?_
  refine lv_if_ne (tgt := 13) hx hb dX6_requireSyntax_1 (by decide) (fun c_1 => ?_) (fun c_1 => ?_)
  · have b_1 := bI_nz c_1
    exact vy_ret (j_vret hAe C () rfl (bI_nz c_1) hP (va_D_of hD rfl) hS (by first | exact Nat.le_of_ble_eq_true rfl | omega | (dsimp only [Rm]; omega)) (by first | exact Nat.le_of_ble_eq_true rfl | omega | (dsimp only [Rm]; omega)) dX6_requireSyntax_13)
  · have b_1 := bI_0.mp c_1
    refine n_new (fs := [.int 0, .null, .null, .null, .null, .null, .int 0]) hx hb hts in_X8 tyX8 tyX8_ok hown (hts _ q876) (hts _ q877) (hts _ q95) hK hP (va_D_of hD rfl) hS hA (ci := 6) rfl (by decide +kernel) (by first | exact Nat.le_of_ble_eq_true rfl | omega | (dsimp only [Rm]; omega)) (by first | exact Nat.le_of_ble_eq_true rfl | omega | (dsimp only [Rm]; omega)) dX6_requireSyntax_4 (fun q4 H _ hP hD hS => ?_)
    refine lv_dup hx hb dX6_requireSyntax_7 rfl ?_
    refine lv_iload_n hx hb dX6_requireSyntax_8 rfl (lv_at hl 2 rfl) ?_
    refine j_after (w1 := [(q4, .inr (6, [.int 0, .null, .null, .null, .null, .null, .int 0]))]) (w2 := []) (va_runI (As := [.int off]) (rest := [.ref q4]) (g := F0 m 9 ls [.int off, .ref q4, .ref q4]) C.fix (c_X8init l D k g q4 off) (cwC 1 hts q885 q886 q95 q887 rfl rfl rfl (by decide +kernel) ⟨Nat.le_of_ble_eq_true rfl, Nat.le_of_ble_eq_true rfl⟩) (preS mv2_jPre hK (fun U hU hW => jPre_at (w1 := [(q4, .inr (6, [.int 0, .null, .null, .null, .null, .null, .int 0]))]) (w2 := []) hP (va_D_of hD rfl) hAN hX hS trivial hU hW)) rfl rfl hl.1 rfl (lv_room (Nat.le_of_ble_eq_true rfl)) dX6_requireSyntax_9 ⟨(by first | exact Nat.le_of_ble_eq_true rfl | omega | (dsimp only [Rm]; omega)), (by first | exact Nat.le_of_ble_eq_true rfl | omega | (dsimp only [Rm]; omega))⟩) hP (va_D_of hD rfl) hS hA (fun xx H locs hB hP hD hS hsz hk => ?_)
    have hP : va_P D clA [(q4, .inr (6, [.int off, .null, .null, .null, .null, .null, .int 0]))] H := hP
    have hD : va_D A [(q4, .inr (6, [.int off, .null, .null, .null, .null, .null, .int 0]))] := hD
    obtain ⟨ce, hce, hcv, hcl⟩ := at_cls hK hP 0 rfl (show clA[6]? = some (RX8, TX8, 7) from rfl)
    exact vy_athrow hx hb dX6_requireSyntax_12 (u_out hAe hnt hlk (⟨bI_0.mp c_1, Or.inl ⟨rfl, rfl, hP.sub [0] rfl⟩⟩) hS hce hcv hcl (by first | exact Nat.le_of_ble_eq_true rfl | omega | (dsimp only [Rm]; omega)) (by first | exact Nat.le_of_ble_eq_true rfl | omega | (dsimp only [Rm]; omega)))
set_option maxHeartbeats 4000000 in
theorem c_reqLimit (l : Launch) (D : va_G) (k : Nat → ClassId) (g : Nat → Nat) (pa : Nat) (P0 : Prop) (cd off : Int32) (htr : l.stackTraces = false) : uM l D k yX6_requireLimit cX6_requireLimit 4 none 5 111 1 8 [.ref pa, .int (bI P0), .int cd, .int off] g [] (fun HH => True) (fun _ : Unit => none) (fun (xx : Unit) HH => P0) (fun _ : Unit => []) (fun E q HH => ¬ P0 ∧ exn D cd off E q HH) := by
  refine uM_of (by decide) (Nat.le_of_ble_eq_true rfl) ?_
  intro p e s m below meth c ls A hAe C hnt hnm hmn hK hP hD hA hAN _ hX hS hl
  have hN : NW s := hX.nw
  obtain ⟨hx, hb, hr, hml, hown, hts, hlk⟩ := id C
  have hl : lv_has ls 4 [(0, .ref pa), (1, .int (bI P0)), (2, .int cd), (3, .int off)] := hl
  refine lv_iload_n hx hb dX6_requireLimit_0 rfl (lv_at hl 1 rfl) ?_
  refine lv_if_ne (tgt := 14) hx hb dX6_requireLimit_1 (by decide) (fun c_1 => ?_) (fun c_1 => ?_)
  · have b_1 := bI_nz c_1
    exact vy_ret (j_vret hAe C () rfl (bI_nz c_1) hP (va_D_of hD rfl) hS (by first | exact Nat.le_of_ble_eq_true rfl | omega | (dsimp only [Rm]; omega)) (by first | exact Nat.le_of_ble_eq_true rfl | omega | (dsimp only [Rm]; omega)) dX6_requireLimit_14)
  · have b_1 := bI_0.mp c_1
    refine n_new (fs := [.int 0, .null, .null, .null, .null, .null, .int 0, .int 0]) hx hb hts in_X9 tyX9 tyX9_ok hown (hts _ q909) (hts _ q910) (hts _ q96) hK hP (va_D_of hD rfl) hS hA (ci := 7) rfl (by decide +kernel) (by first | exact Nat.le_of_ble_eq_true rfl | omega | (dsimp only [Rm]; omega)) (by first | exact Nat.le_of_ble_eq_true rfl | omega | (dsimp only [Rm]; omega)) dX6_requireLimit_4 (fun q4 H _ hP hD hS => ?_)
    refine lv_dup hx hb dX6_requireLimit_7 rfl ?_
    refine lv_iload_n hx hb dX6_requireLimit_8 rfl (lv_at hl 2 rfl) ?_
    refine lv_iload_n hx hb dX6_requireLimit_9 rfl (lv_at hl 3 rfl) ?_
    refine j_after (w1 := [(q4, .inr (7, [.int 0, .null, .null, .null, .null, .null, .int 0, .int 0]))]) (w2 := []) (va_runI (As := [.int cd, .int off]) (rest := [.ref q4]) (g := F0 m 10 ls [.int off, .int cd, .ref q4, .ref q4]) C.fix (c_X9init l D k g q4 cd off) (cwC 2 hts q918 q919 q96 q920 rfl rfl rfl (by decide +kernel) ⟨Nat.le_of_ble_eq_true rfl, Nat.le_of_ble_eq_true rfl⟩) (preS mv2_jPre hK (fun U hU hW => jPre_at (w1 := [(q4, .inr (7, [.int 0, .null, .null, .null, .null, .null, .int 0, .int 0]))]) (w2 := []) hP (va_D_of hD rfl) hAN hX hS trivial hU hW)) rfl rfl hl.1 rfl (lv_room (Nat.le_of_ble_eq_true rfl)) dX6_requireLimit_10 ⟨(by first | exact Nat.le_of_ble_eq_true rfl | omega | (dsimp only [Rm]; omega)), (by first | exact Nat.le_of_ble_eq_true rfl | omega | (dsimp only [Rm]; omega))⟩) hP (va_D_of hD rfl) hS hA (fun xx H locs hB hP hD hS hsz hk => ?_)
    have hP : va_P D clA [(q4, .inr (7, [.int off, .null, .null, .null, .null, .null, .int 0, .int cd]))] H := hP
    have hD : va_D A [(q4, .inr (7, [.int off, .null, .null, .null, .null, .null, .int 0, .int cd]))] := hD
    obtain ⟨ce, hce, hcv, hcl⟩ := at_cls hK hP 0 rfl (show clA[7]? = some (RX9, TX9, 8) from rfl)
    exact vy_athrow hx hb dX6_requireLimit_13 (u_out hAe hnt hlk (⟨bI_0.mp c_1, Or.inr ⟨rfl, hP.sub [0] rfl⟩⟩) hS hce hcv hcl (by first | exact Nat.le_of_ble_eq_true rfl | omega | (dsimp only [Rm]; omega)) (by first | exact Nat.le_of_ble_eq_true rfl | omega | (dsimp only [Rm]; omega)))
