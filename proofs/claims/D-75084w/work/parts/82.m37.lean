/-! the component: reading the text (printed by gen/m37.py) -/
set_option maxRecDepth 100000
theorem cby_in {fb : Nat → Int32} {L x : Nat} (h : x < L) : cby fb L x = cB fb x := if_pos h
theorem cby_out {fb : Nat → Int32} {L x : Nat} (h : L ≤ x) : cby fb L x = -1 := if_neg (by omega)
theorem byt_out {fb : Nat → Int32} {L x : Nat} (h : L ≤ x) : byt fb L x = -1 := if_neg (by omega)
theorem byt_in {fb : Nat → Int32} {L x : Nat} (h : x < L) : byt fb L x = fb x := if_pos h
theorem sg_rng : ∀ n, n < 256 → ∀ lo, lo < 128 → ∀ hi, hi < 128 → 1 ≤ lo → ((nI lo ≤ sg (nI n) ∧ sg (nI n) ≤ nI hi) ↔ (lo ≤ n ∧ n ≤ hi)) := by
  intro n hn lo hlo hi hhi h1
  have key : ∀ n, n < 256 → (n < 128 ∧ sg (nI n) = nI n) ∨ (128 ≤ n ∧ sg (nI n) < 0) := by decide +kernel
  rcases key n hn with ⟨h, e⟩ | ⟨h, e⟩
  · rw [e, nI_leI (by omega) (by omega), nI_leI (by omega) (by omega)]
  · constructor
    · intro ⟨q, _⟩
      have z : (0 : Int32) ≤ nI lo := by
        show nI 0 ≤ nI lo
        exact (nI_leI (by omega) (by omega)).mpr (by omega)
      simp only [Int32.le_iff_toInt_le, Int32.lt_iff_toInt_lt] at *
      omega
    · intro q; omega
theorem cby_rng {fb : Nat → Int32} {L j : Nat} (hf : okF fb) (lo hi : Nat) (hlo : lo < 128) (hhi : hi < 128) (h1 : 1 ≤ lo) : inR (cby fb L j) (nI lo) (nI hi) ↔ inR (byt fb L j) (nI lo) (nI hi) := by
  unfold cby byt
  split
  · obtain ⟨n, hn, e⟩ := hf j
    unfold cB inR
    rw [e, sg_rng n hn lo hlo hi hhi h1, nI_leI (by omega) (by omega), nI_leI (by omega) (by omega)]
  · exact Iff.rfl
theorem let_1 {fb : Nat → Int32} {L x : Nat} (hf : okF fb) (h : x < L) (hc : inR (cB fb x) 97 122) : (1 : Int32) = bI (inR (byt fb L x) 97 122) := (bI_t ((cby_rng hf 97 122 (by decide) (by decide) (by decide)).mp (by rw [cby_in h]; exact hc)))
theorem let_0 {fb : Nat → Int32} {L x : Nat} (hf : okF fb) (h : x < L) (hc : ¬ inR (cB fb x) 97 122) : (0 : Int32) = bI (inR (byt fb L x) 97 122) := (bI_f (fun q => hc (by have z := (cby_rng hf 97 122 (by decide) (by decide) (by decide)).mpr q; rw [cby_in h] at z; exact z)))
theorem let_o {fb : Nat → Int32} {L x : Nat} (h : L ≤ x) : (0 : Int32) = bI (inR (byt fb L x) 97 122) := (bI_f (fun q => by rw [byt_out h] at q; exact absurd q.1 (by decide)))
theorem dig_c {fb : Nat → Int32} {L j : Nat} (hf : okF fb) : inR (cby fb L j) 48 57 = dig (byt fb L j) := propext (cby_rng hf 48 57 (by decide) (by decide) (by decide))
set_option maxHeartbeats 4000000 in
theorem c_peek (l : Launch) (D : va_G) (k : Nat → ClassId) (g : Nat → Nat) (pa o bb dq cu ca ds L pl : Nat) (bl eo st dp hfe : Int32) (fb : Nat → Int32) (hL : L ≤ 900) (hpl : pl ≤ L) (hfb : okF fb) : jM l D k yX6_peek cX6_peek 1 (some .int) 0 0 0 0 [.ref pa] g [(pa, .inr (5, [.int (nI L), .ref ca, .ref ds, .int (nI pl), .int st, .int dp, .int hfe, .ref o]))] (fun HH => FZ D [(pa, .inr (5, [.int (nI L), .ref ca, .ref ds, .int (nI pl), .int st, .int dp, .int hfe, .ref o]))] [(o, .inr (1, [.ref bb, .ref dq, .ref cu, .int bl, .int eo])), (bb, .inl (k 1, 900, .inl (cB fb)))] HH) (fun _ : Unit => some (.int (cby fb L (sk fb L pl)))) (fun _ _ => True) (fun _ : Unit => [(pa, .inr (5, [.int (nI L), .ref ca, .ref ds, .int (nI (sk fb L pl)), .int st, .int dp, .int hfe, .ref o]))]) := by
  refine jM_of (by decide) (Nat.le_of_ble_eq_true rfl) ?_
  intro p e s m below meth c ls A hAe C hnm hmn hK hP hD hA hAN hF hX hS hl
  have hN : NW s := hX.nw
  obtain ⟨hx, hb, hr, hml, hown, hts, hlk⟩ := id C
  have hl : lv_has ls 1 [(0, .ref pa)] := hl
  have loop_0 : ∀ (n : Nat) (x : Nat), (x ≤ L) → (sk fb L x = sk fb L pl) → (L + 1 ≤ x + n) → ∀ (H : Heap) (locs : List Loc), va_P D clA [(pa, .inr (5, [.int (nI L), .ref ca, .ref ds, .int (nI x), .int st, .int dp, .int hfe, .ref o]))] H → va_D A [(pa, .inr (5, [.int (nI L), .ref ca, .ref ds, .int (nI x), .int st, .int dp, .int hfe, .ref o]))] → va_S A s.heap H locs → ∀ (ls : Array Slot), lv_has ls 1 [(0, .ref pa)] → W p l e (Rm 0 0 0 0) s m ([.ref pa] : List Value).toArray below meth c H locs 0 0 (MQ below (jQ D (fun _ : Unit => some (.int (cby fb L (sk fb L pl)))) (fun _ _ => True) (fun _ : Unit => [(pa, .inr (5, [.int (nI L), .ref ca, .ref ds, .int (nI (sk fb L pl)), .int st, .int dp, .int hfe, .ref o]))]) (inL [(pa, .inr (5, [.int (nI L), .ref ca, .ref ds, .int (nI pl), .int st, .int dp, .int hfe, .ref o]))])) ([.ref pa] : List Value).toArray s 0 0 (inL [(pa, .inr (5, [.int (nI L), .ref ca, .ref ds, .int (nI pl), .int st, .int dp, .int hfe, .ref o]))])) (F0 m 0 ls []) := by
    intro n
    induction n with
    | zero =>
      intro x hxL hsk hn
      exact absurd hn (by omega)
    | succ n ih_0 =>
      intro x hxL hsk hn H locs hP hD hS ls hl
      refine lv_aload_n hx hb dX6_peek_0 rfl (lv_at hl 0 rfl) ?_
      refine va_get hx hb hts in_X6 hown hK hP 0 rfl rfl 3 (by decide) (hts _ q465) (fun _ h => h) rfl dX6_peek_1 ?_
      refine lv_aload_n hx hb dX6_peek_4 rfl (lv_at hl 0 rfl) ?_
      refine va_get hx hb hts in_X6 hown hK hP 0 rfl rfl 0 (by decide) (hts _ q462) (fun _ h => h) rfl dX6_peek_5 ?_
      refine lv_icmp_ge (tgt := 41) hx hb dX6_peek_8 (by decide) (fun c_8 => ?_) (fun c_8 => ?_)
      · have g_8 := nI_le' c_8 (by omega) (by omega)
        have hx8 : sk fb L x = x := sk_stop (by rw [byt_out (by omega)]; decide)
        obtain rfl : x = sk fb L pl := hx8.symm.trans hsk
        refine lv_aload_n hx hb dX6_peek_41 rfl (lv_at hl 0 rfl) ?_
        refine va_get hx hb hts in_X6 hown hK hP 0 rfl rfl 3 (by decide) (hts _ q465) (fun _ h => h) rfl dX6_peek_42 ?_
        refine lv_aload_n hx hb dX6_peek_45 rfl (lv_at hl 0 rfl) ?_
        refine va_get hx hb hts in_X6 hown hK hP 0 rfl rfl 0 (by decide) (hts _ q462) (fun _ h => h) rfl dX6_peek_46 ?_
        refine lv_icmp_ge (tgt := 67) hx hb dX6_peek_49 (by decide) (fun c_49 => ?_) (fun c_49 => ?_)
        · have g_49 := nI_le' c_49 (by omega) (by omega)
          refine lv_iconst (v := (-1)) hx hb dX6_peek_67 rfl ?_
          exact j_iret hAe C () (congrArg (fun v => some (Value.int v)) (by first | exact cby_in (by omega) | exact cby_out (by omega))) trivial hP (va_D_of hD rfl) hS (by first | exact Nat.le_of_ble_eq_true rfl | omega | (dsimp only [Rm]; omega)) (by first | exact Nat.le_of_ble_eq_true rfl | omega | (dsimp only [Rm]; omega)) dX6_peek_68
        · have g_49 := nI_nle' c_49 (by omega) (by omega)
          refine lv_aload_n hx hb dX6_peek_52 rfl (lv_at hl 0 rfl) ?_
          refine va_get hx hb hts in_X6 hown hK hP 0 rfl rfl 7 (by decide) (hts _ q469) (fun _ h => h) rfl dX6_peek_53 ?_
          refine va_getN hx hb hts in_X1 hown hK (FZ_at hAe hF hS) 0 rfl rfl 0 (by decide) ((hN _ q218 rfl).use rfl) (fun _ h => h) rfl dX6_peek_56 ?_
          refine lv_aload_n hx hb dX6_peek_59 rfl (lv_at hl 0 rfl) ?_
          refine va_get hx hb hts in_X6 hown hK hP 0 rfl rfl 3 (by decide) (hts _ q465) (fun _ h => h) rfl dX6_peek_60 ?_
          refine w_bald hx hb hK (FZ_at hAe hF hS) 1 rfl (sk fb L pl) rfl (by omega) (Nat.le_of_ble_eq_true rfl) dX6_peek_63 ?_
          refine lv_goto (tgt := 68) hx hb dX6_peek_64 (by decide) ?_
          exact j_iret hAe C () (congrArg (fun v => some (Value.int v)) (by first | exact cby_in (by omega) | exact cby_out (by omega))) trivial hP (va_D_of hD rfl) hS (by first | exact Nat.le_of_ble_eq_true rfl | omega | (dsimp only [Rm]; omega)) (by first | exact Nat.le_of_ble_eq_true rfl | omega | (dsimp only [Rm]; omega)) dX6_peek_68
      · have g_8 := nI_nle' c_8 (by omega) (by omega)
        refine lv_aload_n hx hb dX6_peek_11 rfl (lv_at hl 0 rfl) ?_
        refine va_get hx hb hts in_X6 hown hK hP 0 rfl rfl 7 (by decide) (hts _ q469) (fun _ h => h) rfl dX6_peek_12 ?_
        refine va_getN hx hb hts in_X1 hown hK (FZ_at hAe hF hS) 0 rfl rfl 0 (by decide) ((hN _ q218 rfl).use rfl) (fun _ h => h) rfl dX6_peek_15 ?_
        refine lv_aload_n hx hb dX6_peek_18 rfl (lv_at hl 0 rfl) ?_
        refine va_get hx hb hts in_X6 hown hK hP 0 rfl rfl 3 (by decide) (hts _ q465) (fun _ h => h) rfl dX6_peek_19 ?_
        refine w_bald hx hb hK (FZ_at hAe hF hS) 1 rfl x rfl (by omega) (Nat.le_of_ble_eq_true rfl) dX6_peek_22 ?_
        refine lv_bipush (v := 32) hx hb dX6_peek_23 rfl ?_
        refine lv_icmp_ne (tgt := 41) hx hb dX6_peek_25 (by decide) (fun c_25 => ?_) (fun c_25 => ?_)
        · have hx8 : sk fb L x = x := sk_stop (by rw [byt_in (by omega)]; exact fun h => c_25 ((sg_eq hfb x 32 (by decide)).mpr h))
          obtain rfl : x = sk fb L pl := hx8.symm.trans hsk
          refine lv_aload_n hx hb dX6_peek_41 rfl (lv_at hl 0 rfl) ?_
          refine va_get hx hb hts in_X6 hown hK hP 0 rfl rfl 3 (by decide) (hts _ q465) (fun _ h => h) rfl dX6_peek_42 ?_
          refine lv_aload_n hx hb dX6_peek_45 rfl (lv_at hl 0 rfl) ?_
          refine va_get hx hb hts in_X6 hown hK hP 0 rfl rfl 0 (by decide) (hts _ q462) (fun _ h => h) rfl dX6_peek_46 ?_
          refine lv_icmp_ge (tgt := 67) hx hb dX6_peek_49 (by decide) (fun c_49 => ?_) (fun c_49 => ?_)
          · have g_49 := nI_le' c_49 (by omega) (by omega)
            refine lv_iconst (v := (-1)) hx hb dX6_peek_67 rfl ?_
            exact j_iret hAe C () (congrArg (fun v => some (Value.int v)) (by first | exact cby_in (by omega) | exact cby_out (by omega))) trivial hP (va_D_of hD rfl) hS (by first | exact Nat.le_of_ble_eq_true rfl | omega | (dsimp only [Rm]; omega)) (by first | exact Nat.le_of_ble_eq_true rfl | omega | (dsimp only [Rm]; omega)) dX6_peek_68
          · have g_49 := nI_nle' c_49 (by omega) (by omega)
            refine lv_aload_n hx hb dX6_peek_52 rfl (lv_at hl 0 rfl) ?_
            refine va_get hx hb hts in_X6 hown hK hP 0 rfl rfl 7 (by decide) (hts _ q469) (fun _ h => h) rfl dX6_peek_53 ?_
            refine va_getN hx hb hts in_X1 hown hK (FZ_at hAe hF hS) 0 rfl rfl 0 (by decide) ((hN _ q218 rfl).use rfl) (fun _ h => h) rfl dX6_peek_56 ?_
            refine lv_aload_n hx hb dX6_peek_59 rfl (lv_at hl 0 rfl) ?_
            refine va_get hx hb hts in_X6 hown hK hP 0 rfl rfl 3 (by decide) (hts _ q465) (fun _ h => h) rfl dX6_peek_60 ?_
            refine w_bald hx hb hK (FZ_at hAe hF hS) 1 rfl (sk fb L pl) rfl (by omega) (Nat.le_of_ble_eq_true rfl) dX6_peek_63 ?_
            refine lv_goto (tgt := 68) hx hb dX6_peek_64 (by decide) ?_
            exact j_iret hAe C () (congrArg (fun v => some (Value.int v)) (by first | exact cby_in (by omega) | exact cby_out (by omega))) trivial hP (va_D_of hD rfl) hS (by first | exact Nat.le_of_ble_eq_true rfl | omega | (dsimp only [Rm]; omega)) (by first | exact Nat.le_of_ble_eq_true rfl | omega | (dsimp only [Rm]; omega)) dX6_peek_68
        · have hsk1 := (sk_step (fb := fb) (L := L) (p := x) (by rw [byt_in (by omega)]; exact (sg_eq hfb x 32 (by decide)).mp c_25)).1
          refine lv_aload_n hx hb dX6_peek_28 rfl (lv_at hl 0 rfl) ?_
          refine lv_dup hx hb dX6_peek_29 rfl ?_
          refine va_get hx hb hts in_X6 hown hK hP 0 rfl rfl 3 (by decide) (hts _ q465) (fun _ h => h) rfl dX6_peek_30 ?_
          refine lv_iconst (v := 1) hx hb dX6_peek_33 rfl ?_
          refine lv_iadd hx hb dX6_peek_34 ?_
          refine w_topi (y := nI (x + 1)) (nI_add x 1) ?_
          refine va_put hx hb hts in_X6 tyX6 tyX6_ok nmX6 hown hK hP (va_D_of hD rfl) hS 0 rfl rfl 3 (by decide) (hts _ q465) (fun _ h => h) rfl rfl rfl rfl (Nat.le_of_ble_eq_true rfl) dX6_peek_35 (fun H locs hP _ hS => ?_)
          have hP : va_P D clA [(pa, .inr (5, [.int (nI L), .ref ca, .ref ds, .int (nI (x + 1)), .int st, .int dp, .int hfe, .ref o]))] H := hP
          refine lv_goto (tgt := 0) hx hb dX6_peek_38 (by decide) ?_
          exact W_more (by first | exact Nat.le_of_ble_eq_true rfl | omega | (dsimp only [Rm]; omega)) (by first | exact Nat.le_of_ble_eq_true rfl | omega | (dsimp only [Rm]; omega)) (ih_0 (x + 1) (by omega) (hsk1.symm.trans hsk) (by omega) _ _ hP (va_D_of hD rfl) hS ls (lv_sub hl [0] rfl))
  exact W_more (by first | exact Nat.le_of_ble_eq_true rfl | omega | (dsimp only [Rm]; omega)) (by first | exact Nat.le_of_ble_eq_true rfl | omega | (dsimp only [Rm]; omega)) (loop_0 (L + 1) pl (by omega) rfl (by omega) _ _ hP (va_D_of hD rfl) hS ls (lv_sub hl [0] rfl))
set_option maxHeartbeats 4000000 in
theorem c_isDigitNext (l : Launch) (D : va_G) (k : Nat → ClassId) (g : Nat → Nat) (pa o bb dq cu ca ds L pl : Nat) (bl eo st dp hfe : Int32) (fb : Nat → Int32) (hL : L ≤ 900) (hpl : pl ≤ L) (hfb : okF fb) : jM l D k yX6_isDigitNext cX6_isDigitNext 1 (some .boolean) 1 25 0 0 [.ref pa] g [(pa, .inr (5, [.int (nI L), .ref ca, .ref ds, .int (nI pl), .int st, .int dp, .int hfe, .ref o]))] (fun HH => FZ D [(pa, .inr (5, [.int (nI L), .ref ca, .ref ds, .int (nI pl), .int st, .int dp, .int hfe, .ref o]))] [(o, .inr (1, [.ref bb, .ref dq, .ref cu, .int bl, .int eo])), (bb, .inl (k 1, 900, .inl (cB fb)))] HH) (fun _ : Unit => some (.int (bI (dig (byt fb L (sk fb L pl)))))) (fun _ _ => True) (fun _ : Unit => [(pa, .inr (5, [.int (nI L), .ref ca, .ref ds, .int (nI (sk fb L pl)), .int st, .int dp, .int hfe, .ref o]))]) := by
  refine jM_of (by decide) (Nat.le_of_ble_eq_true rfl) ?_
  intro p e s m below meth c ls A hAe C hnm hmn hK hP hD hA hAN hF hX hS hl
  have hN : NW s := hX.nw
  obtain ⟨hx, hb, hr, hml, hown, hts, hlk⟩ := id C
  have hl : lv_has ls 1 [(0, .ref pa)] := hl
  refine lv_aload_n hx hb dX6_isDigitNext_0 rfl (lv_at hl 0 rfl) ?_
  refine j_after (w1 := [(pa, .inr (5, [.int (nI L), .ref ca, .ref ds, .int (nI pl), .int st, .int dp, .int hfe, .ref o]))]) (w2 := []) (va_runV (As := []) (rest := []) (g := F0 m 1 ls [.ref pa]) C.fix (c_peek l D k g pa o bb dq cu ca ds L pl bl eo st dp hfe fb hL (by omega) hfb) (cwV 0 hts (lw_V q491 q493 qs2 q81 q494) rfl rfl rfl (by decide +kernel) ⟨Nat.le_of_ble_eq_true rfl, Nat.le_of_ble_eq_true rfl⟩) (preV mv2_jPre hK (va_recv hK hP (ci := 5) (q0 := 0) rfl rfl) (fun U hU hW => jPre_at (w1 := [(pa, .inr (5, [.int (nI L), .ref ca, .ref ds, .int (nI pl), .int st, .int dp, .int hfe, .ref o]))]) (w2 := []) hP (va_D_of hD rfl) hAN hX hS (FZ.sub (FZ_call (w1 := [(pa, .inr (5, [.int (nI L), .ref ca, .ref ds, .int (nI pl), .int st, .int dp, .int hfe, .ref o]))]) (w2 := []) hAe hF hS (va_D_of hD rfl)) [0, 1] rfl) hU hW)) rfl rfl hl.1 rfl (lv_room (Nat.le_of_ble_eq_true rfl)) dX6_isDigitNext_1 ⟨(by first | exact Nat.le_of_ble_eq_true rfl | omega | (dsimp only [Rm]; omega)), (by first | exact Nat.le_of_ble_eq_true rfl | omega | (dsimp only [Rm]; omega))⟩) hP (va_D_of hD rfl) hS hA (fun xx H locs hB hP hD hS hsz hk => ?_)
  have hP : va_P D clA [(pa, .inr (5, [.int (nI L), .ref ca, .ref ds, .int (nI (sk fb L pl)), .int st, .int dp, .int hfe, .ref o]))] H := hP
  have hD : va_D A [(pa, .inr (5, [.int (nI L), .ref ca, .ref ds, .int (nI (sk fb L pl)), .int st, .int dp, .int hfe, .ref o]))] := hD
  refine lv_i2l (v := (cby fb L (sk fb L pl)).toInt64) hx hb dX6_isDigitNext_4 rfl ?_
  refine lv_ldc2 (v := 48) hx hb hown (hts _ q870) dX6_isDigitNext_5 ?_
  refine lv_ldc2 (v := 57) hx hb hown (hts _ q871) dX6_isDigitNext_8 ?_
  refine r_after (va_runSN (As := [.long ((cby fb L (sk fb L pl)).toInt64), .long 48, .long 57]) (rest := []) (g := F0 m 11 ls [.long 57, .long 48, .long ((cby fb L (sk fb L pl)).toInt64)]) C.fix (c_isBetween l D k ((cby fb L (sk fb L pl)).toInt64) 48 57) ⟨(va_cnB 3 hts (lw_meth q303) rfl rfl rfl (hN _ q540 rfl) (hts _ q68) (by decide +kernel) ⟨Nat.le_of_ble_eq_true rfl, Nat.le_of_ble_eq_true rfl⟩), hts _ q302, trivial⟩ (preR hK trivial) rfl rfl hl.1 rfl (lv_room (Nat.le_of_ble_eq_true rfl)) dX6_isDigitNext_11 ⟨(by first | exact Nat.le_of_ble_eq_true rfl | omega | (dsimp only [Rm]; omega)), (by first | exact Nat.le_of_ble_eq_true rfl | omega | (dsimp only [Rm]; omega))⟩) ?_
  refine w_topi (y := bI (inR (cby fb L (sk fb L pl)) 48 57)) (congrArg bI (bet (cby fb L (sk fb L pl)) 48 57 (by decide) (by decide))) ?_
  exact j_zret hAe C () (by rw [dig_c hfb]) rfl trivial hP (va_D_of hD rfl) hS (by first | exact Nat.le_of_ble_eq_true rfl | omega | (dsimp only [Rm]; omega)) (by first | exact Nat.le_of_ble_eq_true rfl | omega | (dsimp only [Rm]; omega)) dX6_isDigitNext_14
set_option maxHeartbeats 4000000 in
theorem c_isLetterAt (l : Launch) (D : va_G) (k : Nat → ClassId) (g : Nat → Nat) (pa o bb dq cu ca ds L pl x : Nat) (bl eo st dp hfe : Int32) (fb : Nat → Int32) (hL : L ≤ 900) (hfb : okF fb) (hxb : x ≤ 2000) : jM l D k yX6_isLetterAt cX6_isLetterAt 2 (some .boolean) 1 25 0 0 [.ref pa, .int (nI x)] g [(pa, .inr (5, [.int (nI L), .ref ca, .ref ds, .int (nI pl), .int st, .int dp, .int hfe, .ref o]))] (fun HH => FZ D [(pa, .inr (5, [.int (nI L), .ref ca, .ref ds, .int (nI pl), .int st, .int dp, .int hfe, .ref o]))] [(o, .inr (1, [.ref bb, .ref dq, .ref cu, .int bl, .int eo])), (bb, .inl (k 1, 900, .inl (cB fb)))] HH) (fun _ : Unit => some (.int (bI (inR (byt fb L x) 97 122)))) (fun _ _ => True) (fun _ : Unit => [(pa, .inr (5, [.int (nI L), .ref ca, .ref ds, .int (nI pl), .int st, .int dp, .int hfe, .ref o]))]) := by
  refine jM_of (by decide) (Nat.le_of_ble_eq_true rfl) ?_
  intro p e s m below meth c ls A hAe C hnm hmn hK hP hD hA hAN hF hX hS hl
  have hN : NW s := hX.nw
  obtain ⟨hx, hb, hr, hml, hown, hts, hlk⟩ := id C
  have hl : lv_has ls 2 [(0, .ref pa), (1, .int (nI x))] := hl
  refine lv_iload_n hx hb dX6_isLetterAt_0 rfl (lv_at hl 1 rfl) ?_
  refine lv_aload_n hx hb dX6_isLetterAt_1 rfl (lv_at hl 0 rfl) ?_
  refine va_get hx hb hts in_X6 hown hK hP 0 rfl rfl 0 (by decide) (hts _ q462) (fun _ h => h) rfl dX6_isLetterAt_2 ?_
  refine lv_icmp_ge (tgt := 34) hx hb dX6_isLetterAt_5 (by decide) (fun c_5 => ?_) (fun c_5 => ?_)
  · have g_5 := nI_le' c_5 (by omega) (by omega)
    refine lv_iconst (v := 0) hx hb dX6_isLetterAt_34 rfl ?_
    exact j_zret hAe C () (show _ = bI (inR (byt fb L x) 97 122) from by first | exact let_1 hfb (by omega) (bI_nz c_27) | exact let_0 hfb (by omega) (bI_0.mp c_27) | exact let_o (by omega)) rfl trivial hP (va_D_of hD rfl) hS (by first | exact Nat.le_of_ble_eq_true rfl | omega | (dsimp only [Rm]; omega)) (by first | exact Nat.le_of_ble_eq_true rfl | omega | (dsimp only [Rm]; omega)) dX6_isLetterAt_35
  · have g_5 := nI_nle' c_5 (by omega) (by omega)
    refine lv_aload_n hx hb dX6_isLetterAt_8 rfl (lv_at hl 0 rfl) ?_
    refine va_get hx hb hts in_X6 hown hK hP 0 rfl rfl 7 (by decide) (hts _ q469) (fun _ h => h) rfl dX6_isLetterAt_9 ?_
    refine va_getN hx hb hts in_X1 hown hK (FZ_at hAe hF hS) 0 rfl rfl 0 (by decide) ((hN _ q218 rfl).use rfl) (fun _ h => h) rfl dX6_isLetterAt_12 ?_
    refine lv_iload_n hx hb dX6_isLetterAt_15 rfl (lv_at hl 1 rfl) ?_
    refine w_bald hx hb hK (FZ_at hAe hF hS) 1 rfl x rfl (by omega) (Nat.le_of_ble_eq_true rfl) dX6_isLetterAt_16 ?_
    refine lv_i2l (v := ((cB fb) x).toInt64) hx hb dX6_isLetterAt_17 rfl ?_
    refine lv_ldc2 (v := 97) hx hb hown (hts _ q538) dX6_isLetterAt_18 ?_
    refine lv_ldc2 (v := 122) hx hb hown (hts _ q539) dX6_isLetterAt_21 ?_
    refine r_after (va_runSN (As := [.long (((cB fb) x).toInt64), .long 97, .long 122]) (rest := []) (g := F0 m 24 ls [.long 122, .long 97, .long (((cB fb) x).toInt64)]) C.fix (c_isBetween l D k (((cB fb) x).toInt64) 97 122) ⟨(va_cnB 3 hts (lw_meth q303) rfl rfl rfl (hN _ q540 rfl) (hts _ q68) (by decide +kernel) ⟨Nat.le_of_ble_eq_true rfl, Nat.le_of_ble_eq_true rfl⟩), hts _ q302, trivial⟩ (preR hK trivial) rfl rfl hl.1 rfl (lv_room (Nat.le_of_ble_eq_true rfl)) dX6_isLetterAt_24 ⟨(by first | exact Nat.le_of_ble_eq_true rfl | omega | (dsimp only [Rm]; omega)), (by first | exact Nat.le_of_ble_eq_true rfl | omega | (dsimp only [Rm]; omega))⟩) ?_
    refine w_topi (y := bI (inR ((cB fb) x) 97 122)) (congrArg bI (bet ((cB fb) x) 97 122 (by decide) (by decide))) ?_
    refine lv_if_eq (tgt := 34) hx hb dX6_isLetterAt_27 (by decide) (fun c_27 => ?_) (fun c_27 => ?_)
    · have b_27 := bI_0.mp c_27
      refine lv_iconst (v := 0) hx hb dX6_isLetterAt_34 rfl ?_
      exact j_zret hAe C () (show _ = bI (inR (byt fb L x) 97 122) from by first | exact let_1 hfb (by omega) (bI_nz c_27) | exact let_0 hfb (by omega) (bI_0.mp c_27) | exact let_o (by omega)) rfl trivial hP (va_D_of hD rfl) hS (by first | exact Nat.le_of_ble_eq_true rfl | omega | (dsimp only [Rm]; omega)) (by first | exact Nat.le_of_ble_eq_true rfl | omega | (dsimp only [Rm]; omega)) dX6_isLetterAt_35
    · have b_27 := bI_nz c_27
      refine lv_iconst (v := 1) hx hb dX6_isLetterAt_30 rfl ?_
      refine lv_goto (tgt := 35) hx hb dX6_isLetterAt_31 (by decide) ?_
      exact j_zret hAe C () (show _ = bI (inR (byt fb L x) 97 122) from by first | exact let_1 hfb (by omega) (bI_nz c_27) | exact let_0 hfb (by omega) (bI_0.mp c_27) | exact let_o (by omega)) rfl trivial hP (va_D_of hD rfl) hS (by first | exact Nat.le_of_ble_eq_true rfl | omega | (dsimp only [Rm]; omega)) (by first | exact Nat.le_of_ble_eq_true rfl | omega | (dsimp only [Rm]; omega)) dX6_isLetterAt_35
