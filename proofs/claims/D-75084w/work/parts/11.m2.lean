/-! the reference: what reads (printed by gen/m2.py) -/
set_option maxRecDepth 100000
set_option maxHeartbeats 4000000 in
theorem m_isBusiness (l : Launch) (D : va_G) (k : Nat → ClassId) (o a8 : Nat) (fs : List Value) (d : Nat → Int32) (h8 : fs[8]? = some (.ref a8)) (hd : okD d) (x : Nat) (hx0 : x < 2 ^ 30) : rM l D k yX5_isBusiness cX5_isBusiness 3 (some .boolean) 0 0 [.ref o, .int (nI x)] (va_P D clA [(o, .inr (0, fs)), (a8, .inl (k 0, 1798, .inl d))]) (some (.int (bI (isBus d x)))) := by
  refine rM_of (by decide) (Nat.le_of_ble_eq_true rfl) ?_
  intro p e s m below meth c ls C hK hP hl
  obtain ⟨hx, hb, hr, hml, hown, hts, hlk⟩ := id C
  have hl : lv_has ls 3 [(0, .ref o), (1, .int (nI x))] := hl
  have h2 := hd.1.2.2.1
  refine lv_iload_n hx hb dX5_isBusiness_0 rfl (lv_at hl 1 rfl) ?_
  refine lv_bipush (v := 7) hx hb dX5_isBusiness_1 rfl ?_
  refine lv_irem hx hb dX5_isBusiness_3 (by decide) ?_
  refine w_topi (y := nI (x % 7)) (pk_rem (d := 7) (by omega) (by decide) (by decide)) ?_
  refine lv_iconst (v := 4) hx hb dX5_isBusiness_4 rfl ?_
  refine lv_icmp_le (tgt := 10) hx hb dX5_isBusiness_5 (by decide) (fun c_5 => ?_) (fun c_5 => ?_)
  · have g_5 := nI_le' (b := 4) c_5 (by omega) (by decide)
    refine lv_iconst (v := 0) hx hb dX5_isBusiness_10 rfl ?_
    refine lv_istore_n (lv' := [(2, .int 0), (0, .ref o), (1, .int (nI x))]) hx hb dX5_isBusiness_11 rfl hl (by decide) rfl (fun ls hl => ?_)
    have loop_12 : ∀ (n : Nat) (j : Nat), (j ≤ dN d 2) → (dN d 2 + 1 ≤ j + n) → (∀ a, a < j → d (6 + a) ≠ nI x) → ∀ (ls : Array Slot), lv_has ls 3 [(0, .ref o), (1, .int (nI x)), (2, .int (nI j))] → W p l e (Rm 0 0 0 0) s m ([.ref o, .int (nI x)] : List Value).toArray below meth c s.heap [] 0 0 (MQ below (rQ (some (.int (bI (isBus d x))))) ([.ref o, .int (nI x)] : List Value).toArray s 0 0 (fun _ => False)) (F0 m 12 ls []) := by
      intro n
      induction n with
      | zero =>
        intro j hj hn hq
        exact absurd hn (by omega)
      | succ n ih_12 =>
        intro j hj hn hq ls hl
        have h3 := h2.2
        refine lv_iload_n hx hb dX5_isBusiness_12 rfl (lv_at hl 2 rfl) ?_
        refine lv_aload_n hx hb dX5_isBusiness_13 rfl (lv_at hl 0 rfl) ?_
        refine va_get hx hb hts in_X5 hown hK hP 0 rfl rfl 8 (by decide) (hts _ q1670) (fun _ h => h) h8 dX5_isBusiness_14 ?_
        refine lv_iconst (v := 2) hx hb dX5_isBusiness_17 rfl ?_
        refine w_iald hx hb hK hP 1 rfl 2 rfl (Nat.le_of_ble_eq_true rfl) (Nat.le_of_ble_eq_true rfl) dX5_isBusiness_18 ?_
        refine w_topi (y := nI (dN d 2)) h2.1 ?_
        refine lv_icmp_ge (tgt := 43) hx hb dX5_isBusiness_19 (by decide) (fun c_19 => ?_) (fun c_19 => ?_)
        · have g_19 := nI_le' c_19 (by omega) (by omega)
          refine lv_iconst (v := 1) hx hb dX5_isBusiness_43 rfl ?_
          exact r_zret C (bI_t ⟨g_5, fun a ha => hq a (by omega)⟩) dX5_isBusiness_44
        · have g_19 := nI_nle' c_19 (by omega) (by omega)
          refine lv_aload_n hx hb dX5_isBusiness_22 rfl (lv_at hl 0 rfl) ?_
          refine va_get hx hb hts in_X5 hown hK hP 0 rfl rfl 8 (by decide) (hts _ q1670) (fun _ h => h) h8 dX5_isBusiness_23 ?_
          refine lv_bipush (v := 6) hx hb dX5_isBusiness_26 rfl ?_
          refine lv_iload_n hx hb dX5_isBusiness_28 rfl (lv_at hl 2 rfl) ?_
          refine lv_iadd hx hb dX5_isBusiness_29 ?_
          refine w_topi (y := nI (6 + j)) (nI_add 6 j) ?_
          refine w_iald hx hb hK hP 1 rfl (6 + j) rfl (by omega) (Nat.le_of_ble_eq_true rfl) dX5_isBusiness_30 ?_
          refine lv_iload_n hx hb dX5_isBusiness_31 rfl (lv_at hl 1 rfl) ?_
          refine lv_icmp_ne (tgt := 37) hx hb dX5_isBusiness_32 (by decide) (fun c_32 => ?_) (fun c_32 => ?_)
          · refine lv_iinc (v := nI (j + 1)) (lv' := [(2, .int (nI (j + 1))), (0, .ref o), (1, .int (nI x))]) hx hb dX5_isBusiness_37 hl (k := 2) rfl (nI_1 j) (by decide) rfl (fun ls hl => ?_)
            refine lv_goto (tgt := 12) hx hb dX5_isBusiness_40 (by decide) ?_
            exact ih_12 (j + 1) (by omega) (by omega) (lt_s hq c_32) ls (lv_sub hl [1, 2, 0] rfl)
          · refine lv_iconst (v := 0) hx hb dX5_isBusiness_35 rfl ?_
            exact r_zret C (bI_f (fun h => h.2 j (by omega) c_32)) dX5_isBusiness_36
    exact loop_12 (dN d 2 + 1) 0 (Nat.zero_le _) (by omega) lt_0 ls (lv_sub hl [1, 2, 0] rfl)
  · have g_5 := nI_nle' (b := 4) c_5 (by omega) (by decide)
    refine lv_iconst (v := 0) hx hb dX5_isBusiness_8 rfl ?_
    exact r_zret C (bI_f (fun h => absurd h.1 (by omega))) dX5_isBusiness_9
set_option maxHeartbeats 4000000 in
theorem m_extend (l : Launch) (D : va_G) (k : Nat → ClassId) (o a8 : Nat) (fs : List Value) (d : Nat → Int32) (h8 : fs[8]? = some (.ref a8)) (hd : okD d) (x : Nat) (hx0 : x < 2 ^ 29) : rM l D k yX5_extend cX5_extend 3 (some .int) 1 22 [.ref o, .int (nI x)] (va_P D clA [(o, .inr (0, fs)), (a8, .inl (k 0, 1798, .inl d))]) (some (.int (nI (ext d x)))) := by
  refine rM_of (by decide) (Nat.le_of_ble_eq_true rfl) ?_
  intro p e s m below meth c ls C hK hP hl
  obtain ⟨hx, hb, hr, hml, hown, hts, hlk⟩ := id C
  have hl : lv_has ls 3 [(0, .ref o), (1, .int (nI x))] := hl
  obtain ⟨e1, e2, e3, e4⟩ := ext_spec hd (n := x) (by omega)
  refine lv_iload_n hx hb dX5_extend_0 rfl (lv_at hl 1 rfl) ?_
  refine lv_istore_n (lv' := [(2, .int (nI x)), (0, .ref o), (1, .int (nI x))]) hx hb dX5_extend_1 rfl hl (by decide) rfl (fun ls hl => ?_)
  have loop_2 : ∀ (n : Nat) (j : Nat), (x ≤ j) → (j ≤ ext d x) → (ext d x + 1 ≤ j + n) → ∀ (ls : Array Slot), lv_has ls 3 [(0, .ref o), (1, .int (nI x)), (2, .int (nI j))] → W p l e (Rm 1 22 0 0) s m ([.ref o, .int (nI x)] : List Value).toArray below meth c s.heap [] 0 0 (MQ below (rQ (some (.int (nI (ext d x))))) ([.ref o, .int (nI x)] : List Value).toArray s 0 0 (fun _ => False)) (F0 m 2 ls []) := by
    intro n
    induction n with
    | zero =>
      intro j hj hj2 hn
      exact absurd hn (by omega)
    | succ n ih_2 =>
      intro j hj hj2 hn ls hl
      refine lv_aload_n hx hb dX5_extend_2 rfl (lv_at hl 0 rfl) ?_
      refine lv_iload_n hx hb dX5_extend_3 rfl (lv_at hl 2 rfl) ?_
      refine r_callV (As := [.int (nI j)]) (rest := []) C (m_isBusiness l D k o a8 fs d h8 hd j (by omega)) (cwV 1 hts (lw_V q1849 q1851 qs49 q76 q1852) rfl rfl rfl (by decide +kernel) ⟨Nat.le_of_ble_eq_true rfl, Nat.le_of_ble_eq_true rfl⟩) hK (va_recv hK hP (ci := 0) (q0 := 0) rfl rfl) hP rfl hl.1 rfl (Nat.le_of_ble_eq_true rfl) dX5_extend_4 ⟨Nat.le_of_ble_eq_true rfl, Nat.le_of_ble_eq_true rfl⟩ ?_
      refine lv_if_ne (tgt := 16) hx hb dX5_extend_7 (by decide) (fun c_7 => ?_) (fun c_7 => ?_)
      · have b_7 := bI_nz c_7
        refine lv_iload_n hx hb dX5_extend_16 rfl (lv_at hl 2 rfl) ?_
        exact r_iret C (by rw [show j = ext d x by rcases Nat.lt_or_ge j (ext d x) with q | q; exact absurd b_7 (e3 j hj q); omega]) dX5_extend_17
      · have b_7 := bI_0.mp c_7
        refine lv_iinc (v := nI (j + 1)) (lv' := [(2, .int (nI (j + 1))), (0, .ref o), (1, .int (nI x))]) hx hb dX5_extend_10 hl (k := 2) rfl (nI_1 j) (by decide) rfl (fun ls hl => ?_)
        refine lv_goto (tgt := 2) hx hb dX5_extend_13 (by decide) ?_
        exact ih_2 (j + 1) (by omega) (by rcases Nat.lt_or_ge j (ext d x) with q | q; exact q; exact absurd (by rw [show j = ext d x by omega]; exact e2 : isBus d j) b_7) (by omega) ls (lv_sub hl [1, 2, 0] rfl)
  exact loop_2 (ext d x + 1) x (Nat.le_refl _) e1 (by omega) ls (lv_sub hl [1, 2, 0] rfl)
set_option maxHeartbeats 4000000 in
theorem m_add (l : Launch) (D : va_G) (k : Nat → ClassId) (o a8 : Nat) (fs : List Value) (d : Nat → Int32) (h8 : fs[8]? = some (.ref a8)) (hd : okD d) (x q : Nat) (hx0 : x < 2 ^ 20) (hq0 : q ≤ 1000) : rM l D k yX5_add cX5_add 5 (some .int) 2 44 [.ref o, .int (nI x), .int (nI q)] (va_P D clA [(o, .inr (0, fs)), (a8, .inl (k 0, 1798, .inl d))]) (some (.int (nI (addB d x q)))) := by
  refine rM_of (by decide) (Nat.le_of_ble_eq_true rfl) ?_
  intro p e s m below meth c ls C hK hP hl
  obtain ⟨hx, hb, hr, hml, hown, hts, hlk⟩ := id C
  have hl : lv_has ls 5 [(0, .ref o), (1, .int (nI x)), (2, .int (nI q))] := hl
  refine lv_iload_n hx hb dX5_add_0 rfl (lv_at hl 1 rfl) ?_
  refine lv_istore_n (lv' := [(3, .int (nI x)), (0, .ref o), (1, .int (nI x)), (2, .int (nI q))]) hx hb dX5_add_1 rfl hl (by decide) rfl (fun ls hl => ?_)
  refine lv_iload_n hx hb dX5_add_2 rfl (lv_at hl 3 rfl) ?_
  refine lv_istore (lv' := [(4, .int (nI q)), (3, .int (nI x)), (0, .ref o), (1, .int (nI x)), (2, .int (nI q))]) hx hb dX5_add_3 hl (by decide) rfl (fun ls hl => ?_)
  have loop_5 : ∀ (n : Nat) (j : Nat), (j ≤ q) → (q + 1 ≤ j + n) → ∀ (ls : Array Slot), lv_has ls 5 [(0, .ref o), (1, .int (nI x)), (2, .int (nI q)), (3, .int (nI (addB d x j))), (4, .int (nI (q - j)))] → W p l e (Rm 2 44 0 0) s m ([.ref o, .int (nI x), .int (nI q)] : List Value).toArray below meth c s.heap [] 0 0 (MQ below (rQ (some (.int (nI (addB d x q))))) ([.ref o, .int (nI x), .int (nI q)] : List Value).toArray s 0 0 (fun _ => False)) (F0 m 5 ls []) := by
    intro n
    induction n with
    | zero =>
      intro j hj hn
      exact absurd hn (by omega)
    | succ n ih_5 =>
      intro j hj hn ls hl
      have hb1 := addB_le hd hx0 j (by omega)
      refine lv_iload hx hb dX5_add_5 (lv_at hl 4 rfl) ?_
      refine lv_if_le (tgt := 24) hx hb dX5_add_7 (by decide) (fun c_7 => ?_) (fun c_7 => ?_)
      · have g_7 := nI_le' (b := 0) c_7 (by omega) (by decide)
        refine lv_iload_n hx hb dX5_add_24 rfl (lv_at hl 3 rfl) ?_
        exact r_iret C (by rw [show j = q by omega]) dX5_add_25
      · have g_7 := nI_nle' (b := 0) c_7 (by omega) (by decide)
        refine lv_aload_n hx hb dX5_add_10 rfl (lv_at hl 0 rfl) ?_
        refine lv_iload_n hx hb dX5_add_11 rfl (lv_at hl 3 rfl) ?_
        refine lv_iconst (v := 1) hx hb dX5_add_12 rfl ?_
        refine lv_iadd hx hb dX5_add_13 ?_
        refine w_topi (y := nI (addB d x j + 1)) (nI_1 _) ?_
        refine r_callV (As := [.int (nI (addB d x j + 1))]) (rest := []) C (m_extend l D k o a8 fs d h8 hd (addB d x j + 1) (by omega)) (cwV 1 hts (lw_V q1857 q1859 qs50 q76 q1860) rfl rfl rfl (by decide +kernel) ⟨Nat.le_of_ble_eq_true rfl, Nat.le_of_ble_eq_true rfl⟩) hK (va_recv hK hP (ci := 0) (q0 := 0) rfl rfl) hP rfl hl.1 rfl (Nat.le_of_ble_eq_true rfl) dX5_add_14 ⟨Nat.le_of_ble_eq_true rfl, Nat.le_of_ble_eq_true rfl⟩ ?_
        refine lv_istore_n (lv' := [(3, .int (nI (ext d (addB d x j + 1)))), (0, .ref o), (1, .int (nI x)), (2, .int (nI q)), (4, .int (nI (q - j)))]) hx hb dX5_add_17 rfl hl (by decide) rfl (fun ls hl => ?_)
        refine lv_iinc (v := nI (q - (j + 1))) (lv' := [(4, .int (nI (q - (j + 1)))), (3, .int (nI (ext d (addB d x j + 1)))), (0, .ref o), (1, .int (nI x)), (2, .int (nI q))]) hx hb dX5_add_18 hl (k := 4) rfl (by rw [show q - j = q - (j + 1) + 1 by omega]; exact pk_m1 _) (by decide) rfl (fun ls hl => ?_)
        refine lv_goto (tgt := 5) hx hb dX5_add_21 (by decide) ?_
        exact ih_5 (j + 1) (by omega) (by omega) ls (lv_sub hl [2, 3, 4, 1, 0] rfl)
  exact loop_5 (q + 1) 0 (Nat.zero_le _) (by omega) ls (lv_sub hl [2, 3, 4, 1, 0] rfl)
theorem m_creditN (l : Launch) (D : va_G) (k : Nat → ClassId) (c : Nat) : rM l D k yX5_credit cX5_credit 1 (some .int) 0 0 [.int (nI c)] (fun _ => True) (some (.int (nI (22 + 11 * c)))) := by
  have h := m_credit l D k (nI c)
  rwa [n22] at h
theorem m_presentationN (l : Launch) (D : va_G) (k : Nat → ClassId) (c : Nat) : rM l D k yX5_presentation cX5_presentation 1 (some .int) 0 0 [.int (nI c)] (fun _ => True) (some (.int (nI (154 + 6 * c)))) := by
  have h := m_presentation l D k (nI c)
  rwa [n154] at h
set_option maxHeartbeats 4000000 in
theorem m_most (l : Launch) (D : va_G) (k : Nat → ClassId) (o a8 : Nat) (fs : List Value) (d : Nat → Int32) (h8 : fs[8]? = some (.ref a8)) (hd : okD d) (c0 : Nat) (hc : c0 < 12) : rM l D k yX5_most cX5_most 2 (some .int) 1 20 [.ref o, .int (nI c0)] (va_P D clA [(o, .inr (0, fs)), (a8, .inl (k 0, 1798, .inl d))]) (some (.int (most d c0))) := by
  refine rM_of (by decide) (Nat.le_of_ble_eq_true rfl) ?_
  intro p e s m below meth c ls C hK hP hl
  obtain ⟨hx, hb, hr, hml, hown, hts, hlk⟩ := id C
  have hl : lv_has ls 2 [(0, .ref o), (1, .int (nI c0))] := hl
  refine lv_aload_n hx hb dX5_most_0 rfl (lv_at hl 0 rfl) ?_
  refine va_get hx hb hts in_X5 hown hK hP 0 rfl rfl 8 (by decide) (hts _ q1670) (fun _ h => h) h8 dX5_most_1 ?_
  refine lv_iload_n hx hb dX5_most_4 rfl (lv_at hl 1 rfl) ?_
  refine r_callS (As := [.int (nI c0)]) (rest := [.ref a8]) C (m_creditN l D k c0) (va_cwS 1 hts (lw_S q1788 q1789 q76 q1790) rfl rfl rfl (by decide +kernel) ⟨Nat.le_of_ble_eq_true rfl, Nat.le_of_ble_eq_true rfl⟩) hK trivial rfl hl.1 rfl (Nat.le_of_ble_eq_true rfl) dX5_most_5 ⟨Nat.le_of_ble_eq_true rfl, Nat.le_of_ble_eq_true rfl⟩ ?_
  refine w_iald hx hb hK hP 1 rfl (22 + 11 * c0) rfl (by omega) (Nat.le_of_ble_eq_true rfl) dX5_most_8 ?_
  refine lv_aload_n hx hb dX5_most_9 rfl (lv_at hl 0 rfl) ?_
  refine va_get hx hb hts in_X5 hown hK hP 0 rfl rfl 8 (by decide) (hts _ q1670) (fun _ h => h) h8 dX5_most_10 ?_
  refine lv_iload_n hx hb dX5_most_13 rfl (lv_at hl 1 rfl) ?_
  refine r_callS (As := [.int (nI c0)]) (rest := [.ref a8, .int (d (22 + 11 * c0))]) C (m_creditN l D k c0) (va_cwS 1 hts (lw_S q1788 q1789 q76 q1790) rfl rfl rfl (by decide +kernel) ⟨Nat.le_of_ble_eq_true rfl, Nat.le_of_ble_eq_true rfl⟩) hK trivial rfl hl.1 rfl (Nat.le_of_ble_eq_true rfl) dX5_most_14 ⟨Nat.le_of_ble_eq_true rfl, Nat.le_of_ble_eq_true rfl⟩ ?_
  refine w_iald hx hb hK hP 1 rfl (22 + 11 * c0) rfl (by omega) (Nat.le_of_ble_eq_true rfl) dX5_most_17 ?_
  refine lv_aload_n hx hb dX5_most_18 rfl (lv_at hl 0 rfl) ?_
  refine va_get hx hb hts in_X5 hown hK hP 0 rfl rfl 8 (by decide) (hts _ q1670) (fun _ h => h) h8 dX5_most_19 ?_
  refine lv_iload_n hx hb dX5_most_22 rfl (lv_at hl 1 rfl) ?_
  refine r_callS (As := [.int (nI c0)]) (rest := [.ref a8, .int (d (22 + 11 * c0)), .int (d (22 + 11 * c0))]) C (m_creditN l D k c0) (va_cwS 1 hts (lw_S q1788 q1789 q76 q1790) rfl rfl rfl (by decide +kernel) ⟨Nat.le_of_ble_eq_true rfl, Nat.le_of_ble_eq_true rfl⟩) hK trivial rfl hl.1 rfl (Nat.le_of_ble_eq_true rfl) dX5_most_23 ⟨Nat.le_of_ble_eq_true rfl, Nat.le_of_ble_eq_true rfl⟩ ?_
  refine lv_iconst (v := 1) hx hb dX5_most_26 rfl ?_
  refine lv_iadd hx hb dX5_most_27 ?_
  refine w_topi (y := nI ((22 + 11 * c0) + 1)) (nI_add (22 + 11 * c0) 1) ?_
  refine w_iald hx hb hK hP 1 rfl ((22 + 11 * c0) + 1) rfl (by omega) (Nat.le_of_ble_eq_true rfl) dX5_most_28 ?_
  refine lv_imul hx hb dX5_most_29 ?_
  refine lv_bipush (v := 100) hx hb dX5_most_30 rfl ?_
  refine lv_idiv hx hb dX5_most_32 (by decide) ?_
  refine lv_iadd hx hb dX5_most_33 ?_
  exact r_iret C rfl dX5_most_34
set_option maxHeartbeats 4000000 in
theorem m_least (l : Launch) (D : va_G) (k : Nat → ClassId) (o a8 : Nat) (fs : List Value) (d : Nat → Int32) (h8 : fs[8]? = some (.ref a8)) (hd : okD d) (c0 : Nat) (hc : c0 < 12) : rM l D k yX5_least cX5_least 2 (some .int) 1 20 [.ref o, .int (nI c0)] (va_P D clA [(o, .inr (0, fs)), (a8, .inl (k 0, 1798, .inl d))]) (some (.int (least d c0))) := by
  refine rM_of (by decide) (Nat.le_of_ble_eq_true rfl) ?_
  intro p e s m below meth c ls C hK hP hl
  obtain ⟨hx, hb, hr, hml, hown, hts, hlk⟩ := id C
  have hl : lv_has ls 2 [(0, .ref o), (1, .int (nI c0))] := hl
  refine lv_aload_n hx hb dX5_least_0 rfl (lv_at hl 0 rfl) ?_
  refine va_get hx hb hts in_X5 hown hK hP 0 rfl rfl 8 (by decide) (hts _ q1670) (fun _ h => h) h8 dX5_least_1 ?_
  refine lv_iload_n hx hb dX5_least_4 rfl (lv_at hl 1 rfl) ?_
  refine r_callS (As := [.int (nI c0)]) (rest := [.ref a8]) C (m_creditN l D k c0) (va_cwS 1 hts (lw_S q1788 q1789 q76 q1790) rfl rfl rfl (by decide +kernel) ⟨Nat.le_of_ble_eq_true rfl, Nat.le_of_ble_eq_true rfl⟩) hK trivial rfl hl.1 rfl (Nat.le_of_ble_eq_true rfl) dX5_least_5 ⟨Nat.le_of_ble_eq_true rfl, Nat.le_of_ble_eq_true rfl⟩ ?_
  refine w_iald hx hb hK hP 1 rfl (22 + 11 * c0) rfl (by omega) (Nat.le_of_ble_eq_true rfl) dX5_least_8 ?_
  refine lv_aload_n hx hb dX5_least_9 rfl (lv_at hl 0 rfl) ?_
  refine va_get hx hb hts in_X5 hown hK hP 0 rfl rfl 8 (by decide) (hts _ q1670) (fun _ h => h) h8 dX5_least_10 ?_
  refine lv_iload_n hx hb dX5_least_13 rfl (lv_at hl 1 rfl) ?_
  refine r_callS (As := [.int (nI c0)]) (rest := [.ref a8, .int (d (22 + 11 * c0))]) C (m_creditN l D k c0) (va_cwS 1 hts (lw_S q1788 q1789 q76 q1790) rfl rfl rfl (by decide +kernel) ⟨Nat.le_of_ble_eq_true rfl, Nat.le_of_ble_eq_true rfl⟩) hK trivial rfl hl.1 rfl (Nat.le_of_ble_eq_true rfl) dX5_least_14 ⟨Nat.le_of_ble_eq_true rfl, Nat.le_of_ble_eq_true rfl⟩ ?_
  refine w_iald hx hb hK hP 1 rfl (22 + 11 * c0) rfl (by omega) (Nat.le_of_ble_eq_true rfl) dX5_least_17 ?_
  refine lv_aload_n hx hb dX5_least_18 rfl (lv_at hl 0 rfl) ?_
  refine va_get hx hb hts in_X5 hown hK hP 0 rfl rfl 8 (by decide) (hts _ q1670) (fun _ h => h) h8 dX5_least_19 ?_
  refine lv_iload_n hx hb dX5_least_22 rfl (lv_at hl 1 rfl) ?_
  refine r_callS (As := [.int (nI c0)]) (rest := [.ref a8, .int (d (22 + 11 * c0)), .int (d (22 + 11 * c0))]) C (m_creditN l D k c0) (va_cwS 1 hts (lw_S q1788 q1789 q76 q1790) rfl rfl rfl (by decide +kernel) ⟨Nat.le_of_ble_eq_true rfl, Nat.le_of_ble_eq_true rfl⟩) hK trivial rfl hl.1 rfl (Nat.le_of_ble_eq_true rfl) dX5_least_23 ⟨Nat.le_of_ble_eq_true rfl, Nat.le_of_ble_eq_true rfl⟩ ?_
  refine lv_iconst (v := 2) hx hb dX5_least_26 rfl ?_
  refine lv_iadd hx hb dX5_least_27 ?_
  refine w_topi (y := nI ((22 + 11 * c0) + 2)) (nI_add (22 + 11 * c0) 2) ?_
  refine w_iald hx hb hK hP 1 rfl ((22 + 11 * c0) + 2) rfl (by omega) (Nat.le_of_ble_eq_true rfl) dX5_least_28 ?_
  refine lv_imul hx hb dX5_least_29 ?_
  refine lv_bipush (v := 100) hx hb dX5_least_30 rfl ?_
  refine lv_idiv hx hb dX5_least_32 (by decide) ?_
  refine lv_isub hx hb dX5_least_33 ?_
  exact r_iret C rfl dX5_least_34
set_option maxHeartbeats 4000000 in
theorem m_stands (l : Launch) (D : va_G) (k : Nat → ClassId) (o a8 : Nat) (fs : List Value) (d : Nat → Int32) (h8 : fs[8]? = some (.ref a8)) (hd : okD d) (q : Nat) (c0 : Int32) (hq : q < 24) : rM l D k yX5_stands cX5_stands 3 (some .boolean) 1 20 [.ref o, .int (nI q), .int c0] (va_P D clA [(o, .inr (0, fs)), (a8, .inl (k 0, 1798, .inl d))]) (some (.int (bI (stands d q c0)))) := by
  refine rM_of (by decide) (Nat.le_of_ble_eq_true rfl) ?_
  intro p e s m below meth c ls C hK hP hl
  obtain ⟨hx, hb, hr, hml, hown, hts, hlk⟩ := id C
  have hl : lv_has ls 3 [(0, .ref o), (1, .int (nI q)), (2, .int c0)] := hl
  refine lv_aload_n hx hb dX5_stands_0 rfl (lv_at hl 0 rfl) ?_
  refine va_get hx hb hts in_X5 hown hK hP 0 rfl rfl 8 (by decide) (hts _ q1670) (fun _ h => h) h8 dX5_stands_1 ?_
  refine lv_iload_n hx hb dX5_stands_4 rfl (lv_at hl 1 rfl) ?_
  refine r_callS (As := [.int (nI q)]) (rest := [.ref a8]) C (m_presentationN l D k q) (va_cwS 1 hts (lw_S q1917 q1918 q76 q1919) rfl rfl rfl (by decide +kernel) ⟨Nat.le_of_ble_eq_true rfl, Nat.le_of_ble_eq_true rfl⟩) hK trivial rfl hl.1 rfl (Nat.le_of_ble_eq_true rfl) dX5_stands_5 ⟨Nat.le_of_ble_eq_true rfl, Nat.le_of_ble_eq_true rfl⟩ ?_
  refine w_iald hx hb hK hP 1 rfl (154 + 6 * q) rfl (by omega) (Nat.le_of_ble_eq_true rfl) dX5_stands_8 ?_
  refine lv_iload_n hx hb dX5_stands_9 rfl (lv_at hl 2 rfl) ?_
  refine lv_icmp_ne (tgt := 32) hx hb dX5_stands_10 (by decide) (fun c_10 => ?_) (fun c_10 => ?_)
  · refine lv_iconst (v := 0) hx hb dX5_stands_32 rfl ?_
    exact r_zret C (by first | exact bI_t ⟨c_10, c_25⟩ | exact bI_f (fun h => c_10 h.1) | exact bI_f (fun h => h.2 c_25)) dX5_stands_33
  · refine lv_aload_n hx hb dX5_stands_13 rfl (lv_at hl 0 rfl) ?_
    refine va_get hx hb hts in_X5 hown hK hP 0 rfl rfl 8 (by decide) (hts _ q1670) (fun _ h => h) h8 dX5_stands_14 ?_
    refine lv_iload_n hx hb dX5_stands_17 rfl (lv_at hl 1 rfl) ?_
    refine r_callS (As := [.int (nI q)]) (rest := [.ref a8]) C (m_presentationN l D k q) (va_cwS 1 hts (lw_S q1917 q1918 q76 q1919) rfl rfl rfl (by decide +kernel) ⟨Nat.le_of_ble_eq_true rfl, Nat.le_of_ble_eq_true rfl⟩) hK trivial rfl hl.1 rfl (Nat.le_of_ble_eq_true rfl) dX5_stands_18 ⟨Nat.le_of_ble_eq_true rfl, Nat.le_of_ble_eq_true rfl⟩ ?_
    refine lv_iconst (v := 4) hx hb dX5_stands_21 rfl ?_
    refine lv_iadd hx hb dX5_stands_22 ?_
    refine w_topi (y := nI ((154 + 6 * q) + 4)) (nI_add (154 + 6 * q) 4) ?_
    refine w_iald hx hb hK hP 1 rfl ((154 + 6 * q) + 4) rfl (by omega) (Nat.le_of_ble_eq_true rfl) dX5_stands_23 ?_
    refine lv_iconst (v := 3) hx hb dX5_stands_24 rfl ?_
    refine lv_icmp_eq (tgt := 32) hx hb dX5_stands_25 (by decide) (fun c_25 => ?_) (fun c_25 => ?_)
    · refine lv_iconst (v := 0) hx hb dX5_stands_32 rfl ?_
      exact r_zret C (by first | exact bI_t ⟨c_10, c_25⟩ | exact bI_f (fun h => c_10 h.1) | exact bI_f (fun h => h.2 c_25)) dX5_stands_33
    · refine lv_iconst (v := 1) hx hb dX5_stands_28 rfl ?_
      refine lv_goto (tgt := 33) hx hb dX5_stands_29 (by decide) ?_
      exact r_zret C (by first | exact bI_t ⟨c_10, c_25⟩ | exact bI_f (fun h => c_10 h.1) | exact bI_f (fun h => h.2 c_25)) dX5_stands_33
set_option maxHeartbeats 4000000 in
theorem m_drawnOf (l : Launch) (D : va_G) (k : Nat → ClassId) (o a8 : Nat) (fs : List Value) (d : Nat → Int32) (h8 : fs[8]? = some (.ref a8)) (hd : okD d) (c0 : Int32) : rM l D k yX5_drawnOf cX5_drawnOf 4 (some .int) 2 42 [.ref o, .int c0] (va_P D clA [(o, .inr (0, fs)), (a8, .inl (k 0, 1798, .inl d))]) (some (.int (drawn d c0))) := by
  refine rM_of (by decide) (Nat.le_of_ble_eq_true rfl) ?_
  intro p e s m below meth c ls C hK hP hl
  obtain ⟨hx, hb, hr, hml, hown, hts, hlk⟩ := id C
  have hl : lv_has ls 4 [(0, .ref o), (1, .int c0)] := hl
  obtain ⟨⟨⟨e0, n0⟩, ⟨e1, n1⟩, ⟨e2, n2⟩, ⟨e3, n3⟩, ⟨e5, n5⟩⟩, hhol, hcr, hpr⟩ := id hd
  refine lv_iconst (v := 0) hx hb dX5_drawnOf_0 rfl ?_
  refine lv_istore_n (lv' := [(2, .int 0), (0, .ref o), (1, .int c0)]) hx hb dX5_drawnOf_1 rfl hl (by decide) rfl (fun ls hl => ?_)
  refine lv_iconst (v := 0) hx hb dX5_drawnOf_2 rfl ?_
  refine lv_istore_n (lv' := [(3, .int 0), (2, .int 0), (0, .ref o), (1, .int c0)]) hx hb dX5_drawnOf_3 rfl hl (by decide) rfl (fun ls hl => ?_)
  have loop_4 : ∀ (n : Nat) (j : Nat), (j ≤ dN d 1) → (dN d 1 + 1 ≤ j + n) → ∀ (ls : Array Slot), lv_has ls 4 [(0, .ref o), (1, .int c0), (2, .int (sumI (fun q => pick (stands d q c0 ∧ pf d q 3 &&& 4 = 0) (pf d q 2)) j)), (3, .int (nI j))] → W p l e (Rm 2 42 0 0) s m ([.ref o, .int c0] : List Value).toArray below meth c s.heap [] 0 0 (MQ below (rQ (some (.int (drawn d c0)))) ([.ref o, .int c0] : List Value).toArray s 0 0 (fun _ => False)) (F0 m 4 ls []) := by
    intro n
    induction n with
    | zero =>
      intro j hj hn
      exact absurd hn (by omega)
    | succ n ih_4 =>
      intro j hj hn ls hl
      refine lv_iload_n hx hb dX5_drawnOf_4 rfl (lv_at hl 3 rfl) ?_
      refine lv_aload_n hx hb dX5_drawnOf_5 rfl (lv_at hl 0 rfl) ?_
      refine va_get hx hb hts in_X5 hown hK hP 0 rfl rfl 8 (by decide) (hts _ q1670) (fun _ h => h) h8 dX5_drawnOf_6 ?_
      refine lv_iconst (v := 1) hx hb dX5_drawnOf_9 rfl ?_
      refine w_iald hx hb hK hP 1 rfl 1 rfl (Nat.le_of_ble_eq_true rfl) (Nat.le_of_ble_eq_true rfl) dX5_drawnOf_10 ?_
      refine w_topi (y := nI (dN d 1)) e1 ?_
      refine lv_icmp_ge (tgt := 63) hx hb dX5_drawnOf_11 (by decide) (fun c_11 => ?_) (fun c_11 => ?_)
      · have g_11 := nI_le' c_11 (by omega) (by omega)
        refine lv_iload_n hx hb dX5_drawnOf_63 rfl (lv_at hl 2 rfl) ?_
        exact r_iret C (by rw [show j = dN d 1 by omega]; rfl) dX5_drawnOf_64
      · have g_11 := nI_nle' c_11 (by omega) (by omega)
        refine lv_iload_n hx hb dX5_drawnOf_14 rfl (lv_at hl 2 rfl) ?_
        refine lv_aload_n hx hb dX5_drawnOf_15 rfl (lv_at hl 0 rfl) ?_
        refine lv_iload_n hx hb dX5_drawnOf_16 rfl (lv_at hl 3 rfl) ?_
        refine lv_iload_n hx hb dX5_drawnOf_17 rfl (lv_at hl 1 rfl) ?_
        refine r_callV (As := [.int (nI j), .int c0]) (rest := [.int (sumI (fun q => pick (stands d q c0 ∧ pf d q 3 &&& 4 = 0) (pf d q 2)) j)]) C (m_stands l D k o a8 fs d h8 hd j c0 (by omega)) (cwV 2 hts (lw_V q1913 q1915 qs56 q76 q1916) rfl rfl rfl (by decide +kernel) ⟨Nat.le_of_ble_eq_true rfl, Nat.le_of_ble_eq_true rfl⟩) hK (va_recv hK hP (ci := 0) (q0 := 0) rfl rfl) hP rfl hl.1 rfl (Nat.le_of_ble_eq_true rfl) dX5_drawnOf_18 ⟨Nat.le_of_ble_eq_true rfl, Nat.le_of_ble_eq_true rfl⟩ ?_
        have J_55 : ∀ (z : Int32), (z = pick (stands d j c0 ∧ pf d j 3 &&& 4 = 0) (pf d j 2)) → ∀ (ls : Array Slot), lv_has ls 4 [(0, .ref o), (1, .int c0), (2, .int (sumI (fun q => pick (stands d q c0 ∧ pf d q 3 &&& 4 = 0) (pf d q 2)) j)), (3, .int (nI j))] → W p l e (Rm 2 42 0 0) s m ([.ref o, .int c0] : List Value).toArray below meth c s.heap [] 0 0 (MQ below (rQ (some (.int (drawn d c0)))) ([.ref o, .int c0] : List Value).toArray s 0 0 (fun _ => False)) (F0 m 55 ls [.int z, .int (sumI (fun q => pick (stands d q c0 ∧ pf d q 3 &&& 4 = 0) (pf d q 2)) j)]) := by
          intro z h_z ls hl
          refine lv_iadd hx hb dX5_drawnOf_55 ?_
          refine w_topi (y := sumI (fun q => pick (stands d q c0 ∧ pf d q 3 &&& 4 = 0) (pf d q 2)) (j + 1)) (by rw [h_z]; rfl) ?_
          refine lv_istore_n (lv' := [(2, .int (sumI (fun q => pick (stands d q c0 ∧ pf d q 3 &&& 4 = 0) (pf d q 2)) (j + 1))), (0, .ref o), (1, .int c0), (3, .int (nI j))]) hx hb dX5_drawnOf_56 rfl hl (by decide) rfl (fun ls hl => ?_)
          refine lv_iinc (v := nI (j + 1)) (lv' := [(3, .int (nI (j + 1))), (2, .int (sumI (fun q => pick (stands d q c0 ∧ pf d q 3 &&& 4 = 0) (pf d q 2)) (j + 1))), (0, .ref o), (1, .int c0)]) hx hb dX5_drawnOf_57 hl (k := 3) rfl (nI_1 j) (by decide) rfl (fun ls hl => ?_)
          refine lv_goto (tgt := 4) hx hb dX5_drawnOf_60 (by decide) ?_
          exact ih_4 (j + 1) (by omega) (by omega) ls (lv_sub hl [2, 3, 1, 0] rfl)
        refine lv_if_eq (tgt := 54) hx hb dX5_drawnOf_21 (by decide) (fun c_21 => ?_) (fun c_21 => ?_)
        · have b_21 := bI_0.mp c_21
          refine lv_iconst (v := 0) hx hb dX5_drawnOf_54 rfl ?_
          exact J_55 0 (by first | exact (pick_t ⟨b_21, c_37⟩).symm | exact (pick_f (fun h => b_21 h.1)).symm | exact (pick_f (fun h => c_37 h.2)).symm) ls hl
        · have b_21 := bI_nz c_21
          refine lv_aload_n hx hb dX5_drawnOf_24 rfl (lv_at hl 0 rfl) ?_
          refine va_get hx hb hts in_X5 hown hK hP 0 rfl rfl 8 (by decide) (hts _ q1670) (fun _ h => h) h8 dX5_drawnOf_25 ?_
          refine lv_iload_n hx hb dX5_drawnOf_28 rfl (lv_at hl 3 rfl) ?_
          refine r_callS (As := [.int (nI j)]) (rest := [.ref a8, .int (sumI (fun q => pick (stands d q c0 ∧ pf d q 3 &&& 4 = 0) (pf d q 2)) j)]) C (m_presentationN l D k j) (va_cwS 1 hts (lw_S q1917 q1918 q76 q1919) rfl rfl rfl (by decide +kernel) ⟨Nat.le_of_ble_eq_true rfl, Nat.le_of_ble_eq_true rfl⟩) hK trivial rfl hl.1 rfl (Nat.le_of_ble_eq_true rfl) dX5_drawnOf_29 ⟨Nat.le_of_ble_eq_true rfl, Nat.le_of_ble_eq_true rfl⟩ ?_
          refine lv_iconst (v := 3) hx hb dX5_drawnOf_32 rfl ?_
          refine lv_iadd hx hb dX5_drawnOf_33 ?_
          refine w_topi (y := nI ((154 + 6 * j) + 3)) (nI_add (154 + 6 * j) 3) ?_
          refine w_iald hx hb hK hP 1 rfl ((154 + 6 * j) + 3) rfl (by omega) (Nat.le_of_ble_eq_true rfl) dX5_drawnOf_34 ?_
          refine lv_iconst (v := 4) hx hb dX5_drawnOf_35 rfl ?_
          refine lv_iand hx hb dX5_drawnOf_36 ?_
          refine lv_if_ne (tgt := 54) hx hb dX5_drawnOf_37 (by decide) (fun c_37 => ?_) (fun c_37 => ?_)
          · refine lv_iconst (v := 0) hx hb dX5_drawnOf_54 rfl ?_
            exact J_55 0 (by first | exact (pick_t ⟨b_21, c_37⟩).symm | exact (pick_f (fun h => b_21 h.1)).symm | exact (pick_f (fun h => c_37 h.2)).symm) ls hl
          · refine lv_aload_n hx hb dX5_drawnOf_40 rfl (lv_at hl 0 rfl) ?_
            refine va_get hx hb hts in_X5 hown hK hP 0 rfl rfl 8 (by decide) (hts _ q1670) (fun _ h => h) h8 dX5_drawnOf_41 ?_
            refine lv_iload_n hx hb dX5_drawnOf_44 rfl (lv_at hl 3 rfl) ?_
            refine r_callS (As := [.int (nI j)]) (rest := [.ref a8, .int (sumI (fun q => pick (stands d q c0 ∧ pf d q 3 &&& 4 = 0) (pf d q 2)) j)]) C (m_presentationN l D k j) (va_cwS 1 hts (lw_S q1917 q1918 q76 q1919) rfl rfl rfl (by decide +kernel) ⟨Nat.le_of_ble_eq_true rfl, Nat.le_of_ble_eq_true rfl⟩) hK trivial rfl hl.1 rfl (Nat.le_of_ble_eq_true rfl) dX5_drawnOf_45 ⟨Nat.le_of_ble_eq_true rfl, Nat.le_of_ble_eq_true rfl⟩ ?_
            refine lv_iconst (v := 2) hx hb dX5_drawnOf_48 rfl ?_
            refine lv_iadd hx hb dX5_drawnOf_49 ?_
            refine w_topi (y := nI ((154 + 6 * j) + 2)) (nI_add (154 + 6 * j) 2) ?_
            refine w_iald hx hb hK hP 1 rfl ((154 + 6 * j) + 2) rfl (by omega) (Nat.le_of_ble_eq_true rfl) dX5_drawnOf_50 ?_
            refine lv_goto (tgt := 55) hx hb dX5_drawnOf_51 (by decide) ?_
            exact J_55 (d ((154 + 6 * j) + 2)) (by first | exact (pick_t ⟨b_21, c_37⟩).symm | exact (pick_f (fun h => b_21 h.1)).symm | exact (pick_f (fun h => c_37 h.2)).symm) ls hl
  exact loop_4 (dN d 1 + 1) 0 (Nat.zero_le _) (by omega) ls (lv_sub hl [2, 3, 1, 0] rfl)
set_option maxHeartbeats 4000000 in
theorem m_transferredOf (l : Launch) (D : va_G) (k : Nat → ClassId) (o a8 : Nat) (fs : List Value) (d : Nat → Int32) (h8 : fs[8]? = some (.ref a8)) (hd : okD d) (c0 : Int32) : rM l D k yX5_transferredOf cX5_transferredOf 4 (some .int) 1 20 [.ref o, .int c0] (va_P D clA [(o, .inr (0, fs)), (a8, .inl (k 0, 1798, .inl d))]) (some (.int (transf d c0))) := by
  refine rM_of (by decide) (Nat.le_of_ble_eq_true rfl) ?_
  intro p e s m below meth c ls C hK hP hl
  obtain ⟨hx, hb, hr, hml, hown, hts, hlk⟩ := id C
  have hl : lv_has ls 4 [(0, .ref o), (1, .int c0)] := hl
  obtain ⟨⟨⟨e0, n0⟩, ⟨e1, n1⟩, ⟨e2, n2⟩, ⟨e3, n3⟩, ⟨e5, n5⟩⟩, hhol, hcr, hpr⟩ := id hd
  refine lv_iconst (v := 0) hx hb dX5_transferredOf_0 rfl ?_
  refine lv_istore_n (lv' := [(2, .int 0), (0, .ref o), (1, .int c0)]) hx hb dX5_transferredOf_1 rfl hl (by decide) rfl (fun ls hl => ?_)
  refine lv_iconst (v := 0) hx hb dX5_transferredOf_2 rfl ?_
  refine lv_istore_n (lv' := [(3, .int 0), (2, .int 0), (0, .ref o), (1, .int c0)]) hx hb dX5_transferredOf_3 rfl hl (by decide) rfl (fun ls hl => ?_)
  have loop_4 : ∀ (n : Nat) (j : Nat), (j ≤ dN d 0) → (dN d 0 + 1 ≤ j + n) → ∀ (ls : Array Slot), lv_has ls 4 [(0, .ref o), (1, .int c0), (2, .int (sumI (fun o => pick (cf d o 10 = c0) (cf d o 0)) j)), (3, .int (nI j))] → W p l e (Rm 1 20 0 0) s m ([.ref o, .int c0] : List Value).toArray below meth c s.heap [] 0 0 (MQ below (rQ (some (.int (transf d c0)))) ([.ref o, .int c0] : List Value).toArray s 0 0 (fun _ => False)) (F0 m 4 ls []) := by
    intro n
    induction n with
    | zero =>
      intro j hj hn
      exact absurd hn (by omega)
    | succ n ih_4 =>
      intro j hj hn ls hl
      refine lv_iload_n hx hb dX5_transferredOf_4 rfl (lv_at hl 3 rfl) ?_
      refine lv_aload_n hx hb dX5_transferredOf_5 rfl (lv_at hl 0 rfl) ?_
      refine va_get hx hb hts in_X5 hown hK hP 0 rfl rfl 8 (by decide) (hts _ q1670) (fun _ h => h) h8 dX5_transferredOf_6 ?_
      refine lv_iconst (v := 0) hx hb dX5_transferredOf_9 rfl ?_
      refine w_iald hx hb hK hP 1 rfl 0 rfl (Nat.le_of_ble_eq_true rfl) (Nat.le_of_ble_eq_true rfl) dX5_transferredOf_10 ?_
      refine w_topi (y := nI (dN d 0)) e0 ?_
      refine lv_icmp_ge (tgt := 52) hx hb dX5_transferredOf_11 (by decide) (fun c_11 => ?_) (fun c_11 => ?_)
      · have g_11 := nI_le' c_11 (by omega) (by omega)
        refine lv_iload_n hx hb dX5_transferredOf_52 rfl (lv_at hl 2 rfl) ?_
        exact r_iret C (by rw [show j = dN d 0 by omega]; rfl) dX5_transferredOf_53
      · have g_11 := nI_nle' c_11 (by omega) (by omega)
        refine lv_iload_n hx hb dX5_transferredOf_14 rfl (lv_at hl 2 rfl) ?_
        refine lv_aload_n hx hb dX5_transferredOf_15 rfl (lv_at hl 0 rfl) ?_
        refine va_get hx hb hts in_X5 hown hK hP 0 rfl rfl 8 (by decide) (hts _ q1670) (fun _ h => h) h8 dX5_transferredOf_16 ?_
        refine lv_iload_n hx hb dX5_transferredOf_19 rfl (lv_at hl 3 rfl) ?_
        refine r_callS (As := [.int (nI j)]) (rest := [.ref a8, .int (sumI (fun o => pick (cf d o 10 = c0) (cf d o 0)) j)]) C (m_creditN l D k j) (va_cwS 1 hts (lw_S q1788 q1789 q76 q1790) rfl rfl rfl (by decide +kernel) ⟨Nat.le_of_ble_eq_true rfl, Nat.le_of_ble_eq_true rfl⟩) hK trivial rfl hl.1 rfl (Nat.le_of_ble_eq_true rfl) dX5_transferredOf_20 ⟨Nat.le_of_ble_eq_true rfl, Nat.le_of_ble_eq_true rfl⟩ ?_
        refine lv_bipush (v := 10) hx hb dX5_transferredOf_23 rfl ?_
        refine lv_iadd hx hb dX5_transferredOf_25 ?_
        refine w_topi (y := nI ((22 + 11 * j) + 10)) (nI_add (22 + 11 * j) 10) ?_
        refine w_iald hx hb hK hP 1 rfl ((22 + 11 * j) + 10) rfl (by omega) (Nat.le_of_ble_eq_true rfl) dX5_transferredOf_26 ?_
        refine lv_iload_n hx hb dX5_transferredOf_27 rfl (lv_at hl 1 rfl) ?_
        have J_44 : ∀ (z : Int32), (z = pick (cf d j 10 = c0) (cf d j 0)) → ∀ (ls : Array Slot), lv_has ls 4 [(0, .ref o), (1, .int c0), (2, .int (sumI (fun o => pick (cf d o 10 = c0) (cf d o 0)) j)), (3, .int (nI j))] → W p l e (Rm 1 20 0 0) s m ([.ref o, .int c0] : List Value).toArray below meth c s.heap [] 0 0 (MQ below (rQ (some (.int (transf d c0)))) ([.ref o, .int c0] : List Value).toArray s 0 0 (fun _ => False)) (F0 m 44 ls [.int z, .int (sumI (fun o => pick (cf d o 10 = c0) (cf d o 0)) j)]) := by
          intro z h_z ls hl
          refine lv_iadd hx hb dX5_transferredOf_44 ?_
          refine w_topi (y := sumI (fun o => pick (cf d o 10 = c0) (cf d o 0)) (j + 1)) (by rw [h_z]; rfl) ?_
          refine lv_istore_n (lv' := [(2, .int (sumI (fun o => pick (cf d o 10 = c0) (cf d o 0)) (j + 1))), (0, .ref o), (1, .int c0), (3, .int (nI j))]) hx hb dX5_transferredOf_45 rfl hl (by decide) rfl (fun ls hl => ?_)
          refine lv_iinc (v := nI (j + 1)) (lv' := [(3, .int (nI (j + 1))), (2, .int (sumI (fun o => pick (cf d o 10 = c0) (cf d o 0)) (j + 1))), (0, .ref o), (1, .int c0)]) hx hb dX5_transferredOf_46 hl (k := 3) rfl (nI_1 j) (by decide) rfl (fun ls hl => ?_)
          refine lv_goto (tgt := 4) hx hb dX5_transferredOf_49 (by decide) ?_
          exact ih_4 (j + 1) (by omega) (by omega) ls (lv_sub hl [2, 3, 1, 0] rfl)
        refine lv_icmp_ne (tgt := 43) hx hb dX5_transferredOf_28 (by decide) (fun c_28 => ?_) (fun c_28 => ?_)
        · refine lv_iconst (v := 0) hx hb dX5_transferredOf_43 rfl ?_
          exact J_44 0 (by first | exact (pick_t c_28).symm | exact (pick_f c_28).symm) ls hl
        · refine lv_aload_n hx hb dX5_transferredOf_31 rfl (lv_at hl 0 rfl) ?_
          refine va_get hx hb hts in_X5 hown hK hP 0 rfl rfl 8 (by decide) (hts _ q1670) (fun _ h => h) h8 dX5_transferredOf_32 ?_
          refine lv_iload_n hx hb dX5_transferredOf_35 rfl (lv_at hl 3 rfl) ?_
          refine r_callS (As := [.int (nI j)]) (rest := [.ref a8, .int (sumI (fun o => pick (cf d o 10 = c0) (cf d o 0)) j)]) C (m_creditN l D k j) (va_cwS 1 hts (lw_S q1788 q1789 q76 q1790) rfl rfl rfl (by decide +kernel) ⟨Nat.le_of_ble_eq_true rfl, Nat.le_of_ble_eq_true rfl⟩) hK trivial rfl hl.1 rfl (Nat.le_of_ble_eq_true rfl) dX5_transferredOf_36 ⟨Nat.le_of_ble_eq_true rfl, Nat.le_of_ble_eq_true rfl⟩ ?_
          refine w_iald hx hb hK hP 1 rfl (22 + 11 * j) rfl (by omega) (Nat.le_of_ble_eq_true rfl) dX5_transferredOf_39 ?_
          refine lv_goto (tgt := 44) hx hb dX5_transferredOf_40 (by decide) ?_
          exact J_44 (d (22 + 11 * j)) (by first | exact (pick_t c_28).symm | exact (pick_f c_28).symm) ls hl
  exact loop_4 (dN d 0 + 1) 0 (Nat.zero_le _) (by omega) ls (lv_sub hl [2, 3, 1, 0] rfl)
set_option maxHeartbeats 4000000 in
theorem m_availableOf (l : Launch) (D : va_G) (k : Nat → ClassId) (o a8 : Nat) (fs : List Value) (d : Nat → Int32) (h8 : fs[8]? = some (.ref a8)) (hd : okD d) (c0 : Nat) (hc : c0 < 12) : rM l D k yX5_availableOf cX5_availableOf 2 (some .int) 3 65 [.ref o, .int (nI c0)] (va_P D clA [(o, .inr (0, fs)), (a8, .inl (k 0, 1798, .inl d))]) (some (.int (avail d c0))) := by
  refine rM_of (by decide) (Nat.le_of_ble_eq_true rfl) ?_
  intro p e s m below meth c ls C hK hP hl
  obtain ⟨hx, hb, hr, hml, hown, hts, hlk⟩ := id C
  have hl : lv_has ls 2 [(0, .ref o), (1, .int (nI c0))] := hl
  refine lv_aload_n hx hb dX5_availableOf_0 rfl (lv_at hl 0 rfl) ?_
  refine lv_iload_n hx hb dX5_availableOf_1 rfl (lv_at hl 1 rfl) ?_
  refine r_callV (As := [.int (nI c0)]) (rest := []) C (m_most l D k o a8 fs d h8 hd c0 (by omega)) (cwV 1 hts (lw_V q1893 q1895 qs53 q76 q1896) rfl rfl rfl (by decide +kernel) ⟨Nat.le_of_ble_eq_true rfl, Nat.le_of_ble_eq_true rfl⟩) hK (va_recv hK hP (ci := 0) (q0 := 0) rfl rfl) hP rfl hl.1 rfl (Nat.le_of_ble_eq_true rfl) dX5_availableOf_2 ⟨Nat.le_of_ble_eq_true rfl, Nat.le_of_ble_eq_true rfl⟩ ?_
  refine lv_aload_n hx hb dX5_availableOf_5 rfl (lv_at hl 0 rfl) ?_
  refine lv_iload_n hx hb dX5_availableOf_6 rfl (lv_at hl 1 rfl) ?_
  refine r_callV (As := [.int (nI c0)]) (rest := [.int (most d c0)]) C (m_drawnOf l D k o a8 fs d h8 hd (nI c0)) (cwV 1 hts (lw_V q1909 q1911 qs55 q76 q1912) rfl rfl rfl (by decide +kernel) ⟨Nat.le_of_ble_eq_true rfl, Nat.le_of_ble_eq_true rfl⟩) hK (va_recv hK hP (ci := 0) (q0 := 0) rfl rfl) hP rfl hl.1 rfl (Nat.le_of_ble_eq_true rfl) dX5_availableOf_7 ⟨Nat.le_of_ble_eq_true rfl, Nat.le_of_ble_eq_true rfl⟩ ?_
  refine lv_isub hx hb dX5_availableOf_10 ?_
  refine lv_aload_n hx hb dX5_availableOf_11 rfl (lv_at hl 0 rfl) ?_
  refine lv_iload_n hx hb dX5_availableOf_12 rfl (lv_at hl 1 rfl) ?_
  refine r_callV (As := [.int (nI c0)]) (rest := [.int ((most d c0) - (drawn d (nI c0)))]) C (m_transferredOf l D k o a8 fs d h8 hd (nI c0)) (cwV 1 hts (lw_V q1924 q1926 qs57 q76 q1927) rfl rfl rfl (by decide +kernel) ⟨Nat.le_of_ble_eq_true rfl, Nat.le_of_ble_eq_true rfl⟩) hK (va_recv hK hP (ci := 0) (q0 := 0) rfl rfl) hP rfl hl.1 rfl (Nat.le_of_ble_eq_true rfl) dX5_availableOf_13 ⟨Nat.le_of_ble_eq_true rfl, Nat.le_of_ble_eq_true rfl⟩ ?_
  refine lv_isub hx hb dX5_availableOf_16 ?_
  exact r_iret C rfl dX5_availableOf_17
set_option maxHeartbeats 4000000 in
theorem m_lastDayOf (l : Launch) (D : va_G) (k : Nat → ClassId) (o a8 : Nat) (fs : List Value) (d : Nat → Int32) (h8 : fs[8]? = some (.ref a8)) (hd : okD d) (c0 x : Nat) (hc : c0 < dN d 0) (hx0 : x < 2 ^ 20) : rM l D k yX5_lastDayOf cX5_lastDayOf 3 (some .int) 2 44 [.ref o, .int (nI c0), .int (nI x)] (va_P D clA [(o, .inr (0, fs)), (a8, .inl (k 0, 1798, .inl d))]) (some (.int (lastD d c0 x))) := by
  refine rM_of (by decide) (Nat.le_of_ble_eq_true rfl) ?_
  intro p e s m below meth c ls C hK hP hl
  obtain ⟨hx, hb, hr, hml, hown, hts, hlk⟩ := id C
  have hl : lv_has ls 3 [(0, .ref o), (1, .int (nI c0)), (2, .int (nI x))] := hl
  obtain ⟨⟨⟨e0, n0⟩, ⟨e1, n1⟩, ⟨e2, n2⟩, ⟨e3, n3⟩, ⟨e5, n5⟩⟩, hhol, hcr, hpr⟩ := id hd
  obtain ⟨⟨a1, a2⟩, ⟨a3, a4⟩, -⟩ := hcr c0 hc
  refine lv_aload_n hx hb dX5_lastDayOf_0 rfl (lv_at hl 0 rfl) ?_
  refine lv_aload_n hx hb dX5_lastDayOf_1 rfl (lv_at hl 0 rfl) ?_
  refine va_get hx hb hts in_X5 hown hK hP 0 rfl rfl 8 (by decide) (hts _ q1670) (fun _ h => h) h8 dX5_lastDayOf_2 ?_
  refine lv_iload_n hx hb dX5_lastDayOf_5 rfl (lv_at hl 1 rfl) ?_
  refine r_callS (As := [.int (nI c0)]) (rest := [.ref a8, .ref o]) C (m_creditN l D k c0) (va_cwS 1 hts (lw_S q1788 q1789 q76 q1790) rfl rfl rfl (by decide +kernel) ⟨Nat.le_of_ble_eq_true rfl, Nat.le_of_ble_eq_true rfl⟩) hK trivial rfl hl.1 rfl (Nat.le_of_ble_eq_true rfl) dX5_lastDayOf_6 ⟨Nat.le_of_ble_eq_true rfl, Nat.le_of_ble_eq_true rfl⟩ ?_
  refine lv_iconst (v := 3) hx hb dX5_lastDayOf_9 rfl ?_
  refine lv_iadd hx hb dX5_lastDayOf_10 ?_
  refine w_topi (y := nI ((22 + 11 * c0) + 3)) (nI_add (22 + 11 * c0) 3) ?_
  refine w_iald hx hb hK hP 1 rfl ((22 + 11 * c0) + 3) rfl (by omega) (Nat.le_of_ble_eq_true rfl) dX5_lastDayOf_11 ?_
  refine w_topi (y := nI (dN d (22 + 11 * c0 + 3))) a1 ?_
  refine r_callV (As := [.int (nI (dN d (22 + 11 * c0 + 3)))]) (rest := []) C (m_extend l D k o a8 fs d h8 hd (dN d (22 + 11 * c0 + 3)) (by omega)) (cwV 1 hts (lw_V q1857 q1859 qs50 q76 q1860) rfl rfl rfl (by decide +kernel) ⟨Nat.le_of_ble_eq_true rfl, Nat.le_of_ble_eq_true rfl⟩) hK (va_recv hK hP (ci := 0) (q0 := 0) rfl rfl) hP rfl hl.1 rfl (Nat.le_of_ble_eq_true rfl) dX5_lastDayOf_12 ⟨Nat.le_of_ble_eq_true rfl, Nat.le_of_ble_eq_true rfl⟩ ?_
  refine lv_aload_n hx hb dX5_lastDayOf_15 rfl (lv_at hl 0 rfl) ?_
  refine lv_iload_n hx hb dX5_lastDayOf_16 rfl (lv_at hl 2 rfl) ?_
  refine lv_aload_n hx hb dX5_lastDayOf_17 rfl (lv_at hl 0 rfl) ?_
  refine va_get hx hb hts in_X5 hown hK hP 0 rfl rfl 8 (by decide) (hts _ q1670) (fun _ h => h) h8 dX5_lastDayOf_18 ?_
  refine lv_iload_n hx hb dX5_lastDayOf_21 rfl (lv_at hl 1 rfl) ?_
  refine r_callS (As := [.int (nI c0)]) (rest := [.ref a8, .int (nI x), .ref o, .int (nI (ext d (dN d (22 + 11 * c0 + 3))))]) C (m_creditN l D k c0) (va_cwS 1 hts (lw_S q1788 q1789 q76 q1790) rfl rfl rfl (by decide +kernel) ⟨Nat.le_of_ble_eq_true rfl, Nat.le_of_ble_eq_true rfl⟩) hK trivial rfl hl.1 rfl (Nat.le_of_ble_eq_true rfl) dX5_lastDayOf_22 ⟨Nat.le_of_ble_eq_true rfl, Nat.le_of_ble_eq_true rfl⟩ ?_
  refine lv_iconst (v := 5) hx hb dX5_lastDayOf_25 rfl ?_
  refine lv_iadd hx hb dX5_lastDayOf_26 ?_
  refine w_topi (y := nI ((22 + 11 * c0) + 5)) (nI_add (22 + 11 * c0) 5) ?_
  refine w_iald hx hb hK hP 1 rfl ((22 + 11 * c0) + 5) rfl (by omega) (Nat.le_of_ble_eq_true rfl) dX5_lastDayOf_27 ?_
  refine w_topi (y := nI (dN d (22 + 11 * c0 + 5))) a3 ?_
  refine lv_iadd hx hb dX5_lastDayOf_28 ?_
  refine w_topi (y := nI (x + (dN d (22 + 11 * c0 + 5)))) (nI_add x (dN d (22 + 11 * c0 + 5))) ?_
  refine r_callV (As := [.int (nI (x + (dN d (22 + 11 * c0 + 5))))]) (rest := [.int (nI (ext d (dN d (22 + 11 * c0 + 3))))]) C (m_extend l D k o a8 fs d h8 hd (x + (dN d (22 + 11 * c0 + 5))) (by omega)) (cwV 1 hts (lw_V q1857 q1859 qs50 q76 q1860) rfl rfl rfl (by decide +kernel) ⟨Nat.le_of_ble_eq_true rfl, Nat.le_of_ble_eq_true rfl⟩) hK (va_recv hK hP (ci := 0) (q0 := 0) rfl rfl) hP rfl hl.1 rfl (Nat.le_of_ble_eq_true rfl) dX5_lastDayOf_29 ⟨Nat.le_of_ble_eq_true rfl, Nat.le_of_ble_eq_true rfl⟩ ?_
  refine r_callS (As := [.int (nI (ext d (dN d (22 + 11 * c0 + 3)))), .int (nI (ext d (x + (dN d (22 + 11 * c0 + 5)))))]) (rest := []) C (m_min l D k (nI (ext d (dN d (22 + 11 * c0 + 3)))) (nI (ext d (x + (dN d (22 + 11 * c0 + 5)))))) (va_cwS 2 hts (lw_S q1780 q1781 q76 q1782) rfl rfl rfl (by decide +kernel) ⟨Nat.le_of_ble_eq_true rfl, Nat.le_of_ble_eq_true rfl⟩) hK trivial rfl hl.1 rfl (Nat.le_of_ble_eq_true rfl) dX5_lastDayOf_32 ⟨Nat.le_of_ble_eq_true rfl, Nat.le_of_ble_eq_true rfl⟩ ?_
  exact r_iret C rfl dX5_lastDayOf_35
set_option maxHeartbeats 4000000 in
theorem m_deadlineOf (l : Launch) (D : va_G) (k : Nat → ClassId) (o a8 : Nat) (fs : List Value) (d : Nat → Int32) (h8 : fs[8]? = some (.ref a8)) (hd : okD d) (q : Nat) (hq : q < dN d 1) : rM l D k yX5_deadlineOf cX5_deadlineOf 2 (some .int) 3 68 [.ref o, .int (nI q)] (va_P D clA [(o, .inr (0, fs)), (a8, .inl (k 0, 1798, .inl d))]) (some (.int (nI (dead d q)))) := by
  refine rM_of (by decide) (Nat.le_of_ble_eq_true rfl) ?_
  intro p e s m below meth c ls C hK hP hl
  obtain ⟨hx, hb, hr, hml, hown, hts, hlk⟩ := id C
  have hl : lv_has ls 2 [(0, .ref o), (1, .int (nI q))] := hl
  obtain ⟨⟨⟨e0, n0⟩, ⟨e1, n1⟩, ⟨e2, n2⟩, ⟨e3, n3⟩, ⟨e5, n5⟩⟩, hhol, hcr, hpr⟩ := id hd
  obtain ⟨-, -, ⟨a1, a2⟩, -, -⟩ := hpr q hq
  refine lv_aload_n hx hb dX5_deadlineOf_0 rfl (lv_at hl 0 rfl) ?_
  refine lv_aload_n hx hb dX5_deadlineOf_1 rfl (lv_at hl 0 rfl) ?_
  refine va_get hx hb hts in_X5 hown hK hP 0 rfl rfl 8 (by decide) (hts _ q1670) (fun _ h => h) h8 dX5_deadlineOf_2 ?_
  refine lv_iload_n hx hb dX5_deadlineOf_5 rfl (lv_at hl 1 rfl) ?_
  refine r_callS (As := [.int (nI q)]) (rest := [.ref a8, .ref o]) C (m_presentationN l D k q) (va_cwS 1 hts (lw_S q1917 q1918 q76 q1919) rfl rfl rfl (by decide +kernel) ⟨Nat.le_of_ble_eq_true rfl, Nat.le_of_ble_eq_true rfl⟩) hK trivial rfl hl.1 rfl (Nat.le_of_ble_eq_true rfl) dX5_deadlineOf_6 ⟨Nat.le_of_ble_eq_true rfl, Nat.le_of_ble_eq_true rfl⟩ ?_
  refine lv_iconst (v := 1) hx hb dX5_deadlineOf_9 rfl ?_
  refine lv_iadd hx hb dX5_deadlineOf_10 ?_
  refine w_topi (y := nI ((154 + 6 * q) + 1)) (nI_add (154 + 6 * q) 1) ?_
  refine w_iald hx hb hK hP 1 rfl ((154 + 6 * q) + 1) rfl (by omega) (Nat.le_of_ble_eq_true rfl) dX5_deadlineOf_11 ?_
  refine w_topi (y := nI (dN d (154 + 6 * q + 1))) a1 ?_
  refine lv_iconst (v := 5) hx hb dX5_deadlineOf_12 rfl ?_
  refine r_callV (As := [.int (nI (dN d (154 + 6 * q + 1))), .int 5]) (rest := []) C (m_add l D k o a8 fs d h8 hd (dN d (154 + 6 * q + 1)) 5 (by omega) (by omega)) (cwV 2 hts (lw_V q1865 q1867 qs51 q76 q1868) rfl rfl rfl (by decide +kernel) ⟨Nat.le_of_ble_eq_true rfl, Nat.le_of_ble_eq_true rfl⟩) hK (va_recv hK hP (ci := 0) (q0 := 0) rfl rfl) hP rfl hl.1 rfl (Nat.le_of_ble_eq_true rfl) dX5_deadlineOf_13 ⟨Nat.le_of_ble_eq_true rfl, Nat.le_of_ble_eq_true rfl⟩ ?_
  exact r_iret C rfl dX5_deadlineOf_16
set_option maxHeartbeats 4000000 in
theorem m_dueOf (l : Launch) (D : va_G) (k : Nat → ClassId) (o a8 : Nat) (fs : List Value) (d : Nat → Int32) (h8 : fs[8]? = some (.ref a8)) (hd : okD d) (q : Nat) (hq : q < dN d 1) : rM l D k yX5_dueOf cX5_dueOf 3 (some .int) 2 44 [.ref o, .int (nI q)] (va_P D clA [(o, .inr (0, fs)), (a8, .inl (k 0, 1798, .inl d))]) (some (.int (due d q))) := by
  refine rM_of (by decide) (Nat.le_of_ble_eq_true rfl) ?_
  intro p e s m below meth c ls C hK hP hl
  obtain ⟨hx, hb, hr, hml, hown, hts, hlk⟩ := id C
  have hl : lv_has ls 3 [(0, .ref o), (1, .int (nI q))] := hl
  obtain ⟨⟨⟨e0, n0⟩, ⟨e1, n1⟩, ⟨e2, n2⟩, ⟨e3, n3⟩, ⟨e5, n5⟩⟩, hhol, hcr, hpr⟩ := id hd
  obtain ⟨a1, a2, -, -, ⟨a3, a4⟩⟩ := hpr q hq
  obtain ⟨-, -, ⟨a5, a6⟩⟩ := hcr _ a2
  refine lv_iload_n hx hb dX5_dueOf_0 rfl (lv_at hl 1 rfl) ?_
  refine r_callS (As := [.int (nI q)]) (rest := []) C (m_presentationN l D k q) (va_cwS 1 hts (lw_S q1917 q1918 q76 q1919) rfl rfl rfl (by decide +kernel) ⟨Nat.le_of_ble_eq_true rfl, Nat.le_of_ble_eq_true rfl⟩) hK trivial rfl hl.1 rfl (Nat.le_of_ble_eq_true rfl) dX5_dueOf_1 ⟨Nat.le_of_ble_eq_true rfl, Nat.le_of_ble_eq_true rfl⟩ ?_
  refine lv_istore_n (lv' := [(2, .int (nI (154 + 6 * q))), (0, .ref o), (1, .int (nI q))]) hx hb dX5_dueOf_4 rfl hl (by decide) rfl (fun ls hl => ?_)
  refine lv_aload_n hx hb dX5_dueOf_5 rfl (lv_at hl 1 rfl) ?_
  refine va_get hx hb hts in_X5 hown hK hP 0 rfl rfl 8 (by decide) (hts _ q1670) (fun _ h => h) h8 dX5_dueOf_6 ?_
  refine lv_iload_n hx hb dX5_dueOf_9 rfl (lv_at hl 0 rfl) ?_
  refine lv_iconst (v := 4) hx hb dX5_dueOf_10 rfl ?_
  refine lv_iadd hx hb dX5_dueOf_11 ?_
  refine w_topi (y := nI ((154 + 6 * q) + 4)) (nI_add (154 + 6 * q) 4) ?_
  refine w_iald hx hb hK hP 1 rfl ((154 + 6 * q) + 4) rfl (by omega) (Nat.le_of_ble_eq_true rfl) dX5_dueOf_12 ?_
  refine lv_iconst (v := 2) hx hb dX5_dueOf_13 rfl ?_
  refine lv_icmp_ne (tgt := 50) hx hb dX5_dueOf_14 (by decide) (fun c_14 => ?_) (fun c_14 => ?_)
  · refine lv_iconst (v := (-1)) hx hb dX5_dueOf_50 rfl ?_
    exact r_iret C (by first | exact (if_pos c_14).symm | exact (if_neg c_14).symm) dX5_dueOf_51
  · refine lv_aload_n hx hb dX5_dueOf_17 rfl (lv_at hl 1 rfl) ?_
    refine lv_aload_n hx hb dX5_dueOf_18 rfl (lv_at hl 1 rfl) ?_
    refine va_get hx hb hts in_X5 hown hK hP 0 rfl rfl 8 (by decide) (hts _ q1670) (fun _ h => h) h8 dX5_dueOf_19 ?_
    refine lv_iload_n hx hb dX5_dueOf_22 rfl (lv_at hl 0 rfl) ?_
    refine lv_iconst (v := 5) hx hb dX5_dueOf_23 rfl ?_
    refine lv_iadd hx hb dX5_dueOf_24 ?_
    refine w_topi (y := nI ((154 + 6 * q) + 5)) (nI_add (154 + 6 * q) 5) ?_
    refine w_iald hx hb hK hP 1 rfl ((154 + 6 * q) + 5) rfl (by omega) (Nat.le_of_ble_eq_true rfl) dX5_dueOf_25 ?_
    refine w_topi (y := nI (dN d (154 + 6 * q + 5))) a3 ?_
    refine lv_aload_n hx hb dX5_dueOf_26 rfl (lv_at hl 1 rfl) ?_
    refine va_get hx hb hts in_X5 hown hK hP 0 rfl rfl 8 (by decide) (hts _ q1670) (fun _ h => h) h8 dX5_dueOf_27 ?_
    refine lv_aload_n hx hb dX5_dueOf_30 rfl (lv_at hl 1 rfl) ?_
    refine va_get hx hb hts in_X5 hown hK hP 0 rfl rfl 8 (by decide) (hts _ q1670) (fun _ h => h) h8 dX5_dueOf_31 ?_
    refine lv_iload_n hx hb dX5_dueOf_34 rfl (lv_at hl 0 rfl) ?_
    refine w_iald hx hb hK hP 1 rfl (154 + 6 * q) rfl (by omega) (Nat.le_of_ble_eq_true rfl) dX5_dueOf_35 ?_
    refine w_topi (y := nI (dN d (154 + 6 * q))) a1 ?_
    refine r_callS (As := [.int (nI (dN d (154 + 6 * q)))]) (rest := [.ref a8, .int (nI (dN d (154 + 6 * q + 5))), .ref o]) C (m_creditN l D k (dN d (154 + 6 * q))) (va_cwS 1 hts (lw_S q1788 q1789 q76 q1790) rfl rfl rfl (by decide +kernel) ⟨Nat.le_of_ble_eq_true rfl, Nat.le_of_ble_eq_true rfl⟩) hK trivial rfl hl.1 rfl (Nat.le_of_ble_eq_true rfl) dX5_dueOf_36 ⟨Nat.le_of_ble_eq_true rfl, Nat.le_of_ble_eq_true rfl⟩ ?_
    refine lv_bipush (v := 6) hx hb dX5_dueOf_39 rfl ?_
    refine lv_iadd hx hb dX5_dueOf_41 ?_
    refine w_topi (y := nI ((22 + 11 * (dN d (154 + 6 * q))) + 6)) (nI_add (22 + 11 * (dN d (154 + 6 * q))) 6) ?_
    refine w_iald hx hb hK hP 1 rfl ((22 + 11 * (dN d (154 + 6 * q))) + 6) rfl (by omega) (Nat.le_of_ble_eq_true rfl) dX5_dueOf_42 ?_
    refine w_topi (y := nI (dN d (22 + 11 * dN d (154 + 6 * q) + 6))) a5 ?_
    refine lv_iadd hx hb dX5_dueOf_43 ?_
    refine w_topi (y := nI ((dN d (154 + 6 * q + 5)) + (dN d (22 + 11 * dN d (154 + 6 * q) + 6)))) (nI_add (dN d (154 + 6 * q + 5)) (dN d (22 + 11 * dN d (154 + 6 * q) + 6))) ?_
    refine r_callV (As := [.int (nI ((dN d (154 + 6 * q + 5)) + (dN d (22 + 11 * dN d (154 + 6 * q) + 6))))]) (rest := []) C (m_extend l D k o a8 fs d h8 hd ((dN d (154 + 6 * q + 5)) + (dN d (22 + 11 * dN d (154 + 6 * q) + 6))) (by omega)) (cwV 1 hts (lw_V q1857 q1859 qs50 q76 q1860) rfl rfl rfl (by decide +kernel) ⟨Nat.le_of_ble_eq_true rfl, Nat.le_of_ble_eq_true rfl⟩) hK (va_recv hK hP (ci := 0) (q0 := 0) rfl rfl) hP rfl hl.1 rfl (Nat.le_of_ble_eq_true rfl) dX5_dueOf_44 ⟨Nat.le_of_ble_eq_true rfl, Nat.le_of_ble_eq_true rfl⟩ ?_
    refine lv_goto (tgt := 51) hx hb dX5_dueOf_47 (by decide) ?_
    exact r_iret C (by first | exact (if_pos c_14).symm | exact (if_neg c_14).symm) dX5_dueOf_51
set_option maxHeartbeats 4000000 in
theorem m_variable (l : Launch) (D : va_G) (k : Nat → ClassId) (o a8 : Nat) (fs : List Value) (d : Nat → Int32) (h8 : fs[8]? = some (.ref a8)) (hd : okD d) (q : Nat) (v : Int32) (hq : q < dN d 1) : rM l D k yX5_variable cX5_variable 6 (some .int) 1 20 [.ref o, .int (nI q), .int v] (va_P D clA [(o, .inr (0, fs)), (a8, .inl (k 0, 1798, .inl d))]) (some (.int (var d q v))) := by
  refine rM_of (by decide) (Nat.le_of_ble_eq_true rfl) ?_
  intro p e s m below meth c ls C hK hP hl
  obtain ⟨hx, hb, hr, hml, hown, hts, hlk⟩ := id C
  have hl : lv_has ls 6 [(0, .ref o), (1, .int (nI q)), (2, .int v)] := hl
  obtain ⟨⟨⟨e0, n0⟩, ⟨e1, n1⟩, ⟨e2, n2⟩, ⟨e3, n3⟩, ⟨e5, n5⟩⟩, hhol, hcr, hpr⟩ := id hd
  obtain ⟨-, -, -, ⟨a1, a2⟩, -⟩ := hpr q hq
  refine lv_iload_n hx hb dX5_variable_0 rfl (lv_at hl 1 rfl) ?_
  refine r_callS (As := [.int (nI q)]) (rest := []) C (m_presentationN l D k q) (va_cwS 1 hts (lw_S q1917 q1918 q76 q1919) rfl rfl rfl (by decide +kernel) ⟨Nat.le_of_ble_eq_true rfl, Nat.le_of_ble_eq_true rfl⟩) hK trivial rfl hl.1 rfl (Nat.le_of_ble_eq_true rfl) dX5_variable_1 ⟨Nat.le_of_ble_eq_true rfl, Nat.le_of_ble_eq_true rfl⟩ ?_
  refine lv_istore_n (lv' := [(3, .int (nI (154 + 6 * q))), (0, .ref o), (1, .int (nI q)), (2, .int v)]) hx hb dX5_variable_4 rfl hl (by decide) rfl (fun ls hl => ?_)
  refine lv_iconst (v := 0) hx hb dX5_variable_5 rfl ?_
  refine lv_istore (lv' := [(4, .int 0), (3, .int (nI (154 + 6 * q))), (0, .ref o), (1, .int (nI q)), (2, .int v)]) hx hb dX5_variable_6 hl (by decide) rfl (fun ls hl => ?_)
  refine lv_iload_n hx hb dX5_variable_8 rfl (lv_at hl 4 rfl) ?_
  refine lv_if_ne (tgt := 21) hx hb dX5_variable_9 (by decide) (fun c_9 => ?_) (fun c_9 => ?_)
  · refine lv_iload_n hx hb dX5_variable_21 rfl (lv_at hl 4 rfl) ?_
    refine lv_iconst (v := 1) hx hb dX5_variable_22 rfl ?_
    refine lv_icmp_ne (tgt := 42) hx hb dX5_variable_23 (by decide) (fun c_23 => ?_) (fun c_23 => ?_)
    · refine lv_aload_n hx hb dX5_variable_42 rfl (lv_at hl 2 rfl) ?_
      refine va_get hx hb hts in_X5 hown hK hP 0 rfl rfl 8 (by decide) (hts _ q1670) (fun _ h => h) h8 dX5_variable_43 ?_
      refine lv_iload_n hx hb dX5_variable_46 rfl (lv_at hl 1 rfl) ?_
      refine lv_iconst (v := 3) hx hb dX5_variable_47 rfl ?_
      refine lv_iadd hx hb dX5_variable_48 ?_
      refine w_topi (y := nI ((154 + 6 * q) + 3)) (nI_add (154 + 6 * q) 3) ?_
      refine w_iald hx hb hK hP 1 rfl ((154 + 6 * q) + 3) rfl (by omega) (Nat.le_of_ble_eq_true rfl) dX5_variable_49 ?_
      refine w_topi (y := nI (dN d (154 + 6 * q + 3))) a1 ?_
      refine lv_istore (lv' := [(5, .int (nI (dN d (154 + 6 * q + 3)))), (4, .int 0), (3, .int (nI (154 + 6 * q))), (0, .ref o), (1, .int (nI q)), (2, .int v)]) hx hb dX5_variable_50 hl (by decide) rfl (fun ls hl => ?_)
      have loop_52 : ∀ (n : Nat) (f : Nat) (u : Nat) (t : Nat), (u < 2 ^ f) → (f ≤ 7) → (t + bcF f u = bcF 7 (dN d (154 + 6 * q + 3))) → (f + 1 ≤ n) → ∀ (ls : Array Slot), lv_has ls 6 [(0, .ref o), (1, .int (nI q)), (2, .int v), (3, .int (nI (154 + 6 * q))), (4, .int (nI t)), (5, .int (nI u))] → W p l e (Rm 1 20 0 0) s m ([.ref o, .int (nI q), .int v] : List Value).toArray below meth c s.heap [] 0 0 (MQ below (rQ (some (.int (var d q v)))) ([.ref o, .int (nI q), .int v] : List Value).toArray s 0 0 (fun _ => False)) (F0 m 52 ls []) := by
        intro n
        induction n with
        | zero =>
          intro f u t hu hf ht hn
          exact absurd hn (by omega)
        | succ n ih_52 =>
          intro f u t hu hf ht hn ls hl
          have hu7 : 2 ^ f ≤ 2 ^ 7 := Nat.pow_le_pow_right (by decide) hf
          refine lv_iload hx hb dX5_variable_52 (lv_at hl 5 rfl) ?_
          refine lv_if_le (tgt := 75) hx hb dX5_variable_54 (by decide) (fun c_54 => ?_) (fun c_54 => ?_)
          · have g_54 := nI_le' (b := 0) c_54 (by omega) (by decide)
            refine lv_iload hx hb dX5_variable_75 (lv_at hl 4 rfl) ?_
            exact r_iret C (by unfold var; rw [if_neg c_9, if_neg c_23, ← ht, show u = 0 by omega, show ∀ f, bcF f 0 = 0 from fun f => by induction f with | zero => rfl | succ f ih => simp [bcF, ih]]; rfl) dX5_variable_77
          · have g_54 := nI_nle' (b := 0) c_54 (by omega) (by decide)
            obtain ⟨f1, rfl⟩ : ∃ f1, f = f1 + 1 := ⟨f - 1, by rcases f with _ | f; simp at hu; omega; rfl⟩
            refine lv_iload hx hb dX5_variable_57 (lv_at hl 4 rfl) ?_
            refine lv_iload hx hb dX5_variable_59 (lv_at hl 5 rfl) ?_
            refine lv_iconst (v := 2) hx hb dX5_variable_61 rfl ?_
            refine lv_irem hx hb dX5_variable_62 (by decide) ?_
            refine w_topi (y := nI (u % 2)) (pk_rem (d := 2) (by omega) (by decide) (by decide)) ?_
            refine lv_iadd hx hb dX5_variable_63 ?_
            refine w_topi (y := nI (t + (u % 2))) (nI_add t (u % 2)) ?_
            refine lv_istore (lv' := [(4, .int (nI (t + (u % 2)))), (0, .ref o), (1, .int (nI q)), (2, .int v), (3, .int (nI (154 + 6 * q))), (5, .int (nI u))]) hx hb dX5_variable_64 hl (by decide) rfl (fun ls hl => ?_)
            refine lv_iload hx hb dX5_variable_66 (lv_at hl 5 rfl) ?_
            refine lv_iconst (v := 2) hx hb dX5_variable_68 rfl ?_
            refine lv_idiv hx hb dX5_variable_69 (by decide) ?_
            refine w_topi (y := nI (u / 2)) (pk_div (d := 2) (by omega) (by decide) (by decide)) ?_
            refine lv_istore (lv' := [(5, .int (nI (u / 2))), (4, .int (nI (t + (u % 2)))), (0, .ref o), (1, .int (nI q)), (2, .int v), (3, .int (nI (154 + 6 * q)))]) hx hb dX5_variable_70 hl (by decide) rfl (fun ls hl => ?_)
            refine lv_goto (tgt := 52) hx hb dX5_variable_72 (by decide) ?_
            exact ih_52 f1 (u / 2) (t + u % 2) (by rw [Nat.pow_succ] at hu; omega) (by omega) (by rw [show bcF (f1 + 1) u = u % 2 + bcF f1 (u / 2) from rfl] at ht; omega) (by omega) ls (lv_sub hl [2, 3, 4, 5, 1, 0] rfl)
      exact loop_52 8 7 (dN d (154 + 6 * q + 3)) 0 (by omega) (Nat.le_refl _) (Nat.zero_add _) (by omega) ls (lv_sub hl [3, 4, 5, 2, 1, 0] rfl)
    · refine lv_aload_n hx hb dX5_variable_26 rfl (lv_at hl 2 rfl) ?_
      refine va_get hx hb hts in_X5 hown hK hP 0 rfl rfl 8 (by decide) (hts _ q1670) (fun _ h => h) h8 dX5_variable_27 ?_
      refine lv_iconst (v := 3) hx hb dX5_variable_30 rfl ?_
      refine w_iald hx hb hK hP 1 rfl 3 rfl (Nat.le_of_ble_eq_true rfl) (Nat.le_of_ble_eq_true rfl) dX5_variable_31 ?_
      refine lv_aload_n hx hb dX5_variable_32 rfl (lv_at hl 2 rfl) ?_
      refine va_get hx hb hts in_X5 hown hK hP 0 rfl rfl 8 (by decide) (hts _ q1670) (fun _ h => h) h8 dX5_variable_33 ?_
      refine lv_iload_n hx hb dX5_variable_36 rfl (lv_at hl 1 rfl) ?_
      refine lv_iconst (v := 1) hx hb dX5_variable_37 rfl ?_
      refine lv_iadd hx hb dX5_variable_38 ?_
      refine w_topi (y := nI ((154 + 6 * q) + 1)) (nI_add (154 + 6 * q) 1) ?_
      refine w_iald hx hb hK hP 1 rfl ((154 + 6 * q) + 1) rfl (by omega) (Nat.le_of_ble_eq_true rfl) dX5_variable_39 ?_
      refine lv_isub hx hb dX5_variable_40 ?_
      exact r_iret C (by unfold var; rw [if_neg c_9, if_pos c_23]; rfl) dX5_variable_41
  · refine lv_aload_n hx hb dX5_variable_12 rfl (lv_at hl 2 rfl) ?_
    refine va_get hx hb hts in_X5 hown hK hP 0 rfl rfl 8 (by decide) (hts _ q1670) (fun _ h => h) h8 dX5_variable_13 ?_
    refine lv_iload_n hx hb dX5_variable_16 rfl (lv_at hl 1 rfl) ?_
    refine lv_iconst (v := 2) hx hb dX5_variable_17 rfl ?_
    refine lv_iadd hx hb dX5_variable_18 ?_
    refine w_topi (y := nI ((154 + 6 * q) + 2)) (nI_add (154 + 6 * q) 2) ?_
    refine w_iald hx hb hK hP 1 rfl ((154 + 6 * q) + 2) rfl (by omega) (Nat.le_of_ble_eq_true rfl) dX5_variable_19 ?_
    exact r_iret C (if_pos c_9).symm dX5_variable_20
set_option maxHeartbeats 8000000 in
theorem m_faultsOf (l : Launch) (D : va_G) (k : Nat → ClassId) (o a8 : Nat) (fs : List Value) (d : Nat → Int32) (h8 : fs[8]? = some (.ref a8)) (hd : okD d) (c0 x : Nat) (am dc ins : Int32) (hc : c0 < dN d 0) (hx0 : x < 2 ^ 20) : rM l D k yX5_faultsOf cX5_faultsOf 11 (some .int) 4 86 [.ref o, .int (nI c0), .int (nI x), .int am, .int dc, .int ins] (va_P D clA [(o, .inr (0, fs)), (a8, .inl (k 0, 1798, .inl d))]) (some (.int (faults d c0 x am dc ins))) := by
  refine rM_of (by decide) (Nat.le_of_ble_eq_true rfl) ?_
  intro p e s m below meth c ls C hK hP hl
  obtain ⟨hx, hb, hr, hml, hown, hts, hlk⟩ := id C
  have hl : lv_has ls 11 [(0, .ref o), (1, .int (nI c0)), (2, .int (nI x)), (3, .int am), (4, .int dc), (5, .int ins)] := hl
  obtain ⟨⟨⟨e0, n0⟩, ⟨e1, n1⟩, ⟨e2, n2⟩, ⟨e3, n3⟩, ⟨e5, n5⟩⟩, hhol, hcr, hpr⟩ := id hd
  refine lv_iload_n hx hb dX5_faultsOf_0 rfl (lv_at hl 1 rfl) ?_
  refine r_callS (As := [.int (nI c0)]) (rest := []) C (m_creditN l D k c0) (va_cwS 1 hts (lw_S q1788 q1789 q76 q1790) rfl rfl rfl (by decide +kernel) ⟨Nat.le_of_ble_eq_true rfl, Nat.le_of_ble_eq_true rfl⟩) hK trivial rfl hl.1 rfl (Nat.le_of_ble_eq_true rfl) dX5_faultsOf_1 ⟨Nat.le_of_ble_eq_true rfl, Nat.le_of_ble_eq_true rfl⟩ ?_
  refine lv_istore (lv' := [(6, .int (nI (22 + 11 * c0))), (0, .ref o), (1, .int (nI c0)), (2, .int (nI x)), (3, .int am), (4, .int dc), (5, .int ins)]) hx hb dX5_faultsOf_4 hl (by decide) rfl (fun ls hl => ?_)
  refine lv_aload_n hx hb dX5_faultsOf_6 rfl (lv_at hl 1 rfl) ?_
  refine va_get hx hb hts in_X5 hown hK hP 0 rfl rfl 8 (by decide) (hts _ q1670) (fun _ h => h) h8 dX5_faultsOf_7 ?_
  refine lv_iconst (v := 3) hx hb dX5_faultsOf_10 rfl ?_
  refine w_iald hx hb hK hP 1 rfl 3 rfl (Nat.le_of_ble_eq_true rfl) (Nat.le_of_ble_eq_true rfl) dX5_faultsOf_11 ?_
  refine lv_istore (lv' := [(7, .int (d 3)), (6, .int (nI (22 + 11 * c0))), (0, .ref o), (1, .int (nI c0)), (2, .int (nI x)), (3, .int am), (4, .int dc), (5, .int ins)]) hx hb dX5_faultsOf_12 hl (by decide) rfl (fun ls hl => ?_)
  refine lv_iconst (v := 0) hx hb dX5_faultsOf_14 rfl ?_
  refine lv_istore (lv' := [(8, .int 0), (7, .int (d 3)), (6, .int (nI (22 + 11 * c0))), (0, .ref o), (1, .int (nI c0)), (2, .int (nI x)), (3, .int am), (4, .int dc), (5, .int ins)]) hx hb dX5_faultsOf_15 hl (by decide) rfl (fun ls hl => ?_)
  refine lv_iconst (v := 0) hx hb dX5_faultsOf_17 rfl ?_
  refine lv_istore (lv' := [(9, .int 0), (8, .int 0), (7, .int (d 3)), (6, .int (nI (22 + 11 * c0))), (0, .ref o), (1, .int (nI c0)), (2, .int (nI x)), (3, .int am), (4, .int dc), (5, .int ins)]) hx hb dX5_faultsOf_18 hl (by decide) rfl (fun ls hl => ?_)
  refine lv_iconst (v := 0) hx hb dX5_faultsOf_20 rfl ?_
  refine lv_istore (lv' := [(10, .int 0), (9, .int 0), (8, .int 0), (7, .int (d 3)), (6, .int (nI (22 + 11 * c0))), (0, .ref o), (1, .int (nI c0)), (2, .int (nI x)), (3, .int am), (4, .int dc), (5, .int ins)]) hx hb dX5_faultsOf_21 hl (by decide) rfl (fun ls hl => ?_)
  have loop_23 : ∀ (n : Nat) (j : Nat) (t : Nat), (j ≤ dN d 1) → (dN d 1 + 1 ≤ j + n) → (t ≤ j) → (0 < t ↔ ∃ q, q < j ∧ stands d q (nI c0)) → ∀ (ls : Array Slot), lv_has ls 11 [(0, .ref o), (1, .int (nI c0)), (2, .int (nI x)), (3, .int am), (4, .int dc), (5, .int ins), (6, .int (nI (22 + 11 * c0))), (7, .int (d 3)), (8, .int (nI t)), (9, .int 0), (10, .int (nI j))] → W p l e (Rm 4 86 0 0) s m ([.ref o, .int (nI c0), .int (nI x), .int am, .int dc, .int ins] : List Value).toArray below meth c s.heap [] 0 0 (MQ below (rQ (some (.int (faults d c0 x am dc ins)))) ([.ref o, .int (nI c0), .int (nI x), .int am, .int dc, .int ins] : List Value).toArray s 0 0 (fun _ => False)) (F0 m 23 ls []) := by
    intro n
    induction n with
    | zero =>
      intro j t hj hn ht hu
      exact absurd hn (by omega)
    | succ n ih_23 =>
      intro j t hj hn ht hu ls hl
      refine lv_iload hx hb dX5_faultsOf_23 (lv_at hl 10 rfl) ?_
      refine lv_aload_n hx hb dX5_faultsOf_25 rfl (lv_at hl 0 rfl) ?_
      refine va_get hx hb hts in_X5 hown hK hP 0 rfl rfl 8 (by decide) (hts _ q1670) (fun _ h => h) h8 dX5_faultsOf_26 ?_
      refine lv_iconst (v := 1) hx hb dX5_faultsOf_29 rfl ?_
      refine w_iald hx hb hK hP 1 rfl 1 rfl (Nat.le_of_ble_eq_true rfl) (Nat.le_of_ble_eq_true rfl) dX5_faultsOf_30 ?_
      refine w_topi (y := nI (dN d 1)) e1 ?_
      refine lv_icmp_ge (tgt := 60) hx hb dX5_faultsOf_31 (by decide) (fun c_31 => ?_) (fun c_31 => ?_)
      · have g_31 := nI_le' c_31 (by omega) (by omega)
        have hoth : 0 < t ↔ others d (nI c0) := by rw [show j = dN d 1 by omega] at hu; exact hu
        refine lv_iload hx hb dX5_faultsOf_60 (lv_at hl 9 rfl) ?_
        refine lv_iload_n hx hb dX5_faultsOf_62 rfl (lv_at hl 2 rfl) ?_
        refine lv_aload_n hx hb dX5_faultsOf_63 rfl (lv_at hl 0 rfl) ?_
        refine va_get hx hb hts in_X5 hown hK hP 0 rfl rfl 8 (by decide) (hts _ q1670) (fun _ h => h) h8 dX5_faultsOf_64 ?_
        refine lv_iload hx hb dX5_faultsOf_67 (lv_at hl 6 rfl) ?_
        refine lv_iconst (v := 4) hx hb dX5_faultsOf_69 rfl ?_
        refine lv_iadd hx hb dX5_faultsOf_70 ?_
        refine w_topi (y := nI ((22 + 11 * c0) + 4)) (nI_add (22 + 11 * c0) 4) ?_
        refine w_iald hx hb hK hP 1 rfl ((22 + 11 * c0) + 4) rfl (by omega) (Nat.le_of_ble_eq_true rfl) dX5_faultsOf_71 ?_
        have J_80 : ∀ (z72 : Int32), (z72 = pick (cf d c0 4 < nI x) 1) → ∀ (ls : Array Slot), lv_has ls 11 [(0, .ref o), (1, .int (nI c0)), (2, .int (nI x)), (3, .int am), (4, .int dc), (5, .int ins), (6, .int (nI (22 + 11 * c0))), (7, .int (d 3)), (8, .int (nI t)), (9, .int 0), (10, .int (nI j))] → W p l e (Rm 4 86 0 0) s m ([.ref o, .int (nI c0), .int (nI x), .int am, .int dc, .int ins] : List Value).toArray below meth c s.heap [] 0 0 (MQ below (rQ (some (.int (faults d c0 x am dc ins)))) ([.ref o, .int (nI c0), .int (nI x), .int am, .int dc, .int ins] : List Value).toArray s 0 0 (fun _ => False)) (F0 m 80 ls [.int z72, .int 0]) := by
          intro z72 h_z72 ls hl
          refine lv_ior hx hb dX5_faultsOf_80 ?_
          refine lv_istore (lv' := [(9, .int (0 ||| z72)), (0, .ref o), (1, .int (nI c0)), (2, .int (nI x)), (3, .int am), (4, .int dc), (5, .int ins), (6, .int (nI (22 + 11 * c0))), (7, .int (d 3)), (8, .int (nI t)), (10, .int (nI j))]) hx hb dX5_faultsOf_81 hl (by decide) rfl (fun ls hl => ?_)
          refine lv_iload hx hb dX5_faultsOf_83 (lv_at hl 0 rfl) ?_
          refine lv_iload hx hb dX5_faultsOf_85 (lv_at hl 8 rfl) ?_
          refine lv_aload_n hx hb dX5_faultsOf_87 rfl (lv_at hl 1 rfl) ?_
          refine lv_iload_n hx hb dX5_faultsOf_88 rfl (lv_at hl 2 rfl) ?_
          refine lv_iload_n hx hb dX5_faultsOf_89 rfl (lv_at hl 3 rfl) ?_
          refine r_callV (As := [.int (nI c0), .int (nI x)]) (rest := [.int (d 3), .int (0 ||| z72)]) C (m_lastDayOf l D k o a8 fs d h8 hd c0 x (by omega) (by omega)) (cwV 2 hts (lw_V q1949 q1951 qs61 q76 q1952) rfl rfl rfl (by decide +kernel) ⟨Nat.le_of_ble_eq_true rfl, Nat.le_of_ble_eq_true rfl⟩) hK (va_recv hK hP (ci := 0) (q0 := 0) rfl rfl) hP rfl hl.1 rfl (Nat.le_of_ble_eq_true rfl) dX5_faultsOf_90 ⟨Nat.le_of_ble_eq_true rfl, Nat.le_of_ble_eq_true rfl⟩ ?_
          have J_101 : ∀ (z93 : Int32), (z93 = pick (lastD d c0 x < d 3) 2) → ∀ (ls : Array Slot), lv_has ls 11 [(9, .int (0 ||| z72)), (0, .ref o), (1, .int (nI c0)), (2, .int (nI x)), (3, .int am), (4, .int dc), (5, .int ins), (6, .int (nI (22 + 11 * c0))), (7, .int (d 3)), (8, .int (nI t)), (10, .int (nI j))] → W p l e (Rm 4 86 0 0) s m ([.ref o, .int (nI c0), .int (nI x), .int am, .int dc, .int ins] : List Value).toArray below meth c s.heap [] 0 0 (MQ below (rQ (some (.int (faults d c0 x am dc ins)))) ([.ref o, .int (nI c0), .int (nI x), .int am, .int dc, .int ins] : List Value).toArray s 0 0 (fun _ => False)) (F0 m 101 ls [.int z93, .int (0 ||| z72)]) := by
            intro z93 h_z93 ls hl
            refine lv_ior hx hb dX5_faultsOf_101 ?_
            refine lv_istore (lv' := [(9, .int ((0 ||| z72) ||| z93)), (0, .ref o), (1, .int (nI c0)), (2, .int (nI x)), (3, .int am), (4, .int dc), (5, .int ins), (6, .int (nI (22 + 11 * c0))), (7, .int (d 3)), (8, .int (nI t)), (10, .int (nI j))]) hx hb dX5_faultsOf_102 hl (by decide) rfl (fun ls hl => ?_)
            refine lv_iload hx hb dX5_faultsOf_104 (lv_at hl 0 rfl) ?_
            refine lv_iload_n hx hb dX5_faultsOf_106 rfl (lv_at hl 4 rfl) ?_
            refine lv_aload_n hx hb dX5_faultsOf_107 rfl (lv_at hl 1 rfl) ?_
            refine lv_iload_n hx hb dX5_faultsOf_108 rfl (lv_at hl 2 rfl) ?_
            refine r_callV (As := [.int (nI c0)]) (rest := [.int am, .int ((0 ||| z72) ||| z93)]) C (m_availableOf l D k o a8 fs d h8 hd c0 (by omega)) (cwV 1 hts (lw_V q1932 q1934 qs58 q76 q1935) rfl rfl rfl (by decide +kernel) ⟨Nat.le_of_ble_eq_true rfl, Nat.le_of_ble_eq_true rfl⟩) hK (va_recv hK hP (ci := 0) (q0 := 0) rfl rfl) hP rfl hl.1 rfl (Nat.le_of_ble_eq_true rfl) dX5_faultsOf_109 ⟨Nat.le_of_ble_eq_true rfl, Nat.le_of_ble_eq_true rfl⟩ ?_
            have J_120 : ∀ (z112 : Int32), (z112 = pick (avail d c0 < am) 4) → ∀ (ls : Array Slot), lv_has ls 11 [(9, .int ((0 ||| z72) ||| z93)), (0, .ref o), (1, .int (nI c0)), (2, .int (nI x)), (3, .int am), (4, .int dc), (5, .int ins), (6, .int (nI (22 + 11 * c0))), (7, .int (d 3)), (8, .int (nI t)), (10, .int (nI j))] → W p l e (Rm 4 86 0 0) s m ([.ref o, .int (nI c0), .int (nI x), .int am, .int dc, .int ins] : List Value).toArray below meth c s.heap [] 0 0 (MQ below (rQ (some (.int (faults d c0 x am dc ins)))) ([.ref o, .int (nI c0), .int (nI x), .int am, .int dc, .int ins] : List Value).toArray s 0 0 (fun _ => False)) (F0 m 120 ls [.int z112, .int ((0 ||| z72) ||| z93)]) := by
              intro z112 h_z112 ls hl
              refine lv_ior hx hb dX5_faultsOf_120 ?_
              refine lv_istore (lv' := [(9, .int (((0 ||| z72) ||| z93) ||| z112)), (0, .ref o), (1, .int (nI c0)), (2, .int (nI x)), (3, .int am), (4, .int dc), (5, .int ins), (6, .int (nI (22 + 11 * c0))), (7, .int (d 3)), (8, .int (nI t)), (10, .int (nI j))]) hx hb dX5_faultsOf_121 hl (by decide) rfl (fun ls hl => ?_)
              refine lv_iload hx hb dX5_faultsOf_123 (lv_at hl 0 rfl) ?_
              refine lv_aload_n hx hb dX5_faultsOf_125 rfl (lv_at hl 1 rfl) ?_
              refine va_get hx hb hts in_X5 hown hK hP 0 rfl rfl 8 (by decide) (hts _ q1670) (fun _ h => h) h8 dX5_faultsOf_126 ?_
              refine lv_iload hx hb dX5_faultsOf_129 (lv_at hl 7 rfl) ?_
              refine lv_bipush (v := 7) hx hb dX5_faultsOf_131 rfl ?_
              refine lv_iadd hx hb dX5_faultsOf_133 ?_
              refine w_topi (y := nI ((22 + 11 * c0) + 7)) (nI_add (22 + 11 * c0) 7) ?_
              refine w_iald hx hb hK hP 1 rfl ((22 + 11 * c0) + 7) rfl (by omega) (Nat.le_of_ble_eq_true rfl) dX5_faultsOf_134 ?_
              have J_158 : ∀ (z135 : Int32), (z135 = pick (cf d c0 7 = 0 ∧ (am < least d c0 ∨ others d (nI c0))) 8) → ∀ (ls : Array Slot), lv_has ls 11 [(9, .int (((0 ||| z72) ||| z93) ||| z112)), (0, .ref o), (1, .int (nI c0)), (2, .int (nI x)), (3, .int am), (4, .int dc), (5, .int ins), (6, .int (nI (22 + 11 * c0))), (7, .int (d 3)), (8, .int (nI t)), (10, .int (nI j))] → W p l e (Rm 4 86 0 0) s m ([.ref o, .int (nI c0), .int (nI x), .int am, .int dc, .int ins] : List Value).toArray below meth c s.heap [] 0 0 (MQ below (rQ (some (.int (faults d c0 x am dc ins)))) ([.ref o, .int (nI c0), .int (nI x), .int am, .int dc, .int ins] : List Value).toArray s 0 0 (fun _ => False)) (F0 m 158 ls [.int z135, .int (((0 ||| z72) ||| z93) ||| z112)]) := by
                intro z135 h_z135 ls hl
                refine lv_ior hx hb dX5_faultsOf_158 ?_
                refine lv_istore (lv' := [(9, .int ((((0 ||| z72) ||| z93) ||| z112) ||| z135)), (0, .ref o), (1, .int (nI c0)), (2, .int (nI x)), (3, .int am), (4, .int dc), (5, .int ins), (6, .int (nI (22 + 11 * c0))), (7, .int (d 3)), (8, .int (nI t)), (10, .int (nI j))]) hx hb dX5_faultsOf_159 hl (by decide) rfl (fun ls hl => ?_)
                refine lv_iload hx hb dX5_faultsOf_161 (lv_at hl 0 rfl) ?_
                refine lv_aload_n hx hb dX5_faultsOf_163 rfl (lv_at hl 1 rfl) ?_
                refine va_get hx hb hts in_X5 hown hK hP 0 rfl rfl 8 (by decide) (hts _ q1670) (fun _ h => h) h8 dX5_faultsOf_164 ?_
                refine lv_iload hx hb dX5_faultsOf_167 (lv_at hl 7 rfl) ?_
                refine lv_bipush (v := 9) hx hb dX5_faultsOf_169 rfl ?_
                refine lv_iadd hx hb dX5_faultsOf_171 ?_
                refine w_topi (y := nI ((22 + 11 * c0) + 9)) (nI_add (22 + 11 * c0) 9) ?_
                refine w_iald hx hb hK hP 1 rfl ((22 + 11 * c0) + 9) rfl (by omega) (Nat.le_of_ble_eq_true rfl) dX5_faultsOf_172 ?_
                refine lv_iload hx hb dX5_faultsOf_173 (lv_at hl 5 rfl) ?_
                refine lv_iconst (v := (-1)) hx hb dX5_faultsOf_175 rfl ?_
                refine lv_ixor hx hb dX5_faultsOf_176 ?_
                refine lv_iand hx hb dX5_faultsOf_177 ?_
                have J_187 : ∀ (z178 : Int32), (z178 = pick (¬ cf d c0 9 &&& (dc ^^^ (-1)) = 0) 16) → ∀ (ls : Array Slot), lv_has ls 11 [(9, .int ((((0 ||| z72) ||| z93) ||| z112) ||| z135)), (0, .ref o), (1, .int (nI c0)), (2, .int (nI x)), (3, .int am), (4, .int dc), (5, .int ins), (6, .int (nI (22 + 11 * c0))), (7, .int (d 3)), (8, .int (nI t)), (10, .int (nI j))] → W p l e (Rm 4 86 0 0) s m ([.ref o, .int (nI c0), .int (nI x), .int am, .int dc, .int ins] : List Value).toArray below meth c s.heap [] 0 0 (MQ below (rQ (some (.int (faults d c0 x am dc ins)))) ([.ref o, .int (nI c0), .int (nI x), .int am, .int dc, .int ins] : List Value).toArray s 0 0 (fun _ => False)) (F0 m 187 ls [.int z178, .int ((((0 ||| z72) ||| z93) ||| z112) ||| z135)]) := by
                  intro z178 h_z178 ls hl
                  refine lv_ior hx hb dX5_faultsOf_187 ?_
                  refine lv_istore (lv' := [(9, .int (((((0 ||| z72) ||| z93) ||| z112) ||| z135) ||| z178)), (0, .ref o), (1, .int (nI c0)), (2, .int (nI x)), (3, .int am), (4, .int dc), (5, .int ins), (6, .int (nI (22 + 11 * c0))), (7, .int (d 3)), (8, .int (nI t)), (10, .int (nI j))]) hx hb dX5_faultsOf_188 hl (by decide) rfl (fun ls hl => ?_)
                  refine lv_iload hx hb dX5_faultsOf_190 (lv_at hl 0 rfl) ?_
                  refine lv_aload_n hx hb dX5_faultsOf_192 rfl (lv_at hl 1 rfl) ?_
                  refine va_get hx hb hts in_X5 hown hK hP 0 rfl rfl 8 (by decide) (hts _ q1670) (fun _ h => h) h8 dX5_faultsOf_193 ?_
                  refine lv_iload hx hb dX5_faultsOf_196 (lv_at hl 7 rfl) ?_
                  refine lv_bipush (v := 9) hx hb dX5_faultsOf_198 rfl ?_
                  refine lv_iadd hx hb dX5_faultsOf_200 ?_
                  refine w_topi (y := nI ((22 + 11 * c0) + 9)) (nI_add (22 + 11 * c0) 9) ?_
                  refine w_iald hx hb hK hP 1 rfl ((22 + 11 * c0) + 9) rfl (by omega) (Nat.le_of_ble_eq_true rfl) dX5_faultsOf_201 ?_
                  refine lv_bipush (v := 7) hx hb dX5_faultsOf_202 rfl ?_
                  refine lv_ishr hx hb dX5_faultsOf_204 ?_
                  refine lv_iconst (v := 1) hx hb dX5_faultsOf_205 rfl ?_
                  refine lv_iand hx hb dX5_faultsOf_206 ?_
                  refine lv_iconst (v := 1) hx hb dX5_faultsOf_207 rfl ?_
                  have J_228 : ∀ (z208 : Int32), (z208 = pick ((cf d c0 9 >>> ((7 : Int32) &&& 31)) &&& 1 = 1 ∧ ins < am + am / 10) 32) → ∀ (ls : Array Slot), lv_has ls 11 [(9, .int (((((0 ||| z72) ||| z93) ||| z112) ||| z135) ||| z178)), (0, .ref o), (1, .int (nI c0)), (2, .int (nI x)), (3, .int am), (4, .int dc), (5, .int ins), (6, .int (nI (22 + 11 * c0))), (7, .int (d 3)), (8, .int (nI t)), (10, .int (nI j))] → W p l e (Rm 4 86 0 0) s m ([.ref o, .int (nI c0), .int (nI x), .int am, .int dc, .int ins] : List Value).toArray below meth c s.heap [] 0 0 (MQ below (rQ (some (.int (faults d c0 x am dc ins)))) ([.ref o, .int (nI c0), .int (nI x), .int am, .int dc, .int ins] : List Value).toArray s 0 0 (fun _ => False)) (F0 m 228 ls [.int z208, .int (((((0 ||| z72) ||| z93) ||| z112) ||| z135) ||| z178)]) := by
                    intro z208 h_z208 ls hl
                    refine lv_ior hx hb dX5_faultsOf_228 ?_
                    refine lv_istore (lv' := [(9, .int ((((((0 ||| z72) ||| z93) ||| z112) ||| z135) ||| z178) ||| z208)), (0, .ref o), (1, .int (nI c0)), (2, .int (nI x)), (3, .int am), (4, .int dc), (5, .int ins), (6, .int (nI (22 + 11 * c0))), (7, .int (d 3)), (8, .int (nI t)), (10, .int (nI j))]) hx hb dX5_faultsOf_229 hl (by decide) rfl (fun ls hl => ?_)
                    refine lv_iload hx hb dX5_faultsOf_231 (lv_at hl 0 rfl) ?_
                    refine lv_iload_n hx hb dX5_faultsOf_233 rfl (lv_at hl 3 rfl) ?_
                    refine lv_iload hx hb dX5_faultsOf_234 (lv_at hl 8 rfl) ?_
                    have J_245 : ∀ (z236 : Int32), (z236 = pick (d 3 < nI x) 64) → ∀ (ls : Array Slot), lv_has ls 11 [(9, .int ((((((0 ||| z72) ||| z93) ||| z112) ||| z135) ||| z178) ||| z208)), (0, .ref o), (1, .int (nI c0)), (2, .int (nI x)), (3, .int am), (4, .int dc), (5, .int ins), (6, .int (nI (22 + 11 * c0))), (7, .int (d 3)), (8, .int (nI t)), (10, .int (nI j))] → W p l e (Rm 4 86 0 0) s m ([.ref o, .int (nI c0), .int (nI x), .int am, .int dc, .int ins] : List Value).toArray below meth c s.heap [] 0 0 (MQ below (rQ (some (.int (faults d c0 x am dc ins)))) ([.ref o, .int (nI c0), .int (nI x), .int am, .int dc, .int ins] : List Value).toArray s 0 0 (fun _ => False)) (F0 m 245 ls [.int z236, .int ((((((0 ||| z72) ||| z93) ||| z112) ||| z135) ||| z178) ||| z208)]) := by
                      intro z236 h_z236 ls hl
                      refine lv_ior hx hb dX5_faultsOf_245 ?_
                      exact r_iret C (by rw [h_z72, h_z93, h_z112, h_z135, h_z178, h_z208, h_z236]; rfl) dX5_faultsOf_246
                    refine lv_icmp_le (tgt := 244) hx hb dX5_faultsOf_236 (by decide) (fun c_236 => ?_) (fun c_236 => ?_)
                    · refine lv_iconst (v := 0) hx hb dX5_faultsOf_244 rfl ?_
                      exact J_245 0 (by first | exact (pick_t (Int32.not_le.mp c_236)).symm | exact (pick_f (Int32.not_lt.mpr c_236)).symm) ls hl
                    · refine lv_bipush (v := 64) hx hb dX5_faultsOf_239 rfl ?_
                      refine lv_goto (tgt := 245) hx hb dX5_faultsOf_241 (by decide) ?_
                      exact J_245 64 (by first | exact (pick_t (Int32.not_le.mp c_236)).symm | exact (pick_f (Int32.not_lt.mpr c_236)).symm) ls hl
                  refine lv_icmp_ne (tgt := 227) hx hb dX5_faultsOf_208 (by decide) (fun c_208 => ?_) (fun c_208 => ?_)
                  · refine lv_iconst (v := 0) hx hb dX5_faultsOf_227 rfl ?_
                    exact J_228 0 (by first | exact (pick_t ⟨c_208, Int32.not_le.mp c_219⟩).symm | exact (pick_f (fun h => c_208 h.1)).symm | exact (pick_f (fun h => absurd c_219 (Int32.not_le.mpr h.2))).symm) ls hl
                  · refine lv_iload hx hb dX5_faultsOf_211 (lv_at hl 6 rfl) ?_
                    refine lv_iload_n hx hb dX5_faultsOf_213 rfl (lv_at hl 4 rfl) ?_
                    refine lv_iload_n hx hb dX5_faultsOf_214 rfl (lv_at hl 4 rfl) ?_
                    refine lv_bipush (v := 10) hx hb dX5_faultsOf_215 rfl ?_
                    refine lv_idiv hx hb dX5_faultsOf_217 (by decide) ?_
                    refine lv_iadd hx hb dX5_faultsOf_218 ?_
                    refine lv_icmp_ge (tgt := 227) hx hb dX5_faultsOf_219 (by decide) (fun c_219 => ?_) (fun c_219 => ?_)
                    · refine lv_iconst (v := 0) hx hb dX5_faultsOf_227 rfl ?_
                      exact J_228 0 (by first | exact (pick_t ⟨c_208, Int32.not_le.mp c_219⟩).symm | exact (pick_f (fun h => c_208 h.1)).symm | exact (pick_f (fun h => absurd c_219 (Int32.not_le.mpr h.2))).symm) ls hl
                    · refine lv_bipush (v := 32) hx hb dX5_faultsOf_222 rfl ?_
                      refine lv_goto (tgt := 228) hx hb dX5_faultsOf_224 (by decide) ?_
                      exact J_228 32 (by first | exact (pick_t ⟨c_208, Int32.not_le.mp c_219⟩).symm | exact (pick_f (fun h => c_208 h.1)).symm | exact (pick_f (fun h => absurd c_219 (Int32.not_le.mpr h.2))).symm) ls hl
                refine lv_if_eq (tgt := 186) hx hb dX5_faultsOf_178 (by decide) (fun c_178 => ?_) (fun c_178 => ?_)
                · refine lv_iconst (v := 0) hx hb dX5_faultsOf_186 rfl ?_
                  exact J_187 0 (by first | exact (pick_t c_178).symm | exact (pick_f (fun h => h c_178)).symm) ls hl
                · refine lv_bipush (v := 16) hx hb dX5_faultsOf_181 rfl ?_
                  refine lv_goto (tgt := 187) hx hb dX5_faultsOf_183 (by decide) ?_
                  exact J_187 16 (by first | exact (pick_t c_178).symm | exact (pick_f (fun h => h c_178)).symm) ls hl
              refine lv_if_ne (tgt := 157) hx hb dX5_faultsOf_135 (by decide) (fun c_135 => ?_) (fun c_135 => ?_)
              · refine lv_iconst (v := 0) hx hb dX5_faultsOf_157 rfl ?_
                exact J_158 0 (pick_f (fun h => c_135 h.1)).symm ls hl
              · refine lv_iload_n hx hb dX5_faultsOf_138 rfl (lv_at hl 4 rfl) ?_
                refine lv_aload_n hx hb dX5_faultsOf_139 rfl (lv_at hl 1 rfl) ?_
                refine lv_iload_n hx hb dX5_faultsOf_140 rfl (lv_at hl 2 rfl) ?_
                refine r_callV (As := [.int (nI c0)]) (rest := [.int am, .int (((0 ||| z72) ||| z93) ||| z112)]) C (m_least l D k o a8 fs d h8 hd c0 (by omega)) (cwV 1 hts (lw_V q1897 q1899 qs54 q76 q1900) rfl rfl rfl (by decide +kernel) ⟨Nat.le_of_ble_eq_true rfl, Nat.le_of_ble_eq_true rfl⟩) hK (va_recv hK hP (ci := 0) (q0 := 0) rfl rfl) hP rfl hl.1 rfl (Nat.le_of_ble_eq_true rfl) dX5_faultsOf_141 ⟨Nat.le_of_ble_eq_true rfl, Nat.le_of_ble_eq_true rfl⟩ ?_
                refine lv_icmp_lt (tgt := 152) hx hb dX5_faultsOf_144 (by decide) (fun c_144 => ?_) (fun c_144 => ?_)
                · refine lv_bipush (v := 8) hx hb dX5_faultsOf_152 rfl ?_
                  refine lv_goto (tgt := 158) hx hb dX5_faultsOf_154 (by decide) ?_
                  exact J_158 8 (pick_t ⟨c_135, Or.inl c_144⟩).symm ls hl
                · refine lv_iload hx hb dX5_faultsOf_147 (lv_at hl 9 rfl) ?_
                  refine lv_if_le (tgt := 157) hx hb dX5_faultsOf_149 (by decide) (fun c_149 => ?_) (fun c_149 => ?_)
                  · refine lv_iconst (v := 0) hx hb dX5_faultsOf_157 rfl ?_
                    exact J_158 0 (pick_f (fun h => h.2.elim c_144 (fun h => absurd (hoth.mpr h) (by have := nI_le' (b := 0) c_149 (by omega) (by decide); omega)))).symm ls hl
                  · refine lv_bipush (v := 8) hx hb dX5_faultsOf_152 rfl ?_
                    refine lv_goto (tgt := 158) hx hb dX5_faultsOf_154 (by decide) ?_
                    exact J_158 8 (pick_t ⟨c_135, Or.inr (hoth.mp (nI_nle' (b := 0) c_149 (by omega) (by decide)))⟩).symm ls hl
            refine lv_icmp_le (tgt := 119) hx hb dX5_faultsOf_112 (by decide) (fun c_112 => ?_) (fun c_112 => ?_)
            · refine lv_iconst (v := 0) hx hb dX5_faultsOf_119 rfl ?_
              exact J_120 0 (by first | exact (pick_t (Int32.not_le.mp c_112)).symm | exact (pick_f (Int32.not_lt.mpr c_112)).symm) ls hl
            · refine lv_iconst (v := 4) hx hb dX5_faultsOf_115 rfl ?_
              refine lv_goto (tgt := 120) hx hb dX5_faultsOf_116 (by decide) ?_
              exact J_120 4 (by first | exact (pick_t (Int32.not_le.mp c_112)).symm | exact (pick_f (Int32.not_lt.mpr c_112)).symm) ls hl
          refine lv_icmp_le (tgt := 100) hx hb dX5_faultsOf_93 (by decide) (fun c_93 => ?_) (fun c_93 => ?_)
          · refine lv_iconst (v := 0) hx hb dX5_faultsOf_100 rfl ?_
            exact J_101 0 (by first | exact (pick_t (Int32.not_le.mp c_93)).symm | exact (pick_f (Int32.not_lt.mpr c_93)).symm) ls hl
          · refine lv_iconst (v := 2) hx hb dX5_faultsOf_96 rfl ?_
            refine lv_goto (tgt := 101) hx hb dX5_faultsOf_97 (by decide) ?_
            exact J_101 2 (by first | exact (pick_t (Int32.not_le.mp c_93)).symm | exact (pick_f (Int32.not_lt.mpr c_93)).symm) ls hl
        refine lv_icmp_le (tgt := 79) hx hb dX5_faultsOf_72 (by decide) (fun c_72 => ?_) (fun c_72 => ?_)
        · refine lv_iconst (v := 0) hx hb dX5_faultsOf_79 rfl ?_
          exact J_80 0 (by first | exact (pick_t (Int32.not_le.mp c_72)).symm | exact (pick_f (Int32.not_lt.mpr c_72)).symm) ls hl
        · refine lv_iconst (v := 1) hx hb dX5_faultsOf_75 rfl ?_
          refine lv_goto (tgt := 80) hx hb dX5_faultsOf_76 (by decide) ?_
          exact J_80 1 (by first | exact (pick_t (Int32.not_le.mp c_72)).symm | exact (pick_f (Int32.not_lt.mpr c_72)).symm) ls hl
      · have g_31 := nI_nle' c_31 (by omega) (by omega)
        refine lv_iload hx hb dX5_faultsOf_34 (lv_at hl 8 rfl) ?_
        refine lv_aload_n hx hb dX5_faultsOf_36 rfl (lv_at hl 0 rfl) ?_
        refine lv_iload hx hb dX5_faultsOf_37 (lv_at hl 10 rfl) ?_
        refine lv_iload_n hx hb dX5_faultsOf_39 rfl (lv_at hl 1 rfl) ?_
        refine r_callV (As := [.int (nI j), .int (nI c0)]) (rest := [.int (nI t)]) C (m_stands l D k o a8 fs d h8 hd j (nI c0) (by omega)) (cwV 2 hts (lw_V q1913 q1915 qs56 q76 q1916) rfl rfl rfl (by decide +kernel) ⟨Nat.le_of_ble_eq_true rfl, Nat.le_of_ble_eq_true rfl⟩) hK (va_recv hK hP (ci := 0) (q0 := 0) rfl rfl) hP rfl hl.1 rfl (Nat.le_of_ble_eq_true rfl) dX5_faultsOf_40 ⟨Nat.le_of_ble_eq_true rfl, Nat.le_of_ble_eq_true rfl⟩ ?_
        have J_51 : ∀ (z : Int32), (∃ t2 : Nat, nI t + z = nI t2 ∧ t2 ≤ j + 1 ∧ (0 < t2 ↔ ∃ q, q < j + 1 ∧ stands d q (nI c0))) → ∀ (ls : Array Slot), lv_has ls 11 [(0, .ref o), (1, .int (nI c0)), (2, .int (nI x)), (3, .int am), (4, .int dc), (5, .int ins), (6, .int (nI (22 + 11 * c0))), (7, .int (d 3)), (8, .int (nI t)), (9, .int 0), (10, .int (nI j))] → W p l e (Rm 4 86 0 0) s m ([.ref o, .int (nI c0), .int (nI x), .int am, .int dc, .int ins] : List Value).toArray below meth c s.heap [] 0 0 (MQ below (rQ (some (.int (faults d c0 x am dc ins)))) ([.ref o, .int (nI c0), .int (nI x), .int am, .int dc, .int ins] : List Value).toArray s 0 0 (fun _ => False)) (F0 m 51 ls [.int z, .int (nI t)]) := by
          intro z h_z ls hl
          obtain ⟨t2, et2, ht2, hu2⟩ := h_z
          refine lv_iadd hx hb dX5_faultsOf_51 ?_
          refine w_topi (y := nI t2) et2 ?_
          refine lv_istore (lv' := [(8, .int (nI t2)), (0, .ref o), (1, .int (nI c0)), (2, .int (nI x)), (3, .int am), (4, .int dc), (5, .int ins), (6, .int (nI (22 + 11 * c0))), (7, .int (d 3)), (9, .int 0), (10, .int (nI j))]) hx hb dX5_faultsOf_52 hl (by decide) rfl (fun ls hl => ?_)
          refine lv_iinc (v := nI (j + 1)) (lv' := [(10, .int (nI (j + 1))), (8, .int (nI t2)), (0, .ref o), (1, .int (nI c0)), (2, .int (nI x)), (3, .int am), (4, .int dc), (5, .int ins), (6, .int (nI (22 + 11 * c0))), (7, .int (d 3)), (9, .int 0)]) hx hb dX5_faultsOf_54 hl (k := 10) rfl (nI_1 j) (by decide) rfl (fun ls hl => ?_)
          refine lv_goto (tgt := 23) hx hb dX5_faultsOf_57 (by decide) ?_
          exact ih_23 (j + 1) t2 (by omega) (by omega) (by omega) hu2 ls (lv_sub hl [2, 3, 4, 5, 6, 7, 8, 9, 1, 10, 0] rfl)
        refine lv_if_eq (tgt := 50) hx hb dX5_faultsOf_43 (by decide) (fun c_43 => ?_) (fun c_43 => ?_)
        · have b_43 := bI_0.mp c_43
          refine lv_iconst (v := 0) hx hb dX5_faultsOf_50 rfl ?_
          exact J_51 0 (by first | exact ⟨t + 1, nI_1 t, by omega, ⟨fun _ => ⟨j, by omega, b_43⟩, fun _ => by omega⟩⟩ | exact ⟨t, nI_add t 0, by omega, hu.trans ⟨fun ⟨q, a, b⟩ => ⟨q, by omega, b⟩, fun ⟨q, a, b⟩ => ⟨q, by rcases Nat.lt_or_ge q j with z | z; exact z; exact absurd (by rw [show j = q by omega]; exact b : stands d j (nI c0)) b_43, b⟩⟩⟩) ls hl
        · have b_43 := bI_nz c_43
          refine lv_iconst (v := 1) hx hb dX5_faultsOf_46 rfl ?_
          refine lv_goto (tgt := 51) hx hb dX5_faultsOf_47 (by decide) ?_
          exact J_51 1 (by first | exact ⟨t + 1, nI_1 t, by omega, ⟨fun _ => ⟨j, by omega, b_43⟩, fun _ => by omega⟩⟩ | exact ⟨t, nI_add t 0, by omega, hu.trans ⟨fun ⟨q, a, b⟩ => ⟨q, by omega, b⟩, fun ⟨q, a, b⟩ => ⟨q, by rcases Nat.lt_or_ge q j with z | z; exact z; exact absurd (by rw [show j = q by omega]; exact b : stands d j (nI c0)) b_43, b⟩⟩⟩) ls hl
  exact loop_23 (dN d 1 + 1) 0 0 (Nat.zero_le _) (by omega) (Nat.le_refl _) ⟨fun h => absurd h (by omega), fun ⟨q, h, _⟩ => absurd h (by omega)⟩ ls (lv_sub hl [5, 6, 7, 8, 9, 10, 4, 3, 2, 1, 0] rfl)
set_option maxHeartbeats 4000000 in
theorem m_isWrong (l : Launch) (D : va_G) (k : Nat → ClassId) (o : Nat) (fs : List Value) (x am dc ins : Int32) : rM l D k yX5_isWrong cX5_isWrong 5 (some .boolean) 2 42 [.ref o, .int x, .int am, .int dc, .int ins] (va_P D clA [(o, .inr (0, fs))]) (some (.int (bI (wrong x am dc ins)))) := by
  refine rM_of (by decide) (Nat.le_of_ble_eq_true rfl) ?_
  intro p e s m below meth c ls C hK hP hl
  obtain ⟨hx, hb, hr, hml, hown, hts, hlk⟩ := id C
  have hl : lv_has ls 5 [(0, .ref o), (1, .int x), (2, .int am), (3, .int dc), (4, .int ins)] := hl
  refine lv_iload_n hx hb dX5_isWrong_0 rfl (lv_at hl 1 rfl) ?_
  refine r_callS (As := [.int x]) (rest := []) C (m_isDay l D k x) (va_cwS 1 hts (lw_S q1846 q1847 q76 q1848) rfl rfl rfl (by decide +kernel) ⟨Nat.le_of_ble_eq_true rfl, Nat.le_of_ble_eq_true rfl⟩) hK trivial rfl hl.1 rfl (Nat.le_of_ble_eq_true rfl) dX5_isWrong_1 ⟨Nat.le_of_ble_eq_true rfl, Nat.le_of_ble_eq_true rfl⟩ ?_
  refine lv_if_eq (tgt := 33) hx hb dX5_isWrong_4 (by decide) (fun c_4 => ?_) (fun c_4 => ?_)
  · have b_4 := bI_0.mp c_4
    refine lv_iconst (v := 1) hx hb dX5_isWrong_33 rfl ?_
    refine lv_goto (tgt := 38) hx hb dX5_isWrong_34 (by decide) ?_
    exact r_zret C (by first | exact bI_t (Or.inl b_4) | exact bI_t (Or.inr (Or.inl b_14)) | exact bI_t (Or.inr (Or.inr (Or.inl b_25))) | exact bI_t (Or.inr (Or.inr (Or.inr (Int32.not_le.mp c_30)))) | exact bI_f (fun h => h.elim (fun h => h b_4) (fun h => h.elim (fun h => h b_14) (fun h => h.elim (fun h => h b_25) (fun h => absurd c_30 (Int32.not_le.mpr h)))))) dX5_isWrong_38
  · have b_4 := bI_nz c_4
    refine lv_iload_n hx hb dX5_isWrong_7 rfl (lv_at hl 2 rfl) ?_
    refine lv_iconst (v := 1) hx hb dX5_isWrong_8 rfl ?_
    refine lv_ldc (v := 1999999) hx hb hown (hts _ q1944) dX5_isWrong_9 ?_
    refine r_callS (As := [.int am, .int 1, .int 1999999]) (rest := []) C (m_in l D k am 1 1999999) (va_cwS 3 hts (lw_S q1724 q1725 q76 q1726) rfl rfl rfl (by decide +kernel) ⟨Nat.le_of_ble_eq_true rfl, Nat.le_of_ble_eq_true rfl⟩) hK trivial rfl hl.1 rfl (Nat.le_of_ble_eq_true rfl) dX5_isWrong_11 ⟨Nat.le_of_ble_eq_true rfl, Nat.le_of_ble_eq_true rfl⟩ ?_
    refine lv_if_eq (tgt := 33) hx hb dX5_isWrong_14 (by decide) (fun c_14 => ?_) (fun c_14 => ?_)
    · have b_14 := bI_0.mp c_14
      refine lv_iconst (v := 1) hx hb dX5_isWrong_33 rfl ?_
      refine lv_goto (tgt := 38) hx hb dX5_isWrong_34 (by decide) ?_
      exact r_zret C (by first | exact bI_t (Or.inl b_4) | exact bI_t (Or.inr (Or.inl b_14)) | exact bI_t (Or.inr (Or.inr (Or.inl b_25))) | exact bI_t (Or.inr (Or.inr (Or.inr (Int32.not_le.mp c_30)))) | exact bI_f (fun h => h.elim (fun h => h b_4) (fun h => h.elim (fun h => h b_14) (fun h => h.elim (fun h => h b_25) (fun h => absurd c_30 (Int32.not_le.mpr h)))))) dX5_isWrong_38
    · have b_14 := bI_nz c_14
      refine lv_iload_n hx hb dX5_isWrong_17 rfl (lv_at hl 3 rfl) ?_
      refine lv_iconst (v := 0) hx hb dX5_isWrong_18 rfl ?_
      refine lv_sipush (v := 255) hx hb dX5_isWrong_19 rfl ?_
      refine r_callS (As := [.int dc, .int 0, .int 255]) (rest := []) C (m_in l D k dc 0 255) (va_cwS 3 hts (lw_S q1724 q1725 q76 q1726) rfl rfl rfl (by decide +kernel) ⟨Nat.le_of_ble_eq_true rfl, Nat.le_of_ble_eq_true rfl⟩) hK trivial rfl hl.1 rfl (Nat.le_of_ble_eq_true rfl) dX5_isWrong_22 ⟨Nat.le_of_ble_eq_true rfl, Nat.le_of_ble_eq_true rfl⟩ ?_
      refine lv_if_eq (tgt := 33) hx hb dX5_isWrong_25 (by decide) (fun c_25 => ?_) (fun c_25 => ?_)
      · have b_25 := bI_0.mp c_25
        refine lv_iconst (v := 1) hx hb dX5_isWrong_33 rfl ?_
        refine lv_goto (tgt := 38) hx hb dX5_isWrong_34 (by decide) ?_
        exact r_zret C (by first | exact bI_t (Or.inl b_4) | exact bI_t (Or.inr (Or.inl b_14)) | exact bI_t (Or.inr (Or.inr (Or.inl b_25))) | exact bI_t (Or.inr (Or.inr (Or.inr (Int32.not_le.mp c_30)))) | exact bI_f (fun h => h.elim (fun h => h b_4) (fun h => h.elim (fun h => h b_14) (fun h => h.elim (fun h => h b_25) (fun h => absurd c_30 (Int32.not_le.mpr h)))))) dX5_isWrong_38
      · have b_25 := bI_nz c_25
        refine lv_iload hx hb dX5_isWrong_28 (lv_at hl 4 rfl) ?_
        refine lv_if_ge (tgt := 37) hx hb dX5_isWrong_30 (by decide) (fun c_30 => ?_) (fun c_30 => ?_)
        · refine lv_iconst (v := 0) hx hb dX5_isWrong_37 rfl ?_
          exact r_zret C (by first | exact bI_t (Or.inl b_4) | exact bI_t (Or.inr (Or.inl b_14)) | exact bI_t (Or.inr (Or.inr (Or.inl b_25))) | exact bI_t (Or.inr (Or.inr (Or.inr (Int32.not_le.mp c_30)))) | exact bI_f (fun h => h.elim (fun h => h b_4) (fun h => h.elim (fun h => h b_14) (fun h => h.elim (fun h => h b_25) (fun h => absurd c_30 (Int32.not_le.mpr h)))))) dX5_isWrong_38
        · refine lv_iconst (v := 1) hx hb dX5_isWrong_33 rfl ?_
          refine lv_goto (tgt := 38) hx hb dX5_isWrong_34 (by decide) ?_
          exact r_zret C (by first | exact bI_t (Or.inl b_4) | exact bI_t (Or.inr (Or.inl b_14)) | exact bI_t (Or.inr (Or.inr (Or.inl b_25))) | exact bI_t (Or.inr (Or.inr (Or.inr (Int32.not_le.mp c_30)))) | exact bI_f (fun h => h.elim (fun h => h b_4) (fun h => h.elim (fun h => h b_14) (fun h => h.elim (fun h => h b_25) (fun h => absurd c_30 (Int32.not_le.mpr h)))))) dX5_isWrong_38
