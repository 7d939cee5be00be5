/-! the reference: words in the text (printed by gen/m12.py) -/
set_option maxRecDepth 100000
set_option maxHeartbeats 16000000 in
theorem m_takeWord (l : Launch) (D : va_G) (k : Nat → ClassId) (o a1 a8 a9 a10 a15 : Nat) (t bl eo ud ne se : Int32) (wr : va_W) (d dr fb : Nat → Int32) (L : Nat) (hL : L ≤ 900) (σ : PS) (A : Nat → Prop) (hD : va_D A ((o, .inr (0, [.int t, .ref a1, .int bl, .int (nI L), .int (nI σ.1), .int σ.2.1, .int σ.2.2.1, .int eo, .ref a8, .ref a9, .ref a10, .int ud, .int (nI σ.2.2.2), .int ne, .int se, .ref a15])) :: (a8, .inl (k 0, 1798, .inl d)) :: (a9, .inl (k 0, 1798, .inl dr)) :: (a1, .inl (k 0, 900, .inl fb)) :: wr)) (hok : okS L σ) (a v n0 : Nat) (f : Nat → Int32) (hn0 : n0 ≤ 100) : xM l D k yX5_takeWord cX5_takeWord 3 (some .boolean) 4 85 [.ref o, .ref a] ((o, .inr (0, [.int t, .ref a1, .int bl, .int (nI L), .int (nI σ.1), .int σ.2.1, .int σ.2.2.1, .int eo, .ref a8, .ref a9, .ref a10, .int ud, .int (nI σ.2.2.2), .int ne, .int se, .ref a15])) :: (a8, .inl (k 0, 1798, .inl d)) :: (a9, .inl (k 0, 1798, .inl dr)) :: (a1, .inl (k 0, 900, .inl fb)) :: wr) (fun U => EnX A U ∧ stX A a v n0 f U) (some (.int (bI (twB fb L n0 (chC f) σ)))) ((o, .inr (0, [.int t, .ref a1, .int bl, .int (nI L), .int (nI (twS fb L n0 (chC f) σ).1), .int ((twS fb L n0 (chC f) σ).2.1), .int ((twS fb L n0 (chC f) σ).2.2.1), .int eo, .ref a8, .ref a9, .ref a10, .int ud, .int (nI (twS fb L n0 (chC f) σ).2.2.2), .int ne, .int se, .ref a15])) :: (a8, .inl (k 0, 1798, .inl d)) :: (a9, .inl (k 0, 1798, .inl dr)) :: (a1, .inl (k 0, 900, .inl fb)) :: wr) A := by
  refine xM_of (by decide) (Nat.le_of_ble_eq_true rfl) ?_
  intro p e s m below meth c ls C hK hX hP hS hl
  obtain ⟨hE, hC⟩ := id hX
  obtain ⟨hx, hb, hr, hml, hown, hts, hlk⟩ := id C
  have hl : lv_has ls 3 [(0, .ref o), (1, .ref a)] := hl
  refine lv_aload_n hx hb dX5_takeWord_0 rfl (lv_at hl 0 rfl) ?_
  refine r_callV (As := []) (rest := []) C (m_isGood l D k o σ.2.1 ([.int t, .ref a1, .int bl, .int (nI L), .int (nI σ.1), .int σ.2.1, .int σ.2.2.1, .int eo, .ref a8, .ref a9, .ref a10, .int ud, .int (nI σ.2.2.2), .int ne, .int se, .ref a15] : List Value) rfl) (cwV 0 hts (lw_V q1731 q1733 qs32 q76 q1734) rfl rfl rfl (by decide +kernel) ⟨Nat.le_of_ble_eq_true rfl, Nat.le_of_ble_eq_true rfl⟩) hK (va_recv hK hP (ci := 0) (q0 := 0) rfl rfl) (hP.sub [0] rfl) rfl hl.1 rfl (Nat.le_of_ble_eq_true rfl) dX5_takeWord_1 ⟨Nat.le_of_ble_eq_true rfl, Nat.le_of_ble_eq_true rfl⟩ ?_
  refine lv_if_ne (tgt := 9) hx hb dX5_takeWord_4 (by decide) (fun c_4 => ?_) (fun c_4 => ?_)
  · have b_4 := bI_nz c_4
    have hp := hok.1 b_4
    have hs := sk_in (fb := fb) hp
    refine lv_aload_n hx hb dX5_takeWord_9 rfl (lv_at hl 0 rfl) ?_
    refine w_callV (As := []) (rest := []) C (m_next l D k o a1 a8 a9 a10 a15 t bl σ.2.1 σ.2.2.1 eo ud (nI σ.2.2.2) ne se wr d dr fb L hL σ.1 A (va_D_of hD rfl) hp) (cwV 0 hts (lw_V q1735 q1737 qs33 q76 q1738) rfl rfl rfl (by decide +kernel) ⟨Nat.le_of_ble_eq_true rfl, Nat.le_of_ble_eq_true rfl⟩) hK (va_recv hK hP (ci := 0) (q0 := 0) rfl rfl) hP hS (fun _ h => h) rfl hl.1 rfl (Nat.le_of_ble_eq_true rfl) dX5_takeWord_10 ⟨Nat.le_of_ble_eq_true rfl, Nat.le_of_ble_eq_true rfl⟩ (fun H locs hP hS _ _ => ?_)
    have hP : va_P D clA ((o, .inr (0, [.int t, .ref a1, .int bl, .int (nI L), .int (nI (sk fb L σ.1)), .int σ.2.1, .int σ.2.2.1, .int eo, .ref a8, .ref a9, .ref a10, .int ud, .int (nI σ.2.2.2), .int ne, .int se, .ref a15])) :: (a8, .inl (k 0, 1798, .inl d)) :: (a9, .inl (k 0, 1798, .inl dr)) :: (a1, .inl (k 0, 900, .inl fb)) :: wr) H := hP
    refine lv_pop hx hb dX5_takeWord_13 rfl ?_
    refine lv_iconst (v := 0) hx hb dX5_takeWord_14 rfl ?_
    refine lv_istore_n (lv' := [(2, .int 0), (0, .ref o), (1, .ref a)]) hx hb dX5_takeWord_15 rfl hl (by decide) rfl (fun ls hl => ?_)
    have loop_16 : ∀ (n : Nat) (j : Nat), (j ≤ n0) → (∀ a, a < j → byt fb L (sk fb L σ.1 + a) = chC f a) → (n0 + 1 ≤ j + n) → ∀ (ls : Array Slot), lv_has ls 3 [(0, .ref o), (1, .ref a), (2, .int (nI j))] → W p l e (Rm 4 85 0 0) s m ([.ref o, .ref a] : List Value).toArray below meth c H locs 0 0 (MQ below (wQ D (some (.int (bI (twB fb L n0 (chC f) σ)))) ((o, .inr (0, [.int t, .ref a1, .int bl, .int (nI L), .int (nI (twS fb L n0 (chC f) σ).1), .int ((twS fb L n0 (chC f) σ).2.1), .int ((twS fb L n0 (chC f) σ).2.2.1), .int eo, .ref a8, .ref a9, .ref a10, .int ud, .int (nI (twS fb L n0 (chC f) σ).2.2.2), .int ne, .int se, .ref a15])) :: (a8, .inl (k 0, 1798, .inl d)) :: (a9, .inl (k 0, 1798, .inl dr)) :: (a1, .inl (k 0, 900, .inl fb)) :: wr) A) ([.ref o, .ref a] : List Value).toArray s 0 0 A) (F0 m 16 ls []) := by
      intro n
      induction n with
      | zero =>
        intro j hj hq hn
        exact absurd hn (by omega)
      | succ n ih_16 =>
        intro j hj hq hn ls hl
        refine lv_iload_n hx hb dX5_takeWord_16 rfl (lv_at hl 2 rfl) ?_
        refine lv_aload_n hx hb dX5_takeWord_17 rfl (lv_at hl 1 rfl) ?_
        refine s_callV (As := []) (rest := [.int (nI j)]) C (j_length l D k a v n0 f) (cwV 0 hts (lw_V q1752 q723 q724 q84 q725) rfl rfl rfl (by decide +kernel) ⟨Nat.le_of_ble_eq_true rfl, Nat.le_of_ble_eq_true rfl⟩) hK (stX_rc hC hS) (mv_and mv_EnS mv_stC) (fun U hU hW => ⟨EnX_at hE hS U hU hW, stX_at hC hS U hU hW⟩) rfl hl.1 rfl (Nat.le_of_ble_eq_true rfl) dX5_takeWord_18 ⟨Nat.le_of_ble_eq_true rfl, Nat.le_of_ble_eq_true rfl⟩ ?_
        refine lv_icmp_ge (tgt := 48) hx hb dX5_takeWord_21 (by decide) (fun c_21 => ?_) (fun c_21 => ?_)
        · have g_21 := nI_le' c_21 (by omega) (by omega)
          refine lv_iload_n hx hb dX5_takeWord_48 rfl (lv_at hl 2 rfl) ?_
          refine lv_aload_n hx hb dX5_takeWord_49 rfl (lv_at hl 1 rfl) ?_
          refine s_callV (As := []) (rest := [.int (nI j)]) C (j_length l D k a v n0 f) (cwV 0 hts (lw_V q1752 q723 q724 q84 q725) rfl rfl rfl (by decide +kernel) ⟨Nat.le_of_ble_eq_true rfl, Nat.le_of_ble_eq_true rfl⟩) hK (stX_rc hC hS) (mv_and mv_EnS mv_stC) (fun U hU hW => ⟨EnX_at hE hS U hU hW, stX_at hC hS U hU hW⟩) rfl hl.1 rfl (Nat.le_of_ble_eq_true rfl) dX5_takeWord_50 ⟨Nat.le_of_ble_eq_true rfl, Nat.le_of_ble_eq_true rfl⟩ ?_
          refine lv_icmp_lt (tgt := 76) hx hb dX5_takeWord_53 (by decide) (fun c_53 => ?_) (fun c_53 => ?_)
          · have g_53 := nI_lt' c_53 (by omega) (by omega)
            have hno : ¬ twP fb L n0 (chC f) (sk fb L σ.1) := by first | exact hno | exact absurd g_53 (by omega)
            refine lv_iconst (v := 0) hx hb dX5_takeWord_76 rfl ?_
            exact w_zret C (bI_f (fun h => hno h.2)) (by simp only [twS, ifp_t b_4, ifp_f hno]; exact hP) hS dX5_takeWord_77
          · have g_53 := nI_nlt' c_53 (by omega) (by omega)
            refine lv_aload_n hx hb dX5_takeWord_56 rfl (lv_at hl 0 rfl) ?_
            refine lv_aload_n hx hb dX5_takeWord_57 rfl (lv_at hl 0 rfl) ?_
            refine va_get hx hb hts in_X5 hown hK hP 0 rfl rfl 4 (by decide) (hts _ q1666) (fun _ h => h) rfl dX5_takeWord_58 ?_
            refine lv_iload_n hx hb dX5_takeWord_61 rfl (lv_at hl 2 rfl) ?_
            refine lv_iadd hx hb dX5_takeWord_62 ?_
            refine w_topi (y := nI ((sk fb L σ.1) + j)) (nI_add (sk fb L σ.1) j) ?_
            refine r_callV (As := [.int (nI ((sk fb L σ.1) + j))]) (rest := []) C (m_byteAt l D k o a1 L ((sk fb L σ.1) + j) ([.int t, .ref a1, .int bl, .int (nI L), .int (nI (sk fb L σ.1)), .int σ.2.1, .int σ.2.2.1, .int eo, .ref a8, .ref a9, .ref a10, .int ud, .int (nI σ.2.2.2), .int ne, .int se, .ref a15] : List Value) fb rfl rfl hL (by omega)) (cwV 1 hts (lw_V q1739 q1741 qs34 q76 q1742) rfl rfl rfl (by decide +kernel) ⟨Nat.le_of_ble_eq_true rfl, Nat.le_of_ble_eq_true rfl⟩) hK (va_recv hK hP (ci := 0) (q0 := 0) rfl rfl) (hP.sub [0, 3] rfl) rfl hl.1 rfl (Nat.le_of_ble_eq_true rfl) dX5_takeWord_63 ⟨Nat.le_of_ble_eq_true rfl, Nat.le_of_ble_eq_true rfl⟩ ?_
            refine lv_bipush (v := 97) hx hb dX5_takeWord_66 rfl ?_
            refine lv_bipush (v := 122) hx hb dX5_takeWord_68 rfl ?_
            refine r_callS (As := [.int (byt fb L ((sk fb L σ.1) + j)), .int 97, .int 122]) (rest := []) C (m_in l D k (byt fb L ((sk fb L σ.1) + j)) 97 122) (va_cwS 3 hts (lw_S q1724 q1725 q76 q1726) rfl rfl rfl (by decide +kernel) ⟨Nat.le_of_ble_eq_true rfl, Nat.le_of_ble_eq_true rfl⟩) hK trivial rfl hl.1 rfl (Nat.le_of_ble_eq_true rfl) dX5_takeWord_70 ⟨Nat.le_of_ble_eq_true rfl, Nat.le_of_ble_eq_true rfl⟩ ?_
            refine lv_if_eq (tgt := 78) hx hb dX5_takeWord_73 (by decide) (fun c_73 => ?_) (fun c_73 => ?_)
            · have b_73 := bI_0.mp c_73
              have hyes : twP fb L n0 (chC f) (sk fb L σ.1) := ⟨fun a ha => hq a (by omega), by rw [show n0 = j by omega]; exact b_73⟩
              have ejn : j = n0 := by omega
              refine lv_aload_n hx hb dX5_takeWord_78 rfl (lv_at hl 0 rfl) ?_
              refine lv_dup hx hb dX5_takeWord_79 rfl ?_
              refine va_get hx hb hts in_X5 hown hK hP 0 rfl rfl 4 (by decide) (hts _ q1666) (fun _ h => h) rfl dX5_takeWord_80 ?_
              refine lv_iload_n hx hb dX5_takeWord_83 rfl (lv_at hl 2 rfl) ?_
              refine lv_iadd hx hb dX5_takeWord_84 ?_
              refine w_topi (y := nI ((sk fb L σ.1) + j)) (nI_add (sk fb L σ.1) j) ?_
              refine va_put hx hb hts in_X5 tyX5 tyX5_ok nmX5 hown hK hP (va_D_of hD rfl) hS 0 rfl rfl 4 (by decide) (hts _ q1666) (fun _ h => h) rfl rfl rfl rfl (Nat.le_of_ble_eq_true rfl) dX5_takeWord_85 (fun H locs hP _ hS => ?_)
              have hP : va_P D clA ((o, .inr (0, [.int t, .ref a1, .int bl, .int (nI L), .int (nI ((sk fb L σ.1) + j)), .int σ.2.1, .int σ.2.2.1, .int eo, .ref a8, .ref a9, .ref a10, .int ud, .int (nI σ.2.2.2), .int ne, .int se, .ref a15])) :: (a8, .inl (k 0, 1798, .inl d)) :: (a9, .inl (k 0, 1798, .inl dr)) :: (a1, .inl (k 0, 900, .inl fb)) :: wr) H := hP
              refine lv_iconst (v := 1) hx hb dX5_takeWord_88 rfl ?_
              exact w_zret C (bI_t ⟨b_4, hyes⟩) (by simp only [twS, ifp_t b_4, ifp_t hyes]; rw [← ejn]; exact hP) hS dX5_takeWord_89
            · have b_73 := bI_nz c_73
              have hno : ¬ twP fb L n0 (chC f) (sk fb L σ.1) := fun h => h.2 (by rw [show n0 = j by omega]; exact b_73)
              refine lv_iconst (v := 0) hx hb dX5_takeWord_76 rfl ?_
              exact w_zret C (bI_f (fun h => hno h.2)) (by simp only [twS, ifp_t b_4, ifp_f hno]; exact hP) hS dX5_takeWord_77
        · have g_21 := nI_nle' c_21 (by omega) (by omega)
          refine lv_aload_n hx hb dX5_takeWord_24 rfl (lv_at hl 0 rfl) ?_
          refine lv_aload_n hx hb dX5_takeWord_25 rfl (lv_at hl 0 rfl) ?_
          refine va_get hx hb hts in_X5 hown hK hP 0 rfl rfl 4 (by decide) (hts _ q1666) (fun _ h => h) rfl dX5_takeWord_26 ?_
          refine lv_iload_n hx hb dX5_takeWord_29 rfl (lv_at hl 2 rfl) ?_
          refine lv_iadd hx hb dX5_takeWord_30 ?_
          refine w_topi (y := nI ((sk fb L σ.1) + j)) (nI_add (sk fb L σ.1) j) ?_
          refine r_callV (As := [.int (nI ((sk fb L σ.1) + j))]) (rest := []) C (m_byteAt l D k o a1 L ((sk fb L σ.1) + j) ([.int t, .ref a1, .int bl, .int (nI L), .int (nI (sk fb L σ.1)), .int σ.2.1, .int σ.2.2.1, .int eo, .ref a8, .ref a9, .ref a10, .int ud, .int (nI σ.2.2.2), .int ne, .int se, .ref a15] : List Value) fb rfl rfl hL (by omega)) (cwV 1 hts (lw_V q1739 q1741 qs34 q76 q1742) rfl rfl rfl (by decide +kernel) ⟨Nat.le_of_ble_eq_true rfl, Nat.le_of_ble_eq_true rfl⟩) hK (va_recv hK hP (ci := 0) (q0 := 0) rfl rfl) (hP.sub [0, 3] rfl) rfl hl.1 rfl (Nat.le_of_ble_eq_true rfl) dX5_takeWord_31 ⟨Nat.le_of_ble_eq_true rfl, Nat.le_of_ble_eq_true rfl⟩ ?_
          refine lv_aload_n hx hb dX5_takeWord_34 rfl (lv_at hl 1 rfl) ?_
          refine lv_iload_n hx hb dX5_takeWord_35 rfl (lv_at hl 2 rfl) ?_
          refine s_callV (As := [.int (nI j)]) (rest := [.int (byt fb L ((sk fb L σ.1) + j))]) C (j_charAt l D k a v n0 f j (by omega) (by omega)) (cwV 1 hts (lw_V q1753 q1754 q1755 q84 q1756) rfl rfl rfl (by decide +kernel) ⟨Nat.le_of_ble_eq_true rfl, Nat.le_of_ble_eq_true rfl⟩) hK (stX_rc hC hS) (mv_and mv_EnS mv_stC) (fun U hU hW => ⟨EnX_at hE hS U hU hW, stX_at hC hS U hU hW⟩) rfl hl.1 rfl (Nat.le_of_ble_eq_true rfl) dX5_takeWord_36 ⟨Nat.le_of_ble_eq_true rfl, Nat.le_of_ble_eq_true rfl⟩ ?_
          refine lv_icmp_ne (tgt := 48) hx hb dX5_takeWord_39 (by decide) (fun c_39 => ?_) (fun c_39 => ?_)
          · have hno : ¬ twP fb L n0 (chC f) (sk fb L σ.1) := fun h => c_39 (h.1 j g_21)
            refine lv_iload_n hx hb dX5_takeWord_48 rfl (lv_at hl 2 rfl) ?_
            refine lv_aload_n hx hb dX5_takeWord_49 rfl (lv_at hl 1 rfl) ?_
            refine s_callV (As := []) (rest := [.int (nI j)]) C (j_length l D k a v n0 f) (cwV 0 hts (lw_V q1752 q723 q724 q84 q725) rfl rfl rfl (by decide +kernel) ⟨Nat.le_of_ble_eq_true rfl, Nat.le_of_ble_eq_true rfl⟩) hK (stX_rc hC hS) (mv_and mv_EnS mv_stC) (fun U hU hW => ⟨EnX_at hE hS U hU hW, stX_at hC hS U hU hW⟩) rfl hl.1 rfl (Nat.le_of_ble_eq_true rfl) dX5_takeWord_50 ⟨Nat.le_of_ble_eq_true rfl, Nat.le_of_ble_eq_true rfl⟩ ?_
            refine lv_icmp_lt (tgt := 76) hx hb dX5_takeWord_53 (by decide) (fun c_53 => ?_) (fun c_53 => ?_)
            · have g_53 := nI_lt' c_53 (by omega) (by omega)
              have hno : ¬ twP fb L n0 (chC f) (sk fb L σ.1) := by first | exact hno | exact absurd g_53 (by omega)
              refine lv_iconst (v := 0) hx hb dX5_takeWord_76 rfl ?_
              exact w_zret C (bI_f (fun h => hno h.2)) (by simp only [twS, ifp_t b_4, ifp_f hno]; exact hP) hS dX5_takeWord_77
            · have g_53 := nI_nlt' c_53 (by omega) (by omega)
              refine lv_aload_n hx hb dX5_takeWord_56 rfl (lv_at hl 0 rfl) ?_
              refine lv_aload_n hx hb dX5_takeWord_57 rfl (lv_at hl 0 rfl) ?_
              refine va_get hx hb hts in_X5 hown hK hP 0 rfl rfl 4 (by decide) (hts _ q1666) (fun _ h => h) rfl dX5_takeWord_58 ?_
              refine lv_iload_n hx hb dX5_takeWord_61 rfl (lv_at hl 2 rfl) ?_
              refine lv_iadd hx hb dX5_takeWord_62 ?_
              refine w_topi (y := nI ((sk fb L σ.1) + j)) (nI_add (sk fb L σ.1) j) ?_
              refine r_callV (As := [.int (nI ((sk fb L σ.1) + j))]) (rest := []) C (m_byteAt l D k o a1 L ((sk fb L σ.1) + j) ([.int t, .ref a1, .int bl, .int (nI L), .int (nI (sk fb L σ.1)), .int σ.2.1, .int σ.2.2.1, .int eo, .ref a8, .ref a9, .ref a10, .int ud, .int (nI σ.2.2.2), .int ne, .int se, .ref a15] : List Value) fb rfl rfl hL (by omega)) (cwV 1 hts (lw_V q1739 q1741 qs34 q76 q1742) rfl rfl rfl (by decide +kernel) ⟨Nat.le_of_ble_eq_true rfl, Nat.le_of_ble_eq_true rfl⟩) hK (va_recv hK hP (ci := 0) (q0 := 0) rfl rfl) (hP.sub [0, 3] rfl) rfl hl.1 rfl (Nat.le_of_ble_eq_true rfl) dX5_takeWord_63 ⟨Nat.le_of_ble_eq_true rfl, Nat.le_of_ble_eq_true rfl⟩ ?_
              refine lv_bipush (v := 97) hx hb dX5_takeWord_66 rfl ?_
              refine lv_bipush (v := 122) hx hb dX5_takeWord_68 rfl ?_
              refine r_callS (As := [.int (byt fb L ((sk fb L σ.1) + j)), .int 97, .int 122]) (rest := []) C (m_in l D k (byt fb L ((sk fb L σ.1) + j)) 97 122) (va_cwS 3 hts (lw_S q1724 q1725 q76 q1726) rfl rfl rfl (by decide +kernel) ⟨Nat.le_of_ble_eq_true rfl, Nat.le_of_ble_eq_true rfl⟩) hK trivial rfl hl.1 rfl (Nat.le_of_ble_eq_true rfl) dX5_takeWord_70 ⟨Nat.le_of_ble_eq_true rfl, Nat.le_of_ble_eq_true rfl⟩ ?_
              refine lv_if_eq (tgt := 78) hx hb dX5_takeWord_73 (by decide) (fun c_73 => ?_) (fun c_73 => ?_)
              · have b_73 := bI_0.mp c_73
                have hyes : twP fb L n0 (chC f) (sk fb L σ.1) := ⟨fun a ha => hq a (by omega), by rw [show n0 = j by omega]; exact b_73⟩
                have ejn : j = n0 := by omega
                refine lv_aload_n hx hb dX5_takeWord_78 rfl (lv_at hl 0 rfl) ?_
                refine lv_dup hx hb dX5_takeWord_79 rfl ?_
                refine va_get hx hb hts in_X5 hown hK hP 0 rfl rfl 4 (by decide) (hts _ q1666) (fun _ h => h) rfl dX5_takeWord_80 ?_
                refine lv_iload_n hx hb dX5_takeWord_83 rfl (lv_at hl 2 rfl) ?_
                refine lv_iadd hx hb dX5_takeWord_84 ?_
                refine w_topi (y := nI ((sk fb L σ.1) + j)) (nI_add (sk fb L σ.1) j) ?_
                refine va_put hx hb hts in_X5 tyX5 tyX5_ok nmX5 hown hK hP (va_D_of hD rfl) hS 0 rfl rfl 4 (by decide) (hts _ q1666) (fun _ h => h) rfl rfl rfl rfl (Nat.le_of_ble_eq_true rfl) dX5_takeWord_85 (fun H locs hP _ hS => ?_)
                have hP : va_P D clA ((o, .inr (0, [.int t, .ref a1, .int bl, .int (nI L), .int (nI ((sk fb L σ.1) + j)), .int σ.2.1, .int σ.2.2.1, .int eo, .ref a8, .ref a9, .ref a10, .int ud, .int (nI σ.2.2.2), .int ne, .int se, .ref a15])) :: (a8, .inl (k 0, 1798, .inl d)) :: (a9, .inl (k 0, 1798, .inl dr)) :: (a1, .inl (k 0, 900, .inl fb)) :: wr) H := hP
                refine lv_iconst (v := 1) hx hb dX5_takeWord_88 rfl ?_
                exact w_zret C (bI_t ⟨b_4, hyes⟩) (by simp only [twS, ifp_t b_4, ifp_t hyes]; rw [← ejn]; exact hP) hS dX5_takeWord_89
              · have b_73 := bI_nz c_73
                have hno : ¬ twP fb L n0 (chC f) (sk fb L σ.1) := fun h => h.2 (by rw [show n0 = j by omega]; exact b_73)
                refine lv_iconst (v := 0) hx hb dX5_takeWord_76 rfl ?_
                exact w_zret C (bI_f (fun h => hno h.2)) (by simp only [twS, ifp_t b_4, ifp_f hno]; exact hP) hS dX5_takeWord_77
          · refine lv_iinc (v := nI (j + 1)) (lv' := [(2, .int (nI (j + 1))), (0, .ref o), (1, .ref a)]) hx hb dX5_takeWord_42 hl (k := 2) rfl (nI_1 j) (by decide) rfl (fun ls hl => ?_)
            refine lv_goto (tgt := 16) hx hb dX5_takeWord_45 (by decide) ?_
            exact ih_16 (j + 1) (by omega) (lt_s hq c_39) (by omega) ls (lv_sub hl [1, 2, 0] rfl)
    exact loop_16 (n0 + 1) 0 (Nat.zero_le _) lt_0 (by omega) ls (lv_sub hl [1, 2, 0] rfl)
  · have b_4 := bI_0.mp c_4
    refine lv_iconst (v := 0) hx hb dX5_takeWord_7 rfl ?_
    exact w_zret C (bI_f (fun h => b_4 h.1)) (by simp only [twS, ifp_f b_4]; exact hP) hS dX5_takeWord_8
