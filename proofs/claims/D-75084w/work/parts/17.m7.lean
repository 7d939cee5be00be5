/-! the reference, part 7: transfer, append (printed by gen/m7.py) -/
set_option maxRecDepth 100000
def trD (d : Nat → Int32) (q : Nat) (am ex : Int32) : Nat → Int32 :=
  upd (upd (upd (upd (upd (upd (upd (upd (upd (upd (upd (upd (upd (upd (upd (upd (upd (upd (upd d 0 (nI ((dN d 0) + 1))) ((22 + 11 * (dN d 0)) + 0) (cf d q 0)) ((22 + 11 * (dN d 0)) + 1) (cf d q 1)) ((22 + 11 * (dN d 0)) + 2) (cf d q 2)) ((22 + 11 * (dN d 0)) + 3) (cf d q 3)) ((22 + 11 * (dN d 0)) + 4) (cf d q 4)) ((22 + 11 * (dN d 0)) + 5) (cf d q 5)) ((22 + 11 * (dN d 0)) + 6) (cf d q 6)) ((22 + 11 * (dN d 0)) + 7) (cf d q 7)) ((22 + 11 * (dN d 0)) + 8) (cf d q 8)) ((22 + 11 * (dN d 0)) + 9) (cf d q 9)) ((22 + 11 * (dN d 0)) + 10) (cf d q 10)) (22 + 11 * (dN d 0)) am) ((22 + 11 * (dN d 0)) + 1) 0) ((22 + 11 * (dN d 0)) + 2) 0) ((22 + 11 * (dN d 0)) + 3) ex) ((22 + 11 * (dN d 0)) + 4) (mn (cf d q 4) ex)) ((22 + 11 * (dN d 0)) + 8) 0) ((22 + 11 * (dN d 0)) + 10) (nI q)
set_option maxHeartbeats 8000000 in
theorem m_transfer (l : Launch) (D : va_G) (k : Nat → ClassId) (o a1 a8 a9 a10 a15 : Nat) (t bl tl ps er ea eo ns ne se : Int32) (hh : Nat → Nat) (d dr fb : Nat → Int32) (st : Nat → Int64) (hs : Nat → Nat → Int32) (A : Nat → Prop) (u : Nat) (hu : u ≤ 8) (hD : va_D A ((o, .inr (0, [.int t, .ref a1, .int bl, .int tl, .int ps, .int er, .int ea, .int eo, .ref a8, .ref a9, .ref a10, .int (nI u), .int ns, .int ne, .int se, .ref a15])) :: (a8, .inl (k 0, 1798, .inl d)) :: hW k a9 a1 a15 a10 hh dr fb st hs)) (hd : okD d) (x am ex : Int32) : wM l D k yX5_transfer cX5_transfer 9 (some .int) 4 86 [.ref o, .int x, .int am, .int ex] ((o, .inr (0, [.int t, .ref a1, .int bl, .int tl, .int ps, .int er, .int ea, .int eo, .ref a8, .ref a9, .ref a10, .int (nI u), .int ns, .int ne, .int se, .ref a15])) :: (a8, .inl (k 0, 1798, .inl d)) :: hW k a9 a1 a15 a10 hh dr fb st hs) (some (.int (pick (hasC d x ∧ ¬ (¬ inR am 1 999999 ∨ ¬ inR ex 0 999 ∨ cf d (ci x) 3 < ex) ∧ ¬ ((cf d (ci x) 8 = 0 ∨ avail d (ci x) < am ∨ (cf d (ci x) 7 = 0 ∧ ¬ transf d x = 0)) ∨ d 0 = 12)) (d 0)))) ((o, .inr (0, [.int (thr3 (¬ hasC d x) (¬ inR am 1 999999 ∨ ¬ inR ex 0 999 ∨ cf d (ci x) 3 < ex) ((cf d (ci x) 8 = 0 ∨ avail d (ci x) < am ∨ (cf d (ci x) 7 = 0 ∧ ¬ transf d x = 0)) ∨ d 0 = 12)), .ref a1, .int bl, .int tl, .int ps, .int er, .int ea, .int eo, .ref a8, .ref a9, .ref a10, .int (nI (ifp (hasC d x ∧ ¬ (¬ inR am 1 999999 ∨ ¬ inR ex 0 999 ∨ cf d (ci x) 3 < ex) ∧ ¬ ((cf d (ci x) 8 = 0 ∨ avail d (ci x) < am ∨ (cf d (ci x) 7 = 0 ∧ ¬ transf d x = 0)) ∨ d 0 = 12)) (remU u) u)), .int ns, .int ne, .int se, .ref a15])) :: (a8, .inl (k 0, 1798, .inl (ifp (hasC d x ∧ ¬ (¬ inR am 1 999999 ∨ ¬ inR ex 0 999 ∨ cf d (ci x) 3 < ex) ∧ ¬ ((cf d (ci x) 8 = 0 ∨ avail d (ci x) < am ∨ (cf d (ci x) 7 = 0 ∧ ¬ transf d x = 0)) ∨ d 0 = 12)) (trD d (ci x) am ex) d))) :: hW k a9 a1 a15 a10 hh dr fb st (ifp (hasC d x ∧ ¬ (¬ inR am 1 999999 ∨ ¬ inR ex 0 999 ∨ cf d (ci x) 3 < ex) ∧ ¬ ((cf d (ci x) 8 = 0 ∨ avail d (ci x) < am ∨ (cf d (ci x) 7 = 0 ∧ ¬ transf d x = 0)) ∨ d 0 = 12)) (rem u d hs) hs)) A := by
  refine wM_of (by decide) (Nat.le_of_ble_eq_true rfl) ?_
  intro p e s m below meth c ls C hK hP hS hl
  obtain ⟨hx, hb, hr, hml, hown, hts, hlk⟩ := id C
  have hl : lv_has ls 9 [(0, .ref o), (1, .int x), (2, .int am), (3, .int ex)] := hl
  refine lv_aload_n hx hb dX5_transfer_0 rfl (lv_at hl 0 rfl) ?_
  refine lv_iconst (v := 0) hx hb dX5_transfer_1 rfl ?_
  refine va_put hx hb hts in_X5 tyX5 tyX5_ok nmX5 hown hK hP (va_D_of hD rfl) hS 0 rfl rfl 0 (by decide) (hts _ q1662) (fun _ h => h) rfl rfl rfl rfl (Nat.le_of_ble_eq_true rfl) dX5_transfer_2 (fun H locs hP _ hS => ?_)
  have hP : va_P D clA ((o, .inr (0, [.int 0, .ref a1, .int bl, .int tl, .int ps, .int er, .int ea, .int eo, .ref a8, .ref a9, .ref a10, .int (nI u), .int ns, .int ne, .int se, .ref a15])) :: (a8, .inl (k 0, 1798, .inl d)) :: hW k a9 a1 a15 a10 hh dr fb st hs) H := hP
  refine lv_aload_n hx hb dX5_transfer_5 rfl (lv_at hl 0 rfl) ?_
  refine lv_iload_n hx hb dX5_transfer_6 rfl (lv_at hl 1 rfl) ?_
  refine w_callV (As := [.int x]) (rest := []) C (m_noCredit l D k o a1 a8 a9 a10 a15 bl tl ps er ea eo (nI u) ns ne se (hW k a9 a1 a15 a10 hh dr fb st hs) d A (va_D_of hD rfl) hd x) (cwV 1 hts (lw_V q1885 q1887 qs52 q76 q1888) rfl rfl rfl (by decide +kernel) ⟨Nat.le_of_ble_eq_true rfl, Nat.le_of_ble_eq_true rfl⟩) hK (va_recv hK hP (ci := 0) (q0 := 0) rfl rfl) hP hS (fun _ h => h) rfl hl.1 rfl (Nat.le_of_ble_eq_true rfl) dX5_transfer_7 ⟨Nat.le_of_ble_eq_true rfl, Nat.le_of_ble_eq_true rfl⟩ (fun H locs hP hS _ _ => ?_)
  have hP : va_P D clA ((o, .inr (0, [.int (pick (¬ hasC d x) 1), .ref a1, .int bl, .int tl, .int ps, .int er, .int ea, .int eo, .ref a8, .ref a9, .ref a10, .int (nI u), .int ns, .int ne, .int se, .ref a15])) :: (a8, .inl (k 0, 1798, .inl d)) :: hW k a9 a1 a15 a10 hh dr fb st hs) H := hP
  refine lv_if_eq (tgt := 15) hx hb dX5_transfer_10 (by decide) (fun c_10 => ?_) (fun c_10 => ?_)
  · have b_10 := bI_0.mp c_10
    rw [pick_f b_10] at hP
    have hlk := hl
    have hPk := hP
    have hSk := hS
    obtain ⟨q, hq, rfl⟩ := hasC_n hd (Classical.not_not.mp b_10)
    have hl := hlk
    have hP := hPk
    have hS := hSk
    obtain ⟨⟨⟨_, n0⟩, ⟨_, n1⟩, -⟩, -⟩ := id hd
    rw [ci_n (show q < 2 ^ 31 by omega)]
    obtain ⟨w1, w2⟩ := hd.1.1
    refine lv_iload_n hx hb dX5_transfer_15 rfl (lv_at hl 1 rfl) ?_
    refine r_callS (As := [.int (nI q)]) (rest := []) C (m_creditN l D k q) (va_cwS 1 hts (lw_S q1788 q1789 q76 q1790) rfl rfl rfl (by decide +kernel) ⟨Nat.le_of_ble_eq_true rfl, Nat.le_of_ble_eq_true rfl⟩) hK trivial rfl hl.1 rfl (Nat.le_of_ble_eq_true rfl) dX5_transfer_16 ⟨Nat.le_of_ble_eq_true rfl, Nat.le_of_ble_eq_true rfl⟩ ?_
    refine lv_istore (lv' := [(4, .int (nI (22 + 11 * q))), (0, .ref o), (1, .int (nI q)), (2, .int am), (3, .int ex)]) hx hb dX5_transfer_19 hl (by decide) rfl (fun ls hl => ?_)
    refine lv_aload_n hx hb dX5_transfer_21 rfl (lv_at hl 1 rfl) ?_
    refine lv_iload_n hx hb dX5_transfer_22 rfl (lv_at hl 3 rfl) ?_
    refine lv_iconst (v := 1) hx hb dX5_transfer_23 rfl ?_
    refine lv_ldc (v := 999999) hx hb hown (hts _ q1791) dX5_transfer_24 ?_
    refine r_callS (As := [.int am, .int 1, .int 999999]) (rest := [.ref o]) C (m_in l D k am 1 999999) (va_cwS 3 hts (lw_S q1724 q1725 q76 q1726) rfl rfl rfl (by decide +kernel) ⟨Nat.le_of_ble_eq_true rfl, Nat.le_of_ble_eq_true rfl⟩) hK trivial rfl hl.1 rfl (Nat.le_of_ble_eq_true rfl) dX5_transfer_26 ⟨Nat.le_of_ble_eq_true rfl, Nat.le_of_ble_eq_true rfl⟩ ?_
    have J_61 : ∀ (z : Int32), (z = bI (¬ inR am 1 999999 ∨ ¬ inR ex 0 999 ∨ cf d (q) 3 < ex)) → ∀ (ls : Array Slot), lv_has ls 9 [(4, .int (nI (22 + 11 * q))), (0, .ref o), (1, .int (nI q)), (2, .int am), (3, .int ex)] → W p l e (Rm 4 86 0 0) s m ([.ref o, .int (nI q), .int am, .int ex] : List Value).toArray below meth c H locs 0 0 (MQ below (wQ D (some (.int (pick (hasC d (nI q) ∧ ¬ (¬ inR am 1 999999 ∨ ¬ inR ex 0 999 ∨ cf d (q) 3 < ex) ∧ ¬ ((cf d (q) 8 = 0 ∨ avail d (q) < am ∨ (cf d (q) 7 = 0 ∧ ¬ transf d (nI q) = 0)) ∨ d 0 = 12)) (d 0)))) ((o, .inr (0, [.int (thr3 (¬ hasC d (nI q)) (¬ inR am 1 999999 ∨ ¬ inR ex 0 999 ∨ cf d (q) 3 < ex) ((cf d (q) 8 = 0 ∨ avail d (q) < am ∨ (cf d (q) 7 = 0 ∧ ¬ transf d (nI q) = 0)) ∨ d 0 = 12)), .ref a1, .int bl, .int tl, .int ps, .int er, .int ea, .int eo, .ref a8, .ref a9, .ref a10, .int (nI (ifp (hasC d (nI q) ∧ ¬ (¬ inR am 1 999999 ∨ ¬ inR ex 0 999 ∨ cf d (q) 3 < ex) ∧ ¬ ((cf d (q) 8 = 0 ∨ avail d (q) < am ∨ (cf d (q) 7 = 0 ∧ ¬ transf d (nI q) = 0)) ∨ d 0 = 12)) (remU u) u)), .int ns, .int ne, .int se, .ref a15])) :: (a8, .inl (k 0, 1798, .inl (ifp (hasC d (nI q) ∧ ¬ (¬ inR am 1 999999 ∨ ¬ inR ex 0 999 ∨ cf d (q) 3 < ex) ∧ ¬ ((cf d (q) 8 = 0 ∨ avail d (q) < am ∨ (cf d (q) 7 = 0 ∧ ¬ transf d (nI q) = 0)) ∨ d 0 = 12)) (trD d (q) am ex) d))) :: hW k a9 a1 a15 a10 hh dr fb st (ifp (hasC d (nI q) ∧ ¬ (¬ inR am 1 999999 ∨ ¬ inR ex 0 999 ∨ cf d (q) 3 < ex) ∧ ¬ ((cf d (q) 8 = 0 ∨ avail d (q) < am ∨ (cf d (q) 7 = 0 ∧ ¬ transf d (nI q) = 0)) ∨ d 0 = 12)) (rem u d hs) hs)) A) ([.ref o, .int (nI q), .int am, .int ex] : List Value).toArray s 0 0 A) (F0 m 61 ls [.int z, .ref o]) := by
      intro z h_z ls hl
      refine w_topi (y := bI (¬ inR am 1 999999 ∨ ¬ inR ex 0 999 ∨ cf d (q) 3 < ex)) h_z ?_
      refine lv_iconst (v := 2) hx hb dX5_transfer_61 rfl ?_
      refine w_callV (As := [.int (bI (¬ inR am 1 999999 ∨ ¬ inR ex 0 999 ∨ cf d (q) 3 < ex)), .int 2]) (rest := []) C (m_fails l D k o a1 a8 a9 a10 a15 bl tl ps er ea eo (nI u) ns ne se ((a8, .inl (k 0, 1798, .inl d)) :: hW k a9 a1 a15 a10 hh dr fb st hs) A (va_D_of hD rfl) (¬ inR am 1 999999 ∨ ¬ inR ex 0 999 ∨ cf d (q) 3 < ex) 2 (by decide)) (cwV 2 hts (lw_V q1727 q1729 qs31 q76 q1730) rfl rfl rfl (by decide +kernel) ⟨Nat.le_of_ble_eq_true rfl, Nat.le_of_ble_eq_true rfl⟩) hK (va_recv hK hP (ci := 0) (q0 := 0) rfl rfl) hP hS (fun _ h => h) rfl hl.1 rfl (Nat.le_of_ble_eq_true rfl) dX5_transfer_62 ⟨Nat.le_of_ble_eq_true rfl, Nat.le_of_ble_eq_true rfl⟩ (fun H locs hP hS _ _ => ?_)
      have hP : va_P D clA ((o, .inr (0, [.int (pick (¬ inR am 1 999999 ∨ ¬ inR ex 0 999 ∨ cf d (q) 3 < ex) 2), .ref a1, .int bl, .int tl, .int ps, .int er, .int ea, .int eo, .ref a8, .ref a9, .ref a10, .int (nI u), .int ns, .int ne, .int se, .ref a15])) :: (a8, .inl (k 0, 1798, .inl d)) :: hW k a9 a1 a15 a10 hh dr fb st hs) H := hP
      refine lv_if_eq (tgt := 70) hx hb dX5_transfer_65 (by decide) (fun c_65 => ?_) (fun c_65 => ?_)
      · have b_65 := bI_0.mp c_65
        rw [pick_f b_65] at hP
        refine lv_aload_n hx hb dX5_transfer_70 rfl (lv_at hl 1 rfl) ?_
        refine va_get hx hb hts in_X5 hown hK hP 0 rfl rfl 8 (by decide) (hts _ q1670) (fun _ h => h) rfl dX5_transfer_71 ?_
        refine lv_iload hx hb dX5_transfer_74 (lv_at hl 0 rfl) ?_
        refine lv_bipush (v := 8) hx hb dX5_transfer_76 rfl ?_
        refine lv_iadd hx hb dX5_transfer_78 ?_
        refine w_topi (y := nI ((22 + 11 * q) + 8)) (nI_add (22 + 11 * q) 8) ?_
        refine w_iald hx hb hK hP 1 rfl ((22 + 11 * q) + 8) rfl (by omega) (Nat.le_of_ble_eq_true rfl) dX5_transfer_79 ?_
        have J_118 : ∀ (z2 : Int32), (z2 = bI (cf d q 8 = 0 ∨ avail d q < am ∨ (cf d q 7 = 0 ∧ ¬ transf d (nI q) = 0))) → ∀ (ls : Array Slot), lv_has ls 9 [(4, .int (nI (22 + 11 * q))), (0, .ref o), (1, .int (nI q)), (2, .int am), (3, .int ex)] → W p l e (Rm 4 86 0 0) s m ([.ref o, .int (nI q), .int am, .int ex] : List Value).toArray below meth c H locs 0 0 (MQ below (wQ D (some (.int (pick (hasC d (nI q) ∧ ¬ (¬ inR am 1 999999 ∨ ¬ inR ex 0 999 ∨ cf d (q) 3 < ex) ∧ ¬ ((cf d (q) 8 = 0 ∨ avail d (q) < am ∨ (cf d (q) 7 = 0 ∧ ¬ transf d (nI q) = 0)) ∨ d 0 = 12)) (d 0)))) ((o, .inr (0, [.int (thr3 (¬ hasC d (nI q)) (¬ inR am 1 999999 ∨ ¬ inR ex 0 999 ∨ cf d (q) 3 < ex) ((cf d (q) 8 = 0 ∨ avail d (q) < am ∨ (cf d (q) 7 = 0 ∧ ¬ transf d (nI q) = 0)) ∨ d 0 = 12)), .ref a1, .int bl, .int tl, .int ps, .int er, .int ea, .int eo, .ref a8, .ref a9, .ref a10, .int (nI (ifp (hasC d (nI q) ∧ ¬ (¬ inR am 1 999999 ∨ ¬ inR ex 0 999 ∨ cf d (q) 3 < ex) ∧ ¬ ((cf d (q) 8 = 0 ∨ avail d (q) < am ∨ (cf d (q) 7 = 0 ∧ ¬ transf d (nI q) = 0)) ∨ d 0 = 12)) (remU u) u)), .int ns, .int ne, .int se, .ref a15])) :: (a8, .inl (k 0, 1798, .inl (ifp (hasC d (nI q) ∧ ¬ (¬ inR am 1 999999 ∨ ¬ inR ex 0 999 ∨ cf d (q) 3 < ex) ∧ ¬ ((cf d (q) 8 = 0 ∨ avail d (q) < am ∨ (cf d (q) 7 = 0 ∧ ¬ transf d (nI q) = 0)) ∨ d 0 = 12)) (trD d (q) am ex) d))) :: hW k a9 a1 a15 a10 hh dr fb st (ifp (hasC d (nI q) ∧ ¬ (¬ inR am 1 999999 ∨ ¬ inR ex 0 999 ∨ cf d (q) 3 < ex) ∧ ¬ ((cf d (q) 8 = 0 ∨ avail d (q) < am ∨ (cf d (q) 7 = 0 ∧ ¬ transf d (nI q) = 0)) ∨ d 0 = 12)) (rem u d hs) hs)) A) ([.ref o, .int (nI q), .int am, .int ex] : List Value).toArray s 0 0 A) (F0 m 118 ls [.int z2]) := by
          intro z2 h_z2 ls hl
          refine w_topi (y := bI (cf d q 8 = 0 ∨ avail d q < am ∨ (cf d q 7 = 0 ∧ ¬ transf d (nI q) = 0))) h_z2 ?_
          refine lv_istore (lv' := [(5, .int (bI (cf d q 8 = 0 ∨ avail d q < am ∨ (cf d q 7 = 0 ∧ ¬ transf d (nI q) = 0)))), (4, .int (nI (22 + 11 * q))), (0, .ref o), (1, .int (nI q)), (2, .int am), (3, .int ex)]) hx hb dX5_transfer_118 hl (by decide) rfl (fun ls hl => ?_)
          refine lv_aload_n hx hb dX5_transfer_120 rfl (lv_at hl 2 rfl) ?_
          refine lv_iload hx hb dX5_transfer_121 (lv_at hl 0 rfl) ?_
          have J_142 : ∀ (z3 : Int32), (z3 = bI ((cf d q 8 = 0 ∨ avail d q < am ∨ (cf d q 7 = 0 ∧ ¬ transf d (nI q) = 0)) ∨ d 0 = 12)) → ∀ (ls : Array Slot), lv_has ls 9 [(5, .int (bI (cf d q 8 = 0 ∨ avail d q < am ∨ (cf d q 7 = 0 ∧ ¬ transf d (nI q) = 0)))), (4, .int (nI (22 + 11 * q))), (0, .ref o), (1, .int (nI q)), (2, .int am), (3, .int ex)] → W p l e (Rm 4 86 0 0) s m ([.ref o, .int (nI q), .int am, .int ex] : List Value).toArray below meth c H locs 0 0 (MQ below (wQ D (some (.int (pick (hasC d (nI q) ∧ ¬ (¬ inR am 1 999999 ∨ ¬ inR ex 0 999 ∨ cf d (q) 3 < ex) ∧ ¬ ((cf d (q) 8 = 0 ∨ avail d (q) < am ∨ (cf d (q) 7 = 0 ∧ ¬ transf d (nI q) = 0)) ∨ d 0 = 12)) (d 0)))) ((o, .inr (0, [.int (thr3 (¬ hasC d (nI q)) (¬ inR am 1 999999 ∨ ¬ inR ex 0 999 ∨ cf d (q) 3 < ex) ((cf d (q) 8 = 0 ∨ avail d (q) < am ∨ (cf d (q) 7 = 0 ∧ ¬ transf d (nI q) = 0)) ∨ d 0 = 12)), .ref a1, .int bl, .int tl, .int ps, .int er, .int ea, .int eo, .ref a8, .ref a9, .ref a10, .int (nI (ifp (hasC d (nI q) ∧ ¬ (¬ inR am 1 999999 ∨ ¬ inR ex 0 999 ∨ cf d (q) 3 < ex) ∧ ¬ ((cf d (q) 8 = 0 ∨ avail d (q) < am ∨ (cf d (q) 7 = 0 ∧ ¬ transf d (nI q) = 0)) ∨ d 0 = 12)) (remU u) u)), .int ns, .int ne, .int se, .ref a15])) :: (a8, .inl (k 0, 1798, .inl (ifp (hasC d (nI q) ∧ ¬ (¬ inR am 1 999999 ∨ ¬ inR ex 0 999 ∨ cf d (q) 3 < ex) ∧ ¬ ((cf d (q) 8 = 0 ∨ avail d (q) < am ∨ (cf d (q) 7 = 0 ∧ ¬ transf d (nI q) = 0)) ∨ d 0 = 12)) (trD d (q) am ex) d))) :: hW k a9 a1 a15 a10 hh dr fb st (ifp (hasC d (nI q) ∧ ¬ (¬ inR am 1 999999 ∨ ¬ inR ex 0 999 ∨ cf d (q) 3 < ex) ∧ ¬ ((cf d (q) 8 = 0 ∨ avail d (q) < am ∨ (cf d (q) 7 = 0 ∧ ¬ transf d (nI q) = 0)) ∨ d 0 = 12)) (rem u d hs) hs)) A) ([.ref o, .int (nI q), .int am, .int ex] : List Value).toArray s 0 0 A) (F0 m 142 ls [.int z3, .ref o]) := by
            intro z3 h_z3 ls hl
            refine w_topi (y := bI ((cf d q 8 = 0 ∨ avail d q < am ∨ (cf d q 7 = 0 ∧ ¬ transf d (nI q) = 0)) ∨ d 0 = 12)) h_z3 ?_
            refine lv_iconst (v := 3) hx hb dX5_transfer_142 rfl ?_
            refine w_callV (As := [.int (bI ((cf d q 8 = 0 ∨ avail d q < am ∨ (cf d q 7 = 0 ∧ ¬ transf d (nI q) = 0)) ∨ d 0 = 12)), .int 3]) (rest := []) C (m_fails l D k o a1 a8 a9 a10 a15 bl tl ps er ea eo (nI u) ns ne se ((a8, .inl (k 0, 1798, .inl d)) :: hW k a9 a1 a15 a10 hh dr fb st hs) A (va_D_of hD rfl) ((cf d q 8 = 0 ∨ avail d q < am ∨ (cf d q 7 = 0 ∧ ¬ transf d (nI q) = 0)) ∨ d 0 = 12) 3 (by decide)) (cwV 2 hts (lw_V q1727 q1729 qs31 q76 q1730) rfl rfl rfl (by decide +kernel) ⟨Nat.le_of_ble_eq_true rfl, Nat.le_of_ble_eq_true rfl⟩) hK (va_recv hK hP (ci := 0) (q0 := 0) rfl rfl) hP hS (fun _ h => h) rfl hl.1 rfl (Nat.le_of_ble_eq_true rfl) dX5_transfer_143 ⟨Nat.le_of_ble_eq_true rfl, Nat.le_of_ble_eq_true rfl⟩ (fun H locs hP hS _ _ => ?_)
            have hP : va_P D clA ((o, .inr (0, [.int (pick ((cf d q 8 = 0 ∨ avail d q < am ∨ (cf d q 7 = 0 ∧ ¬ transf d (nI q) = 0)) ∨ d 0 = 12) 3), .ref a1, .int bl, .int tl, .int ps, .int er, .int ea, .int eo, .ref a8, .ref a9, .ref a10, .int (nI u), .int ns, .int ne, .int se, .ref a15])) :: (a8, .inl (k 0, 1798, .inl d)) :: hW k a9 a1 a15 a10 hh dr fb st hs) H := hP
            refine lv_if_eq (tgt := 151) hx hb dX5_transfer_146 (by decide) (fun c_146 => ?_) (fun c_146 => ?_)
            · have b_146 := bI_0.mp c_146
              rw [pick_f b_146] at hP
              have g_146 : dN d 0 < 12 := by rcases Nat.lt_or_ge (dN d 0) 12 with h | h; exact h; exact absurd (Or.inr (w1.trans (congrArg nI (show dN d 0 = 12 by omega)))) b_146
              refine lv_aload_n hx hb dX5_transfer_151 rfl (lv_at hl 2 rfl) ?_
              refine w_callV (As := []) (rest := []) C (m_remember l D k o a1 a8 a9 a10 a15 0 bl tl ps er ea eo ns ne se hh d dr fb st hs A u hu (va_D_of hD rfl)) (cwV 0 hts (lw_V q1827 q1829 qs48 q76 q1830) rfl rfl rfl (by decide +kernel) ⟨Nat.le_of_ble_eq_true rfl, Nat.le_of_ble_eq_true rfl⟩) hK (va_recv hK hP (ci := 0) (q0 := 0) rfl rfl) hP hS (fun _ h => h) rfl hl.1 rfl (Nat.le_of_ble_eq_true rfl) dX5_transfer_152 ⟨Nat.le_of_ble_eq_true rfl, Nat.le_of_ble_eq_true rfl⟩ (fun H locs hP hS _ _ => ?_)
              have hP : va_P D clA ((o, .inr (0, [.int 0, .ref a1, .int bl, .int tl, .int ps, .int er, .int ea, .int eo, .ref a8, .ref a9, .ref a10, .int (nI (remU u)), .int ns, .int ne, .int se, .ref a15])) :: (a8, .inl (k 0, 1798, .inl d)) :: hW k a9 a1 a15 a10 hh dr fb st (rem u d hs)) H := hP
              refine lv_aload_n hx hb dX5_transfer_155 rfl (lv_at hl 2 rfl) ?_
              refine va_get hx hb hts in_X5 hown hK hP 0 rfl rfl 8 (by decide) (hts _ q1670) (fun _ h => h) rfl dX5_transfer_156 ?_
              refine lv_iconst (v := 0) hx hb dX5_transfer_159 rfl ?_
              refine w_iald hx hb hK hP 1 rfl 0 rfl (Nat.le_of_ble_eq_true rfl) (Nat.le_of_ble_eq_true rfl) dX5_transfer_160 ?_
              refine w_topi (y := nI (dN d 0)) w1 ?_
              refine lv_istore (lv' := [(6, .int (nI (dN d 0))), (5, .int (bI (cf d q 8 = 0 ∨ avail d q < am ∨ (cf d q 7 = 0 ∧ ¬ transf d (nI q) = 0)))), (4, .int (nI (22 + 11 * q))), (0, .ref o), (1, .int (nI q)), (2, .int am), (3, .int ex)]) hx hb dX5_transfer_161 hl (by decide) rfl (fun ls hl => ?_)
              refine lv_iload hx hb dX5_transfer_163 (lv_at hl 0 rfl) ?_
              refine r_callS (As := [.int (nI (dN d 0))]) (rest := []) C (m_creditN l D k (dN d 0)) (va_cwS 1 hts (lw_S q1788 q1789 q76 q1790) rfl rfl rfl (by decide +kernel) ⟨Nat.le_of_ble_eq_true rfl, Nat.le_of_ble_eq_true rfl⟩) hK trivial rfl hl.1 rfl (Nat.le_of_ble_eq_true rfl) dX5_transfer_165 ⟨Nat.le_of_ble_eq_true rfl, Nat.le_of_ble_eq_true rfl⟩ ?_
              refine lv_istore (lv' := [(7, .int (nI (22 + 11 * (dN d 0)))), (6, .int (nI (dN d 0))), (5, .int (bI (cf d q 8 = 0 ∨ avail d q < am ∨ (cf d q 7 = 0 ∧ ¬ transf d (nI q) = 0)))), (4, .int (nI (22 + 11 * q))), (0, .ref o), (1, .int (nI q)), (2, .int am), (3, .int ex)]) hx hb dX5_transfer_168 hl (by decide) rfl (fun ls hl => ?_)
              refine lv_aload_n hx hb dX5_transfer_170 rfl (lv_at hl 4 rfl) ?_
              refine va_get hx hb hts in_X5 hown hK hP 0 rfl rfl 8 (by decide) (hts _ q1670) (fun _ h => h) rfl dX5_transfer_171 ?_
              refine lv_iconst (v := 0) hx hb dX5_transfer_174 rfl ?_
              refine lv_dup2_11 hx hb dX5_transfer_175 rfl rfl ?_
              refine w_iald hx hb hK hP 1 rfl 0 rfl (Nat.le_of_ble_eq_true rfl) (Nat.le_of_ble_eq_true rfl) dX5_transfer_176 ?_
              refine w_topi (y := nI (dN d 0)) w1 ?_
              refine lv_iconst (v := 1) hx hb dX5_transfer_177 rfl ?_
              refine lv_iadd hx hb dX5_transfer_178 ?_
              refine w_topi (y := nI ((dN d 0) + 1)) (nI_add (dN d 0) 1) ?_
              refine w_iast hx hb hK hP (va_D_of hD rfl) hS 1 rfl 0 rfl (Nat.le_of_ble_eq_true rfl) (Nat.le_of_ble_eq_true rfl) dX5_transfer_179 (fun H locs hP _ hS => ?_)
              have hP : va_P D clA ((o, .inr (0, [.int 0, .ref a1, .int bl, .int tl, .int ps, .int er, .int ea, .int eo, .ref a8, .ref a9, .ref a10, .int (nI (remU u)), .int ns, .int ne, .int se, .ref a15])) :: (a8, .inl (k 0, 1798, .inl (upd d 0 (nI ((dN d 0) + 1))))) :: hW k a9 a1 a15 a10 hh dr fb st (rem u d hs)) H := hP
              refine lv_iconst (v := 0) hx hb dX5_transfer_180 rfl ?_
              refine lv_istore (lv' := [(8, .int 0), (7, .int (nI (22 + 11 * (dN d 0)))), (6, .int (nI (dN d 0))), (5, .int (bI (cf d q 8 = 0 ∨ avail d q < am ∨ (cf d q 7 = 0 ∧ ¬ transf d (nI q) = 0)))), (4, .int (nI (22 + 11 * q))), (0, .ref o), (1, .int (nI q)), (2, .int am), (3, .int ex)]) hx hb dX5_transfer_181 hl (by decide) rfl (fun ls hl => ?_)
              refine lv_iload hx hb dX5_transfer_183 (lv_at hl 0 rfl) ?_
              refine lv_bipush (v := 11) hx hb dX5_transfer_185 rfl ?_
              refine lv_icmp_ge (tgt := 216) hx hb dX5_transfer_187 (by decide) (fun c_187 => ?_) (fun c_187 => ?_)
              · exact absurd c_187 (by decide)
              · refine lv_aload_n hx hb dX5_transfer_190 rfl (lv_at hl 5 rfl) ?_
                refine va_get hx hb hts in_X5 hown hK hP 0 rfl rfl 8 (by decide) (hts _ q1670) (fun _ h => h) rfl dX5_transfer_191 ?_
                refine lv_iload hx hb dX5_transfer_194 (lv_at hl 1 rfl) ?_
                refine lv_iload hx hb dX5_transfer_196 (lv_at hl 0 rfl) ?_
                refine lv_iadd hx hb dX5_transfer_198 ?_
                refine w_topi (y := nI ((22 + 11 * (dN d 0)) + 0)) (nI_add (22 + 11 * (dN d 0)) 0) ?_
                refine lv_aload_n hx hb dX5_transfer_199 rfl (lv_at hl 5 rfl) ?_
                refine va_get hx hb hts in_X5 hown hK hP 0 rfl rfl 8 (by decide) (hts _ q1670) (fun _ h => h) rfl dX5_transfer_200 ?_
                refine lv_iload hx hb dX5_transfer_203 (lv_at hl 4 rfl) ?_
                refine lv_iload hx hb dX5_transfer_205 (lv_at hl 0 rfl) ?_
                refine lv_iadd hx hb dX5_transfer_207 ?_
                refine w_topi (y := nI ((22 + 11 * q) + 0)) (nI_add (22 + 11 * q) 0) ?_
                refine w_iald hx hb hK hP 1 rfl ((22 + 11 * q) + 0) rfl (by omega) (Nat.le_of_ble_eq_true rfl) dX5_transfer_208 ?_
                refine w_topi (y := cf d q 0) (by (repeat rw [pk_un (by omega)]) <;> rfl) ?_
                refine w_iast hx hb hK hP (va_D_of hD rfl) hS 1 rfl ((22 + 11 * (dN d 0)) + 0) rfl (by omega) (Nat.le_of_ble_eq_true rfl) dX5_transfer_209 (fun H locs hP _ hS => ?_)
                have hP : va_P D clA ((o, .inr (0, [.int 0, .ref a1, .int bl, .int tl, .int ps, .int er, .int ea, .int eo, .ref a8, .ref a9, .ref a10, .int (nI (remU u)), .int ns, .int ne, .int se, .ref a15])) :: (a8, .inl (k 0, 1798, .inl (upd (upd d 0 (nI ((dN d 0) + 1))) ((22 + 11 * (dN d 0)) + 0) (cf d q 0)))) :: hW k a9 a1 a15 a10 hh dr fb st (rem u d hs)) H := hP
                refine lv_iinc (v := 1) (lv' := [(8, .int 1), (7, .int (nI (22 + 11 * (dN d 0)))), (6, .int (nI (dN d 0))), (5, .int (bI (cf d q 8 = 0 ∨ avail d q < am ∨ (cf d q 7 = 0 ∧ ¬ transf d (nI q) = 0)))), (4, .int (nI (22 + 11 * q))), (0, .ref o), (1, .int (nI q)), (2, .int am), (3, .int ex)]) hx hb dX5_transfer_210 hl (k := 0) rfl (by decide) (by decide) rfl (fun ls hl => ?_)
                refine lv_goto (tgt := 183) hx hb dX5_transfer_213 (by decide) ?_
                refine lv_iload hx hb dX5_transfer_183 (lv_at hl 0 rfl) ?_
                refine lv_bipush (v := 11) hx hb dX5_transfer_185 rfl ?_
                refine lv_icmp_ge (tgt := 216) hx hb dX5_transfer_187 (by decide) (fun c_187 => ?_) (fun c_187 => ?_)
                · exact absurd c_187 (by decide)
                · refine lv_aload_n hx hb dX5_transfer_190 rfl (lv_at hl 5 rfl) ?_
                  refine va_get hx hb hts in_X5 hown hK hP 0 rfl rfl 8 (by decide) (hts _ q1670) (fun _ h => h) rfl dX5_transfer_191 ?_
                  refine lv_iload hx hb dX5_transfer_194 (lv_at hl 1 rfl) ?_
                  refine lv_iload hx hb dX5_transfer_196 (lv_at hl 0 rfl) ?_
                  refine lv_iadd hx hb dX5_transfer_198 ?_
                  refine w_topi (y := nI ((22 + 11 * (dN d 0)) + 1)) (nI_add (22 + 11 * (dN d 0)) 1) ?_
                  refine lv_aload_n hx hb dX5_transfer_199 rfl (lv_at hl 5 rfl) ?_
                  refine va_get hx hb hts in_X5 hown hK hP 0 rfl rfl 8 (by decide) (hts _ q1670) (fun _ h => h) rfl dX5_transfer_200 ?_
                  refine lv_iload hx hb dX5_transfer_203 (lv_at hl 4 rfl) ?_
                  refine lv_iload hx hb dX5_transfer_205 (lv_at hl 0 rfl) ?_
                  refine lv_iadd hx hb dX5_transfer_207 ?_
                  refine w_topi (y := nI ((22 + 11 * q) + 1)) (nI_add (22 + 11 * q) 1) ?_
                  refine w_iald hx hb hK hP 1 rfl ((22 + 11 * q) + 1) rfl (by omega) (Nat.le_of_ble_eq_true rfl) dX5_transfer_208 ?_
                  refine w_topi (y := cf d q 1) (by (repeat rw [pk_un (by omega)]) <;> rfl) ?_
                  refine w_iast hx hb hK hP (va_D_of hD rfl) hS 1 rfl ((22 + 11 * (dN d 0)) + 1) rfl (by omega) (Nat.le_of_ble_eq_true rfl) dX5_transfer_209 (fun H locs hP _ hS => ?_)
                  have hP : va_P D clA ((o, .inr (0, [.int 0, .ref a1, .int bl, .int tl, .int ps, .int er, .int ea, .int eo, .ref a8, .ref a9, .ref a10, .int (nI (remU u)), .int ns, .int ne, .int se, .ref a15])) :: (a8, .inl (k 0, 1798, .inl (upd (upd (upd d 0 (nI ((dN d 0) + 1))) ((22 + 11 * (dN d 0)) + 0) (cf d q 0)) ((22 + 11 * (dN d 0)) + 1) (cf d q 1)))) :: hW k a9 a1 a15 a10 hh dr fb st (rem u d hs)) H := hP
                  refine lv_iinc (v := 2) (lv' := [(8, .int 2), (7, .int (nI (22 + 11 * (dN d 0)))), (6, .int (nI (dN d 0))), (5, .int (bI (cf d q 8 = 0 ∨ avail d q < am ∨ (cf d q 7 = 0 ∧ ¬ transf d (nI q) = 0)))), (4, .int (nI (22 + 11 * q))), (0, .ref o), (1, .int (nI q)), (2, .int am), (3, .int ex)]) hx hb dX5_transfer_210 hl (k := 0) rfl (by decide) (by decide) rfl (fun ls hl => ?_)
                  refine lv_goto (tgt := 183) hx hb dX5_transfer_213 (by decide) ?_
                  refine lv_iload hx hb dX5_transfer_183 (lv_at hl 0 rfl) ?_
                  refine lv_bipush (v := 11) hx hb dX5_transfer_185 rfl ?_
                  refine lv_icmp_ge (tgt := 216) hx hb dX5_transfer_187 (by decide) (fun c_187 => ?_) (fun c_187 => ?_)
                  · exact absurd c_187 (by decide)
                  · refine lv_aload_n hx hb dX5_transfer_190 rfl (lv_at hl 5 rfl) ?_
                    refine va_get hx hb hts in_X5 hown hK hP 0 rfl rfl 8 (by decide) (hts _ q1670) (fun _ h => h) rfl dX5_transfer_191 ?_
                    refine lv_iload hx hb dX5_transfer_194 (lv_at hl 1 rfl) ?_
                    refine lv_iload hx hb dX5_transfer_196 (lv_at hl 0 rfl) ?_
                    refine lv_iadd hx hb dX5_transfer_198 ?_
                    refine w_topi (y := nI ((22 + 11 * (dN d 0)) + 2)) (nI_add (22 + 11 * (dN d 0)) 2) ?_
                    refine lv_aload_n hx hb dX5_transfer_199 rfl (lv_at hl 5 rfl) ?_
                    refine va_get hx hb hts in_X5 hown hK hP 0 rfl rfl 8 (by decide) (hts _ q1670) (fun _ h => h) rfl dX5_transfer_200 ?_
                    refine lv_iload hx hb dX5_transfer_203 (lv_at hl 4 rfl) ?_
                    refine lv_iload hx hb dX5_transfer_205 (lv_at hl 0 rfl) ?_
                    refine lv_iadd hx hb dX5_transfer_207 ?_
                    refine w_topi (y := nI ((22 + 11 * q) + 2)) (nI_add (22 + 11 * q) 2) ?_
                    refine w_iald hx hb hK hP 1 rfl ((22 + 11 * q) + 2) rfl (by omega) (Nat.le_of_ble_eq_true rfl) dX5_transfer_208 ?_
                    refine w_topi (y := cf d q 2) (by (repeat rw [pk_un (by omega)]) <;> rfl) ?_
                    refine w_iast hx hb hK hP (va_D_of hD rfl) hS 1 rfl ((22 + 11 * (dN d 0)) + 2) rfl (by omega) (Nat.le_of_ble_eq_true rfl) dX5_transfer_209 (fun H locs hP _ hS => ?_)
                    have hP : va_P D clA ((o, .inr (0, [.int 0, .ref a1, .int bl, .int tl, .int ps, .int er, .int ea, .int eo, .ref a8, .ref a9, .ref a10, .int (nI (remU u)), .int ns, .int ne, .int se, .ref a15])) :: (a8, .inl (k 0, 1798, .inl (upd (upd (upd (upd d 0 (nI ((dN d 0) + 1))) ((22 + 11 * (dN d 0)) + 0) (cf d q 0)) ((22 + 11 * (dN d 0)) + 1) (cf d q 1)) ((22 + 11 * (dN d 0)) + 2) (cf d q 2)))) :: hW k a9 a1 a15 a10 hh dr fb st (rem u d hs)) H := hP
                    refine lv_iinc (v := 3) (lv' := [(8, .int 3), (7, .int (nI (22 + 11 * (dN d 0)))), (6, .int (nI (dN d 0))), (5, .int (bI (cf d q 8 = 0 ∨ avail d q < am ∨ (cf d q 7 = 0 ∧ ¬ transf d (nI q) = 0)))), (4, .int (nI (22 + 11 * q))), (0, .ref o), (1, .int (nI q)), (2, .int am), (3, .int ex)]) hx hb dX5_transfer_210 hl (k := 0) rfl (by decide) (by decide) rfl (fun ls hl => ?_)
                    refine lv_goto (tgt := 183) hx hb dX5_transfer_213 (by decide) ?_
                    refine lv_iload hx hb dX5_transfer_183 (lv_at hl 0 rfl) ?_
                    refine lv_bipush (v := 11) hx hb dX5_transfer_185 rfl ?_
                    refine lv_icmp_ge (tgt := 216) hx hb dX5_transfer_187 (by decide) (fun c_187 => ?_) (fun c_187 => ?_)
                    · exact absurd c_187 (by decide)
                    · refine lv_aload_n hx hb dX5_transfer_190 rfl (lv_at hl 5 rfl) ?_
                      refine va_get hx hb hts in_X5 hown hK hP 0 rfl rfl 8 (by decide) (hts _ q1670) (fun _ h => h) rfl dX5_transfer_191 ?_
                      refine lv_iload hx hb dX5_transfer_194 (lv_at hl 1 rfl) ?_
                      refine lv_iload hx hb dX5_transfer_196 (lv_at hl 0 rfl) ?_
                      refine lv_iadd hx hb dX5_transfer_198 ?_
                      refine w_topi (y := nI ((22 + 11 * (dN d 0)) + 3)) (nI_add (22 + 11 * (dN d 0)) 3) ?_
                      refine lv_aload_n hx hb dX5_transfer_199 rfl (lv_at hl 5 rfl) ?_
                      refine va_get hx hb hts in_X5 hown hK hP 0 rfl rfl 8 (by decide) (hts _ q1670) (fun _ h => h) rfl dX5_transfer_200 ?_
                      refine lv_iload hx hb dX5_transfer_203 (lv_at hl 4 rfl) ?_
                      refine lv_iload hx hb dX5_transfer_205 (lv_at hl 0 rfl) ?_
                      refine lv_iadd hx hb dX5_transfer_207 ?_
                      refine w_topi (y := nI ((22 + 11 * q) + 3)) (nI_add (22 + 11 * q) 3) ?_
                      refine w_iald hx hb hK hP 1 rfl ((22 + 11 * q) + 3) rfl (by omega) (Nat.le_of_ble_eq_true rfl) dX5_transfer_208 ?_
                      refine w_topi (y := cf d q 3) (by (repeat rw [pk_un (by omega)]) <;> rfl) ?_
                      refine w_iast hx hb hK hP (va_D_of hD rfl) hS 1 rfl ((22 + 11 * (dN d 0)) + 3) rfl (by omega) (Nat.le_of_ble_eq_true rfl) dX5_transfer_209 (fun H locs hP _ hS => ?_)
                      have hP : va_P D clA ((o, .inr (0, [.int 0, .ref a1, .int bl, .int tl, .int ps, .int er, .int ea, .int eo, .ref a8, .ref a9, .ref a10, .int (nI (remU u)), .int ns, .int ne, .int se, .ref a15])) :: (a8, .inl (k 0, 1798, .inl (upd (upd (upd (upd (upd d 0 (nI ((dN d 0) + 1))) ((22 + 11 * (dN d 0)) + 0) (cf d q 0)) ((22 + 11 * (dN d 0)) + 1) (cf d q 1)) ((22 + 11 * (dN d 0)) + 2) (cf d q 2)) ((22 + 11 * (dN d 0)) + 3) (cf d q 3)))) :: hW k a9 a1 a15 a10 hh dr fb st (rem u d hs)) H := hP
                      refine lv_iinc (v := 4) (lv' := [(8, .int 4), (7, .int (nI (22 + 11 * (dN d 0)))), (6, .int (nI (dN d 0))), (5, .int (bI (cf d q 8 = 0 ∨ avail d q < am ∨ (cf d q 7 = 0 ∧ ¬ transf d (nI q) = 0)))), (4, .int (nI (22 + 11 * q))), (0, .ref o), (1, .int (nI q)), (2, .int am), (3, .int ex)]) hx hb dX5_transfer_210 hl (k := 0) rfl (by decide) (by decide) rfl (fun ls hl => ?_)
                      refine lv_goto (tgt := 183) hx hb dX5_transfer_213 (by decide) ?_
                      refine lv_iload hx hb dX5_transfer_183 (lv_at hl 0 rfl) ?_
                      refine lv_bipush (v := 11) hx hb dX5_transfer_185 rfl ?_
                      refine lv_icmp_ge (tgt := 216) hx hb dX5_transfer_187 (by decide) (fun c_187 => ?_) (fun c_187 => ?_)
                      · exact absurd c_187 (by decide)
                      · refine lv_aload_n hx hb dX5_transfer_190 rfl (lv_at hl 5 rfl) ?_
                        refine va_get hx hb hts in_X5 hown hK hP 0 rfl rfl 8 (by decide) (hts _ q1670) (fun _ h => h) rfl dX5_transfer_191 ?_
                        refine lv_iload hx hb dX5_transfer_194 (lv_at hl 1 rfl) ?_
                        refine lv_iload hx hb dX5_transfer_196 (lv_at hl 0 rfl) ?_
                        refine lv_iadd hx hb dX5_transfer_198 ?_
                        refine w_topi (y := nI ((22 + 11 * (dN d 0)) + 4)) (nI_add (22 + 11 * (dN d 0)) 4) ?_
                        refine lv_aload_n hx hb dX5_transfer_199 rfl (lv_at hl 5 rfl) ?_
                        refine va_get hx hb hts in_X5 hown hK hP 0 rfl rfl 8 (by decide) (hts _ q1670) (fun _ h => h) rfl dX5_transfer_200 ?_
                        refine lv_iload hx hb dX5_transfer_203 (lv_at hl 4 rfl) ?_
                        refine lv_iload hx hb dX5_transfer_205 (lv_at hl 0 rfl) ?_
                        refine lv_iadd hx hb dX5_transfer_207 ?_
                        refine w_topi (y := nI ((22 + 11 * q) + 4)) (nI_add (22 + 11 * q) 4) ?_
                        refine w_iald hx hb hK hP 1 rfl ((22 + 11 * q) + 4) rfl (by omega) (Nat.le_of_ble_eq_true rfl) dX5_transfer_208 ?_
                        refine w_topi (y := cf d q 4) (by (repeat rw [pk_un (by omega)]) <;> rfl) ?_
                        refine w_iast hx hb hK hP (va_D_of hD rfl) hS 1 rfl ((22 + 11 * (dN d 0)) + 4) rfl (by omega) (Nat.le_of_ble_eq_true rfl) dX5_transfer_209 (fun H locs hP _ hS => ?_)
                        have hP : va_P D clA ((o, .inr (0, [.int 0, .ref a1, .int bl, .int tl, .int ps, .int er, .int ea, .int eo, .ref a8, .ref a9, .ref a10, .int (nI (remU u)), .int ns, .int ne, .int se, .ref a15])) :: (a8, .inl (k 0, 1798, .inl (upd (upd (upd (upd (upd (upd d 0 (nI ((dN d 0) + 1))) ((22 + 11 * (dN d 0)) + 0) (cf d q 0)) ((22 + 11 * (dN d 0)) + 1) (cf d q 1)) ((22 + 11 * (dN d 0)) + 2) (cf d q 2)) ((22 + 11 * (dN d 0)) + 3) (cf d q 3)) ((22 + 11 * (dN d 0)) + 4) (cf d q 4)))) :: hW k a9 a1 a15 a10 hh dr fb st (rem u d hs)) H := hP
                        refine lv_iinc (v := 5) (lv' := [(8, .int 5), (7, .int (nI (22 + 11 * (dN d 0)))), (6, .int (nI (dN d 0))), (5, .int (bI (cf d q 8 = 0 ∨ avail d q < am ∨ (cf d q 7 = 0 ∧ ¬ transf d (nI q) = 0)))), (4, .int (nI (22 + 11 * q))), (0, .ref o), (1, .int (nI q)), (2, .int am), (3, .int ex)]) hx hb dX5_transfer_210 hl (k := 0) rfl (by decide) (by decide) rfl (fun ls hl => ?_)
                        refine lv_goto (tgt := 183) hx hb dX5_transfer_213 (by decide) ?_
                        refine lv_iload hx hb dX5_transfer_183 (lv_at hl 0 rfl) ?_
                        refine lv_bipush (v := 11) hx hb dX5_transfer_185 rfl ?_
                        refine lv_icmp_ge (tgt := 216) hx hb dX5_transfer_187 (by decide) (fun c_187 => ?_) (fun c_187 => ?_)
                        · exact absurd c_187 (by decide)
                        · refine lv_aload_n hx hb dX5_transfer_190 rfl (lv_at hl 5 rfl) ?_
                          refine va_get hx hb hts in_X5 hown hK hP 0 rfl rfl 8 (by decide) (hts _ q1670) (fun _ h => h) rfl dX5_transfer_191 ?_
                          refine lv_iload hx hb dX5_transfer_194 (lv_at hl 1 rfl) ?_
                          refine lv_iload hx hb dX5_transfer_196 (lv_at hl 0 rfl) ?_
                          refine lv_iadd hx hb dX5_transfer_198 ?_
                          refine w_topi (y := nI ((22 + 11 * (dN d 0)) + 5)) (nI_add (22 + 11 * (dN d 0)) 5) ?_
                          refine lv_aload_n hx hb dX5_transfer_199 rfl (lv_at hl 5 rfl) ?_
                          refine va_get hx hb hts in_X5 hown hK hP 0 rfl rfl 8 (by decide) (hts _ q1670) (fun _ h => h) rfl dX5_transfer_200 ?_
                          refine lv_iload hx hb dX5_transfer_203 (lv_at hl 4 rfl) ?_
                          refine lv_iload hx hb dX5_transfer_205 (lv_at hl 0 rfl) ?_
                          refine lv_iadd hx hb dX5_transfer_207 ?_
                          refine w_topi (y := nI ((22 + 11 * q) + 5)) (nI_add (22 + 11 * q) 5) ?_
                          refine w_iald hx hb hK hP 1 rfl ((22 + 11 * q) + 5) rfl (by omega) (Nat.le_of_ble_eq_true rfl) dX5_transfer_208 ?_
                          refine w_topi (y := cf d q 5) (by (repeat rw [pk_un (by omega)]) <;> rfl) ?_
                          refine w_iast hx hb hK hP (va_D_of hD rfl) hS 1 rfl ((22 + 11 * (dN d 0)) + 5) rfl (by omega) (Nat.le_of_ble_eq_true rfl) dX5_transfer_209 (fun H locs hP _ hS => ?_)
                          have hP : va_P D clA ((o, .inr (0, [.int 0, .ref a1, .int bl, .int tl, .int ps, .int er, .int ea, .int eo, .ref a8, .ref a9, .ref a10, .int (nI (remU u)), .int ns, .int ne, .int se, .ref a15])) :: (a8, .inl (k 0, 1798, .inl (upd (upd (upd (upd (upd (upd (upd d 0 (nI ((dN d 0) + 1))) ((22 + 11 * (dN d 0)) + 0) (cf d q 0)) ((22 + 11 * (dN d 0)) + 1) (cf d q 1)) ((22 + 11 * (dN d 0)) + 2) (cf d q 2)) ((22 + 11 * (dN d 0)) + 3) (cf d q 3)) ((22 + 11 * (dN d 0)) + 4) (cf d q 4)) ((22 + 11 * (dN d 0)) + 5) (cf d q 5)))) :: hW k a9 a1 a15 a10 hh dr fb st (rem u d hs)) H := hP
                          refine lv_iinc (v := 6) (lv' := [(8, .int 6), (7, .int (nI (22 + 11 * (dN d 0)))), (6, .int (nI (dN d 0))), (5, .int (bI (cf d q 8 = 0 ∨ avail d q < am ∨ (cf d q 7 = 0 ∧ ¬ transf d (nI q) = 0)))), (4, .int (nI (22 + 11 * q))), (0, .ref o), (1, .int (nI q)), (2, .int am), (3, .int ex)]) hx hb dX5_transfer_210 hl (k := 0) rfl (by decide) (by decide) rfl (fun ls hl => ?_)
                          refine lv_goto (tgt := 183) hx hb dX5_transfer_213 (by decide) ?_
                          refine lv_iload hx hb dX5_transfer_183 (lv_at hl 0 rfl) ?_
                          refine lv_bipush (v := 11) hx hb dX5_transfer_185 rfl ?_
                          refine lv_icmp_ge (tgt := 216) hx hb dX5_transfer_187 (by decide) (fun c_187 => ?_) (fun c_187 => ?_)
                          · exact absurd c_187 (by decide)
                          · refine lv_aload_n hx hb dX5_transfer_190 rfl (lv_at hl 5 rfl) ?_
                            refine va_get hx hb hts in_X5 hown hK hP 0 rfl rfl 8 (by decide) (hts _ q1670) (fun _ h => h) rfl dX5_transfer_191 ?_
                            refine lv_iload hx hb dX5_transfer_194 (lv_at hl 1 rfl) ?_
                            refine lv_iload hx hb dX5_transfer_196 (lv_at hl 0 rfl) ?_
                            refine lv_iadd hx hb dX5_transfer_198 ?_
                            refine w_topi (y := nI ((22 + 11 * (dN d 0)) + 6)) (nI_add (22 + 11 * (dN d 0)) 6) ?_
                            refine lv_aload_n hx hb dX5_transfer_199 rfl (lv_at hl 5 rfl) ?_
                            refine va_get hx hb hts in_X5 hown hK hP 0 rfl rfl 8 (by decide) (hts _ q1670) (fun _ h => h) rfl dX5_transfer_200 ?_
                            refine lv_iload hx hb dX5_transfer_203 (lv_at hl 4 rfl) ?_
                            refine lv_iload hx hb dX5_transfer_205 (lv_at hl 0 rfl) ?_
                            refine lv_iadd hx hb dX5_transfer_207 ?_
                            refine w_topi (y := nI ((22 + 11 * q) + 6)) (nI_add (22 + 11 * q) 6) ?_
                            refine w_iald hx hb hK hP 1 rfl ((22 + 11 * q) + 6) rfl (by omega) (Nat.le_of_ble_eq_true rfl) dX5_transfer_208 ?_
                            refine w_topi (y := cf d q 6) (by (repeat rw [pk_un (by omega)]) <;> rfl) ?_
                            refine w_iast hx hb hK hP (va_D_of hD rfl) hS 1 rfl ((22 + 11 * (dN d 0)) + 6) rfl (by omega) (Nat.le_of_ble_eq_true rfl) dX5_transfer_209 (fun H locs hP _ hS => ?_)
                            have hP : va_P D clA ((o, .inr (0, [.int 0, .ref a1, .int bl, .int tl, .int ps, .int er, .int ea, .int eo, .ref a8, .ref a9, .ref a10, .int (nI (remU u)), .int ns, .int ne, .int se, .ref a15])) :: (a8, .inl (k 0, 1798, .inl (upd (upd (upd (upd (upd (upd (upd (upd d 0 (nI ((dN d 0) + 1))) ((22 + 11 * (dN d 0)) + 0) (cf d q 0)) ((22 + 11 * (dN d 0)) + 1) (cf d q 1)) ((22 + 11 * (dN d 0)) + 2) (cf d q 2)) ((22 + 11 * (dN d 0)) + 3) (cf d q 3)) ((22 + 11 * (dN d 0)) + 4) (cf d q 4)) ((22 + 11 * (dN d 0)) + 5) (cf d q 5)) ((22 + 11 * (dN d 0)) + 6) (cf d q 6)))) :: hW k a9 a1 a15 a10 hh dr fb st (rem u d hs)) H := hP
                            refine lv_iinc (v := 7) (lv' := [(8, .int 7), (7, .int (nI (22 + 11 * (dN d 0)))), (6, .int (nI (dN d 0))), (5, .int (bI (cf d q 8 = 0 ∨ avail d q < am ∨ (cf d q 7 = 0 ∧ ¬ transf d (nI q) = 0)))), (4, .int (nI (22 + 11 * q))), (0, .ref o), (1, .int (nI q)), (2, .int am), (3, .int ex)]) hx hb dX5_transfer_210 hl (k := 0) rfl (by decide) (by decide) rfl (fun ls hl => ?_)
                            refine lv_goto (tgt := 183) hx hb dX5_transfer_213 (by decide) ?_
                            refine lv_iload hx hb dX5_transfer_183 (lv_at hl 0 rfl) ?_
                            refine lv_bipush (v := 11) hx hb dX5_transfer_185 rfl ?_
                            refine lv_icmp_ge (tgt := 216) hx hb dX5_transfer_187 (by decide) (fun c_187 => ?_) (fun c_187 => ?_)
                            · exact absurd c_187 (by decide)
                            · refine lv_aload_n hx hb dX5_transfer_190 rfl (lv_at hl 5 rfl) ?_
                              refine va_get hx hb hts in_X5 hown hK hP 0 rfl rfl 8 (by decide) (hts _ q1670) (fun _ h => h) rfl dX5_transfer_191 ?_
                              refine lv_iload hx hb dX5_transfer_194 (lv_at hl 1 rfl) ?_
                              refine lv_iload hx hb dX5_transfer_196 (lv_at hl 0 rfl) ?_
                              refine lv_iadd hx hb dX5_transfer_198 ?_
                              refine w_topi (y := nI ((22 + 11 * (dN d 0)) + 7)) (nI_add (22 + 11 * (dN d 0)) 7) ?_
                              refine lv_aload_n hx hb dX5_transfer_199 rfl (lv_at hl 5 rfl) ?_
                              refine va_get hx hb hts in_X5 hown hK hP 0 rfl rfl 8 (by decide) (hts _ q1670) (fun _ h => h) rfl dX5_transfer_200 ?_
                              refine lv_iload hx hb dX5_transfer_203 (lv_at hl 4 rfl) ?_
                              refine lv_iload hx hb dX5_transfer_205 (lv_at hl 0 rfl) ?_
                              refine lv_iadd hx hb dX5_transfer_207 ?_
                              refine w_topi (y := nI ((22 + 11 * q) + 7)) (nI_add (22 + 11 * q) 7) ?_
                              refine w_iald hx hb hK hP 1 rfl ((22 + 11 * q) + 7) rfl (by omega) (Nat.le_of_ble_eq_true rfl) dX5_transfer_208 ?_
                              refine w_topi (y := cf d q 7) (by (repeat rw [pk_un (by omega)]) <;> rfl) ?_
                              refine w_iast hx hb hK hP (va_D_of hD rfl) hS 1 rfl ((22 + 11 * (dN d 0)) + 7) rfl (by omega) (Nat.le_of_ble_eq_true rfl) dX5_transfer_209 (fun H locs hP _ hS => ?_)
                              have hP : va_P D clA ((o, .inr (0, [.int 0, .ref a1, .int bl, .int tl, .int ps, .int er, .int ea, .int eo, .ref a8, .ref a9, .ref a10, .int (nI (remU u)), .int ns, .int ne, .int se, .ref a15])) :: (a8, .inl (k 0, 1798, .inl (upd (upd (upd (upd (upd (upd (upd (upd (upd d 0 (nI ((dN d 0) + 1))) ((22 + 11 * (dN d 0)) + 0) (cf d q 0)) ((22 + 11 * (dN d 0)) + 1) (cf d q 1)) ((22 + 11 * (dN d 0)) + 2) (cf d q 2)) ((22 + 11 * (dN d 0)) + 3) (cf d q 3)) ((22 + 11 * (dN d 0)) + 4) (cf d q 4)) ((22 + 11 * (dN d 0)) + 5) (cf d q 5)) ((22 + 11 * (dN d 0)) + 6) (cf d q 6)) ((22 + 11 * (dN d 0)) + 7) (cf d q 7)))) :: hW k a9 a1 a15 a10 hh dr fb st (rem u d hs)) H := hP
                              refine lv_iinc (v := 8) (lv' := [(8, .int 8), (7, .int (nI (22 + 11 * (dN d 0)))), (6, .int (nI (dN d 0))), (5, .int (bI (cf d q 8 = 0 ∨ avail d q < am ∨ (cf d q 7 = 0 ∧ ¬ transf d (nI q) = 0)))), (4, .int (nI (22 + 11 * q))), (0, .ref o), (1, .int (nI q)), (2, .int am), (3, .int ex)]) hx hb dX5_transfer_210 hl (k := 0) rfl (by decide) (by decide) rfl (fun ls hl => ?_)
                              refine lv_goto (tgt := 183) hx hb dX5_transfer_213 (by decide) ?_
                              refine lv_iload hx hb dX5_transfer_183 (lv_at hl 0 rfl) ?_
                              refine lv_bipush (v := 11) hx hb dX5_transfer_185 rfl ?_
                              refine lv_icmp_ge (tgt := 216) hx hb dX5_transfer_187 (by decide) (fun c_187 => ?_) (fun c_187 => ?_)
                              · exact absurd c_187 (by decide)
                              · refine lv_aload_n hx hb dX5_transfer_190 rfl (lv_at hl 5 rfl) ?_
                                refine va_get hx hb hts in_X5 hown hK hP 0 rfl rfl 8 (by decide) (hts _ q1670) (fun _ h => h) rfl dX5_transfer_191 ?_
                                refine lv_iload hx hb dX5_transfer_194 (lv_at hl 1 rfl) ?_
                                refine lv_iload hx hb dX5_transfer_196 (lv_at hl 0 rfl) ?_
                                refine lv_iadd hx hb dX5_transfer_198 ?_
                                refine w_topi (y := nI ((22 + 11 * (dN d 0)) + 8)) (nI_add (22 + 11 * (dN d 0)) 8) ?_
                                refine lv_aload_n hx hb dX5_transfer_199 rfl (lv_at hl 5 rfl) ?_
                                refine va_get hx hb hts in_X5 hown hK hP 0 rfl rfl 8 (by decide) (hts _ q1670) (fun _ h => h) rfl dX5_transfer_200 ?_
                                refine lv_iload hx hb dX5_transfer_203 (lv_at hl 4 rfl) ?_
                                refine lv_iload hx hb dX5_transfer_205 (lv_at hl 0 rfl) ?_
                                refine lv_iadd hx hb dX5_transfer_207 ?_
                                refine w_topi (y := nI ((22 + 11 * q) + 8)) (nI_add (22 + 11 * q) 8) ?_
                                refine w_iald hx hb hK hP 1 rfl ((22 + 11 * q) + 8) rfl (by omega) (Nat.le_of_ble_eq_true rfl) dX5_transfer_208 ?_
                                refine w_topi (y := cf d q 8) (by (repeat rw [pk_un (by omega)]) <;> rfl) ?_
                                refine w_iast hx hb hK hP (va_D_of hD rfl) hS 1 rfl ((22 + 11 * (dN d 0)) + 8) rfl (by omega) (Nat.le_of_ble_eq_true rfl) dX5_transfer_209 (fun H locs hP _ hS => ?_)
                                have hP : va_P D clA ((o, .inr (0, [.int 0, .ref a1, .int bl, .int tl, .int ps, .int er, .int ea, .int eo, .ref a8, .ref a9, .ref a10, .int (nI (remU u)), .int ns, .int ne, .int se, .ref a15])) :: (a8, .inl (k 0, 1798, .inl (upd (upd (upd (upd (upd (upd (upd (upd (upd (upd d 0 (nI ((dN d 0) + 1))) ((22 + 11 * (dN d 0)) + 0) (cf d q 0)) ((22 + 11 * (dN d 0)) + 1) (cf d q 1)) ((22 + 11 * (dN d 0)) + 2) (cf d q 2)) ((22 + 11 * (dN d 0)) + 3) (cf d q 3)) ((22 + 11 * (dN d 0)) + 4) (cf d q 4)) ((22 + 11 * (dN d 0)) + 5) (cf d q 5)) ((22 + 11 * (dN d 0)) + 6) (cf d q 6)) ((22 + 11 * (dN d 0)) + 7) (cf d q 7)) ((22 + 11 * (dN d 0)) + 8) (cf d q 8)))) :: hW k a9 a1 a15 a10 hh dr fb st (rem u d hs)) H := hP
                                refine lv_iinc (v := 9) (lv' := [(8, .int 9), (7, .int (nI (22 + 11 * (dN d 0)))), (6, .int (nI (dN d 0))), (5, .int (bI (cf d q 8 = 0 ∨ avail d q < am ∨ (cf d q 7 = 0 ∧ ¬ transf d (nI q) = 0)))), (4, .int (nI (22 + 11 * q))), (0, .ref o), (1, .int (nI q)), (2, .int am), (3, .int ex)]) hx hb dX5_transfer_210 hl (k := 0) rfl (by decide) (by decide) rfl (fun ls hl => ?_)
                                refine lv_goto (tgt := 183) hx hb dX5_transfer_213 (by decide) ?_
                                refine lv_iload hx hb dX5_transfer_183 (lv_at hl 0 rfl) ?_
                                refine lv_bipush (v := 11) hx hb dX5_transfer_185 rfl ?_
                                refine lv_icmp_ge (tgt := 216) hx hb dX5_transfer_187 (by decide) (fun c_187 => ?_) (fun c_187 => ?_)
                                · exact absurd c_187 (by decide)
                                · refine lv_aload_n hx hb dX5_transfer_190 rfl (lv_at hl 5 rfl) ?_
                                  refine va_get hx hb hts in_X5 hown hK hP 0 rfl rfl 8 (by decide) (hts _ q1670) (fun _ h => h) rfl dX5_transfer_191 ?_
                                  refine lv_iload hx hb dX5_transfer_194 (lv_at hl 1 rfl) ?_
                                  refine lv_iload hx hb dX5_transfer_196 (lv_at hl 0 rfl) ?_
                                  refine lv_iadd hx hb dX5_transfer_198 ?_
                                  refine w_topi (y := nI ((22 + 11 * (dN d 0)) + 9)) (nI_add (22 + 11 * (dN d 0)) 9) ?_
                                  refine lv_aload_n hx hb dX5_transfer_199 rfl (lv_at hl 5 rfl) ?_
                                  refine va_get hx hb hts in_X5 hown hK hP 0 rfl rfl 8 (by decide) (hts _ q1670) (fun _ h => h) rfl dX5_transfer_200 ?_
                                  refine lv_iload hx hb dX5_transfer_203 (lv_at hl 4 rfl) ?_
                                  refine lv_iload hx hb dX5_transfer_205 (lv_at hl 0 rfl) ?_
                                  refine lv_iadd hx hb dX5_transfer_207 ?_
                                  refine w_topi (y := nI ((22 + 11 * q) + 9)) (nI_add (22 + 11 * q) 9) ?_
                                  refine w_iald hx hb hK hP 1 rfl ((22 + 11 * q) + 9) rfl (by omega) (Nat.le_of_ble_eq_true rfl) dX5_transfer_208 ?_
                                  refine w_topi (y := cf d q 9) (by (repeat rw [pk_un (by omega)]) <;> rfl) ?_
                                  refine w_iast hx hb hK hP (va_D_of hD rfl) hS 1 rfl ((22 + 11 * (dN d 0)) + 9) rfl (by omega) (Nat.le_of_ble_eq_true rfl) dX5_transfer_209 (fun H locs hP _ hS => ?_)
                                  have hP : va_P D clA ((o, .inr (0, [.int 0, .ref a1, .int bl, .int tl, .int ps, .int er, .int ea, .int eo, .ref a8, .ref a9, .ref a10, .int (nI (remU u)), .int ns, .int ne, .int se, .ref a15])) :: (a8, .inl (k 0, 1798, .inl (upd (upd (upd (upd (upd (upd (upd (upd (upd (upd (upd d 0 (nI ((dN d 0) + 1))) ((22 + 11 * (dN d 0)) + 0) (cf d q 0)) ((22 + 11 * (dN d 0)) + 1) (cf d q 1)) ((22 + 11 * (dN d 0)) + 2) (cf d q 2)) ((22 + 11 * (dN d 0)) + 3) (cf d q 3)) ((22 + 11 * (dN d 0)) + 4) (cf d q 4)) ((22 + 11 * (dN d 0)) + 5) (cf d q 5)) ((22 + 11 * (dN d 0)) + 6) (cf d q 6)) ((22 + 11 * (dN d 0)) + 7) (cf d q 7)) ((22 + 11 * (dN d 0)) + 8) (cf d q 8)) ((22 + 11 * (dN d 0)) + 9) (cf d q 9)))) :: hW k a9 a1 a15 a10 hh dr fb st (rem u d hs)) H := hP
                                  refine lv_iinc (v := 10) (lv' := [(8, .int 10), (7, .int (nI (22 + 11 * (dN d 0)))), (6, .int (nI (dN d 0))), (5, .int (bI (cf d q 8 = 0 ∨ avail d q < am ∨ (cf d q 7 = 0 ∧ ¬ transf d (nI q) = 0)))), (4, .int (nI (22 + 11 * q))), (0, .ref o), (1, .int (nI q)), (2, .int am), (3, .int ex)]) hx hb dX5_transfer_210 hl (k := 0) rfl (by decide) (by decide) rfl (fun ls hl => ?_)
                                  refine lv_goto (tgt := 183) hx hb dX5_transfer_213 (by decide) ?_
                                  refine lv_iload hx hb dX5_transfer_183 (lv_at hl 0 rfl) ?_
                                  refine lv_bipush (v := 11) hx hb dX5_transfer_185 rfl ?_
                                  refine lv_icmp_ge (tgt := 216) hx hb dX5_transfer_187 (by decide) (fun c_187 => ?_) (fun c_187 => ?_)
                                  · exact absurd c_187 (by decide)
                                  · refine lv_aload_n hx hb dX5_transfer_190 rfl (lv_at hl 5 rfl) ?_
                                    refine va_get hx hb hts in_X5 hown hK hP 0 rfl rfl 8 (by decide) (hts _ q1670) (fun _ h => h) rfl dX5_transfer_191 ?_
                                    refine lv_iload hx hb dX5_transfer_194 (lv_at hl 1 rfl) ?_
                                    refine lv_iload hx hb dX5_transfer_196 (lv_at hl 0 rfl) ?_
                                    refine lv_iadd hx hb dX5_transfer_198 ?_
                                    refine w_topi (y := nI ((22 + 11 * (dN d 0)) + 10)) (nI_add (22 + 11 * (dN d 0)) 10) ?_
                                    refine lv_aload_n hx hb dX5_transfer_199 rfl (lv_at hl 5 rfl) ?_
                                    refine va_get hx hb hts in_X5 hown hK hP 0 rfl rfl 8 (by decide) (hts _ q1670) (fun _ h => h) rfl dX5_transfer_200 ?_
                                    refine lv_iload hx hb dX5_transfer_203 (lv_at hl 4 rfl) ?_
                                    refine lv_iload hx hb dX5_transfer_205 (lv_at hl 0 rfl) ?_
                                    refine lv_iadd hx hb dX5_transfer_207 ?_
                                    refine w_topi (y := nI ((22 + 11 * q) + 10)) (nI_add (22 + 11 * q) 10) ?_
                                    refine w_iald hx hb hK hP 1 rfl ((22 + 11 * q) + 10) rfl (by omega) (Nat.le_of_ble_eq_true rfl) dX5_transfer_208 ?_
                                    refine w_topi (y := cf d q 10) (by (repeat rw [pk_un (by omega)]) <;> rfl) ?_
                                    refine w_iast hx hb hK hP (va_D_of hD rfl) hS 1 rfl ((22 + 11 * (dN d 0)) + 10) rfl (by omega) (Nat.le_of_ble_eq_true rfl) dX5_transfer_209 (fun H locs hP _ hS => ?_)
                                    have hP : va_P D clA ((o, .inr (0, [.int 0, .ref a1, .int bl, .int tl, .int ps, .int er, .int ea, .int eo, .ref a8, .ref a9, .ref a10, .int (nI (remU u)), .int ns, .int ne, .int se, .ref a15])) :: (a8, .inl (k 0, 1798, .inl (upd (upd (upd (upd (upd (upd (upd (upd (upd (upd (upd (upd d 0 (nI ((dN d 0) + 1))) ((22 + 11 * (dN d 0)) + 0) (cf d q 0)) ((22 + 11 * (dN d 0)) + 1) (cf d q 1)) ((22 + 11 * (dN d 0)) + 2) (cf d q 2)) ((22 + 11 * (dN d 0)) + 3) (cf d q 3)) ((22 + 11 * (dN d 0)) + 4) (cf d q 4)) ((22 + 11 * (dN d 0)) + 5) (cf d q 5)) ((22 + 11 * (dN d 0)) + 6) (cf d q 6)) ((22 + 11 * (dN d 0)) + 7) (cf d q 7)) ((22 + 11 * (dN d 0)) + 8) (cf d q 8)) ((22 + 11 * (dN d 0)) + 9) (cf d q 9)) ((22 + 11 * (dN d 0)) + 10) (cf d q 10)))) :: hW k a9 a1 a15 a10 hh dr fb st (rem u d hs)) H := hP
                                    refine lv_iinc (v := 11) (lv' := [(8, .int 11), (7, .int (nI (22 + 11 * (dN d 0)))), (6, .int (nI (dN d 0))), (5, .int (bI (cf d q 8 = 0 ∨ avail d q < am ∨ (cf d q 7 = 0 ∧ ¬ transf d (nI q) = 0)))), (4, .int (nI (22 + 11 * q))), (0, .ref o), (1, .int (nI q)), (2, .int am), (3, .int ex)]) hx hb dX5_transfer_210 hl (k := 0) rfl (by decide) (by decide) rfl (fun ls hl => ?_)
                                    refine lv_goto (tgt := 183) hx hb dX5_transfer_213 (by decide) ?_
                                    refine lv_iload hx hb dX5_transfer_183 (lv_at hl 0 rfl) ?_
                                    refine lv_bipush (v := 11) hx hb dX5_transfer_185 rfl ?_
                                    refine lv_icmp_ge (tgt := 216) hx hb dX5_transfer_187 (by decide) (fun c_187 => ?_) (fun c_187 => ?_)
                                    · refine lv_aload_n hx hb dX5_transfer_216 rfl (lv_at hl 5 rfl) ?_
                                      refine va_get hx hb hts in_X5 hown hK hP 0 rfl rfl 8 (by decide) (hts _ q1670) (fun _ h => h) rfl dX5_transfer_217 ?_
                                      refine lv_iload hx hb dX5_transfer_220 (lv_at hl 1 rfl) ?_
                                      refine lv_iload_n hx hb dX5_transfer_222 rfl (lv_at hl 7 rfl) ?_
                                      refine w_iast hx hb hK hP (va_D_of hD rfl) hS 1 rfl (22 + 11 * (dN d 0)) rfl (by omega) (Nat.le_of_ble_eq_true rfl) dX5_transfer_223 (fun H locs hP _ hS => ?_)
                                      have hP : va_P D clA ((o, .inr (0, [.int 0, .ref a1, .int bl, .int tl, .int ps, .int er, .int ea, .int eo, .ref a8, .ref a9, .ref a10, .int (nI (remU u)), .int ns, .int ne, .int se, .ref a15])) :: (a8, .inl (k 0, 1798, .inl (upd (upd (upd (upd (upd (upd (upd (upd (upd (upd (upd (upd (upd d 0 (nI ((dN d 0) + 1))) ((22 + 11 * (dN d 0)) + 0) (cf d q 0)) ((22 + 11 * (dN d 0)) + 1) (cf d q 1)) ((22 + 11 * (dN d 0)) + 2) (cf d q 2)) ((22 + 11 * (dN d 0)) + 3) (cf d q 3)) ((22 + 11 * (dN d 0)) + 4) (cf d q 4)) ((22 + 11 * (dN d 0)) + 5) (cf d q 5)) ((22 + 11 * (dN d 0)) + 6) (cf d q 6)) ((22 + 11 * (dN d 0)) + 7) (cf d q 7)) ((22 + 11 * (dN d 0)) + 8) (cf d q 8)) ((22 + 11 * (dN d 0)) + 9) (cf d q 9)) ((22 + 11 * (dN d 0)) + 10) (cf d q 10)) (22 + 11 * (dN d 0)) am))) :: hW k a9 a1 a15 a10 hh dr fb st (rem u d hs)) H := hP
                                      refine lv_aload_n hx hb dX5_transfer_224 rfl (lv_at hl 5 rfl) ?_
                                      refine va_get hx hb hts in_X5 hown hK hP 0 rfl rfl 8 (by decide) (hts _ q1670) (fun _ h => h) rfl dX5_transfer_225 ?_
                                      refine lv_iload hx hb dX5_transfer_228 (lv_at hl 1 rfl) ?_
                                      refine lv_iconst (v := 1) hx hb dX5_transfer_230 rfl ?_
                                      refine lv_iadd hx hb dX5_transfer_231 ?_
                                      refine w_topi (y := nI ((22 + 11 * (dN d 0)) + 1)) (nI_add (22 + 11 * (dN d 0)) 1) ?_
                                      refine lv_iconst (v := 0) hx hb dX5_transfer_232 rfl ?_
                                      refine w_iast hx hb hK hP (va_D_of hD rfl) hS 1 rfl ((22 + 11 * (dN d 0)) + 1) rfl (by omega) (Nat.le_of_ble_eq_true rfl) dX5_transfer_233 (fun H locs hP _ hS => ?_)
                                      have hP : va_P D clA ((o, .inr (0, [.int 0, .ref a1, .int bl, .int tl, .int ps, .int er, .int ea, .int eo, .ref a8, .ref a9, .ref a10, .int (nI (remU u)), .int ns, .int ne, .int se, .ref a15])) :: (a8, .inl (k 0, 1798, .inl (upd (upd (upd (upd (upd (upd (upd (upd (upd (upd (upd (upd (upd (upd d 0 (nI ((dN d 0) + 1))) ((22 + 11 * (dN d 0)) + 0) (cf d q 0)) ((22 + 11 * (dN d 0)) + 1) (cf d q 1)) ((22 + 11 * (dN d 0)) + 2) (cf d q 2)) ((22 + 11 * (dN d 0)) + 3) (cf d q 3)) ((22 + 11 * (dN d 0)) + 4) (cf d q 4)) ((22 + 11 * (dN d 0)) + 5) (cf d q 5)) ((22 + 11 * (dN d 0)) + 6) (cf d q 6)) ((22 + 11 * (dN d 0)) + 7) (cf d q 7)) ((22 + 11 * (dN d 0)) + 8) (cf d q 8)) ((22 + 11 * (dN d 0)) + 9) (cf d q 9)) ((22 + 11 * (dN d 0)) + 10) (cf d q 10)) (22 + 11 * (dN d 0)) am) ((22 + 11 * (dN d 0)) + 1) 0))) :: hW k a9 a1 a15 a10 hh dr fb st (rem u d hs)) H := hP
                                      refine lv_aload_n hx hb dX5_transfer_234 rfl (lv_at hl 5 rfl) ?_
                                      refine va_get hx hb hts in_X5 hown hK hP 0 rfl rfl 8 (by decide) (hts _ q1670) (fun _ h => h) rfl dX5_transfer_235 ?_
                                      refine lv_iload hx hb dX5_transfer_238 (lv_at hl 1 rfl) ?_
                                      refine lv_iconst (v := 2) hx hb dX5_transfer_240 rfl ?_
                                      refine lv_iadd hx hb dX5_transfer_241 ?_
                                      refine w_topi (y := nI ((22 + 11 * (dN d 0)) + 2)) (nI_add (22 + 11 * (dN d 0)) 2) ?_
                                      refine lv_iconst (v := 0) hx hb dX5_transfer_242 rfl ?_
                                      refine w_iast hx hb hK hP (va_D_of hD rfl) hS 1 rfl ((22 + 11 * (dN d 0)) + 2) rfl (by omega) (Nat.le_of_ble_eq_true rfl) dX5_transfer_243 (fun H locs hP _ hS => ?_)
                                      have hP : va_P D clA ((o, .inr (0, [.int 0, .ref a1, .int bl, .int tl, .int ps, .int er, .int ea, .int eo, .ref a8, .ref a9, .ref a10, .int (nI (remU u)), .int ns, .int ne, .int se, .ref a15])) :: (a8, .inl (k 0, 1798, .inl (upd (upd (upd (upd (upd (upd (upd (upd (upd (upd (upd (upd (upd (upd (upd d 0 (nI ((dN d 0) + 1))) ((22 + 11 * (dN d 0)) + 0) (cf d q 0)) ((22 + 11 * (dN d 0)) + 1) (cf d q 1)) ((22 + 11 * (dN d 0)) + 2) (cf d q 2)) ((22 + 11 * (dN d 0)) + 3) (cf d q 3)) ((22 + 11 * (dN d 0)) + 4) (cf d q 4)) ((22 + 11 * (dN d 0)) + 5) (cf d q 5)) ((22 + 11 * (dN d 0)) + 6) (cf d q 6)) ((22 + 11 * (dN d 0)) + 7) (cf d q 7)) ((22 + 11 * (dN d 0)) + 8) (cf d q 8)) ((22 + 11 * (dN d 0)) + 9) (cf d q 9)) ((22 + 11 * (dN d 0)) + 10) (cf d q 10)) (22 + 11 * (dN d 0)) am) ((22 + 11 * (dN d 0)) + 1) 0) ((22 + 11 * (dN d 0)) + 2) 0))) :: hW k a9 a1 a15 a10 hh dr fb st (rem u d hs)) H := hP
                                      refine lv_aload_n hx hb dX5_transfer_244 rfl (lv_at hl 5 rfl) ?_
                                      refine va_get hx hb hts in_X5 hown hK hP 0 rfl rfl 8 (by decide) (hts _ q1670) (fun _ h => h) rfl dX5_transfer_245 ?_
                                      refine lv_iload hx hb dX5_transfer_248 (lv_at hl 1 rfl) ?_
                                      refine lv_iconst (v := 3) hx hb dX5_transfer_250 rfl ?_
                                      refine lv_iadd hx hb dX5_transfer_251 ?_
                                      refine w_topi (y := nI ((22 + 11 * (dN d 0)) + 3)) (nI_add (22 + 11 * (dN d 0)) 3) ?_
                                      refine lv_iload_n hx hb dX5_transfer_252 rfl (lv_at hl 8 rfl) ?_
                                      refine w_iast hx hb hK hP (va_D_of hD rfl) hS 1 rfl ((22 + 11 * (dN d 0)) + 3) rfl (by omega) (Nat.le_of_ble_eq_true rfl) dX5_transfer_253 (fun H locs hP _ hS => ?_)
                                      have hP : va_P D clA ((o, .inr (0, [.int 0, .ref a1, .int bl, .int tl, .int ps, .int er, .int ea, .int eo, .ref a8, .ref a9, .ref a10, .int (nI (remU u)), .int ns, .int ne, .int se, .ref a15])) :: (a8, .inl (k 0, 1798, .inl (upd (upd (upd (upd (upd (upd (upd (upd (upd (upd (upd (upd (upd (upd (upd (upd d 0 (nI ((dN d 0) + 1))) ((22 + 11 * (dN d 0)) + 0) (cf d q 0)) ((22 + 11 * (dN d 0)) + 1) (cf d q 1)) ((22 + 11 * (dN d 0)) + 2) (cf d q 2)) ((22 + 11 * (dN d 0)) + 3) (cf d q 3)) ((22 + 11 * (dN d 0)) + 4) (cf d q 4)) ((22 + 11 * (dN d 0)) + 5) (cf d q 5)) ((22 + 11 * (dN d 0)) + 6) (cf d q 6)) ((22 + 11 * (dN d 0)) + 7) (cf d q 7)) ((22 + 11 * (dN d 0)) + 8) (cf d q 8)) ((22 + 11 * (dN d 0)) + 9) (cf d q 9)) ((22 + 11 * (dN d 0)) + 10) (cf d q 10)) (22 + 11 * (dN d 0)) am) ((22 + 11 * (dN d 0)) + 1) 0) ((22 + 11 * (dN d 0)) + 2) 0) ((22 + 11 * (dN d 0)) + 3) ex))) :: hW k a9 a1 a15 a10 hh dr fb st (rem u d hs)) H := hP
                                      refine lv_aload_n hx hb dX5_transfer_254 rfl (lv_at hl 5 rfl) ?_
                                      refine va_get hx hb hts in_X5 hown hK hP 0 rfl rfl 8 (by decide) (hts _ q1670) (fun _ h => h) rfl dX5_transfer_255 ?_
                                      refine lv_iload hx hb dX5_transfer_258 (lv_at hl 1 rfl) ?_
                                      refine lv_iconst (v := 4) hx hb dX5_transfer_260 rfl ?_
                                      refine lv_iadd hx hb dX5_transfer_261 ?_
                                      refine w_topi (y := nI ((22 + 11 * (dN d 0)) + 4)) (nI_add (22 + 11 * (dN d 0)) 4) ?_
                                      refine lv_aload_n hx hb dX5_transfer_262 rfl (lv_at hl 5 rfl) ?_
                                      refine va_get hx hb hts in_X5 hown hK hP 0 rfl rfl 8 (by decide) (hts _ q1670) (fun _ h => h) rfl dX5_transfer_263 ?_
                                      refine lv_iload hx hb dX5_transfer_266 (lv_at hl 4 rfl) ?_
                                      refine lv_iconst (v := 4) hx hb dX5_transfer_268 rfl ?_
                                      refine lv_iadd hx hb dX5_transfer_269 ?_
                                      refine w_topi (y := nI ((22 + 11 * q) + 4)) (nI_add (22 + 11 * q) 4) ?_
                                      refine w_iald hx hb hK hP 1 rfl ((22 + 11 * q) + 4) rfl (by omega) (Nat.le_of_ble_eq_true rfl) dX5_transfer_270 ?_
                                      refine w_topi (y := cf d q 4) (by (repeat rw [pk_un (by omega)]) <;> rfl) ?_
                                      refine lv_iload_n hx hb dX5_transfer_271 rfl (lv_at hl 8 rfl) ?_
                                      refine r_callS (As := [.int (cf d q 4), .int ex]) (rest := [.int (nI ((22 + 11 * (dN d 0)) + 4)), .ref a8]) C (m_min l D k (cf d q 4) ex) (va_cwS 2 hts (lw_S q1780 q1781 q76 q1782) rfl rfl rfl (by decide +kernel) ⟨Nat.le_of_ble_eq_true rfl, Nat.le_of_ble_eq_true rfl⟩) hK trivial rfl hl.1 rfl (Nat.le_of_ble_eq_true rfl) dX5_transfer_272 ⟨Nat.le_of_ble_eq_true rfl, Nat.le_of_ble_eq_true rfl⟩ ?_
                                      refine w_iast hx hb hK hP (va_D_of hD rfl) hS 1 rfl ((22 + 11 * (dN d 0)) + 4) rfl (by omega) (Nat.le_of_ble_eq_true rfl) dX5_transfer_275 (fun H locs hP _ hS => ?_)
                                      have hP : va_P D clA ((o, .inr (0, [.int 0, .ref a1, .int bl, .int tl, .int ps, .int er, .int ea, .int eo, .ref a8, .ref a9, .ref a10, .int (nI (remU u)), .int ns, .int ne, .int se, .ref a15])) :: (a8, .inl (k 0, 1798, .inl (upd (upd (upd (upd (upd (upd (upd (upd (upd (upd (upd (upd (upd (upd (upd (upd (upd d 0 (nI ((dN d 0) + 1))) ((22 + 11 * (dN d 0)) + 0) (cf d q 0)) ((22 + 11 * (dN d 0)) + 1) (cf d q 1)) ((22 + 11 * (dN d 0)) + 2) (cf d q 2)) ((22 + 11 * (dN d 0)) + 3) (cf d q 3)) ((22 + 11 * (dN d 0)) + 4) (cf d q 4)) ((22 + 11 * (dN d 0)) + 5) (cf d q 5)) ((22 + 11 * (dN d 0)) + 6) (cf d q 6)) ((22 + 11 * (dN d 0)) + 7) (cf d q 7)) ((22 + 11 * (dN d 0)) + 8) (cf d q 8)) ((22 + 11 * (dN d 0)) + 9) (cf d q 9)) ((22 + 11 * (dN d 0)) + 10) (cf d q 10)) (22 + 11 * (dN d 0)) am) ((22 + 11 * (dN d 0)) + 1) 0) ((22 + 11 * (dN d 0)) + 2) 0) ((22 + 11 * (dN d 0)) + 3) ex) ((22 + 11 * (dN d 0)) + 4) (mn (cf d q 4) ex)))) :: hW k a9 a1 a15 a10 hh dr fb st (rem u d hs)) H := hP
                                      refine lv_aload_n hx hb dX5_transfer_276 rfl (lv_at hl 5 rfl) ?_
                                      refine va_get hx hb hts in_X5 hown hK hP 0 rfl rfl 8 (by decide) (hts _ q1670) (fun _ h => h) rfl dX5_transfer_277 ?_
                                      refine lv_iload hx hb dX5_transfer_280 (lv_at hl 1 rfl) ?_
                                      refine lv_bipush (v := 8) hx hb dX5_transfer_282 rfl ?_
                                      refine lv_iadd hx hb dX5_transfer_284 ?_
                                      refine w_topi (y := nI ((22 + 11 * (dN d 0)) + 8)) (nI_add (22 + 11 * (dN d 0)) 8) ?_
                                      refine lv_iconst (v := 0) hx hb dX5_transfer_285 rfl ?_
                                      refine w_iast hx hb hK hP (va_D_of hD rfl) hS 1 rfl ((22 + 11 * (dN d 0)) + 8) rfl (by omega) (Nat.le_of_ble_eq_true rfl) dX5_transfer_286 (fun H locs hP _ hS => ?_)
                                      have hP : va_P D clA ((o, .inr (0, [.int 0, .ref a1, .int bl, .int tl, .int ps, .int er, .int ea, .int eo, .ref a8, .ref a9, .ref a10, .int (nI (remU u)), .int ns, .int ne, .int se, .ref a15])) :: (a8, .inl (k 0, 1798, .inl (upd (upd (upd (upd (upd (upd (upd (upd (upd (upd (upd (upd (upd (upd (upd (upd (upd (upd d 0 (nI ((dN d 0) + 1))) ((22 + 11 * (dN d 0)) + 0) (cf d q 0)) ((22 + 11 * (dN d 0)) + 1) (cf d q 1)) ((22 + 11 * (dN d 0)) + 2) (cf d q 2)) ((22 + 11 * (dN d 0)) + 3) (cf d q 3)) ((22 + 11 * (dN d 0)) + 4) (cf d q 4)) ((22 + 11 * (dN d 0)) + 5) (cf d q 5)) ((22 + 11 * (dN d 0)) + 6) (cf d q 6)) ((22 + 11 * (dN d 0)) + 7) (cf d q 7)) ((22 + 11 * (dN d 0)) + 8) (cf d q 8)) ((22 + 11 * (dN d 0)) + 9) (cf d q 9)) ((22 + 11 * (dN d 0)) + 10) (cf d q 10)) (22 + 11 * (dN d 0)) am) ((22 + 11 * (dN d 0)) + 1) 0) ((22 + 11 * (dN d 0)) + 2) 0) ((22 + 11 * (dN d 0)) + 3) ex) ((22 + 11 * (dN d 0)) + 4) (mn (cf d q 4) ex)) ((22 + 11 * (dN d 0)) + 8) 0))) :: hW k a9 a1 a15 a10 hh dr fb st (rem u d hs)) H := hP
                                      refine lv_aload_n hx hb dX5_transfer_287 rfl (lv_at hl 5 rfl) ?_
                                      refine va_get hx hb hts in_X5 hown hK hP 0 rfl rfl 8 (by decide) (hts _ q1670) (fun _ h => h) rfl dX5_transfer_288 ?_
                                      refine lv_iload hx hb dX5_transfer_291 (lv_at hl 1 rfl) ?_
                                      refine lv_bipush (v := 10) hx hb dX5_transfer_293 rfl ?_
                                      refine lv_iadd hx hb dX5_transfer_295 ?_
                                      refine w_topi (y := nI ((22 + 11 * (dN d 0)) + 10)) (nI_add (22 + 11 * (dN d 0)) 10) ?_
                                      refine lv_iload_n hx hb dX5_transfer_296 rfl (lv_at hl 6 rfl) ?_
                                      refine w_iast hx hb hK hP (va_D_of hD rfl) hS 1 rfl ((22 + 11 * (dN d 0)) + 10) rfl (by omega) (Nat.le_of_ble_eq_true rfl) dX5_transfer_297 (fun H locs hP _ hS => ?_)
                                      have hP : va_P D clA ((o, .inr (0, [.int 0, .ref a1, .int bl, .int tl, .int ps, .int er, .int ea, .int eo, .ref a8, .ref a9, .ref a10, .int (nI (remU u)), .int ns, .int ne, .int se, .ref a15])) :: (a8, .inl (k 0, 1798, .inl (upd (upd (upd (upd (upd (upd (upd (upd (upd (upd (upd (upd (upd (upd (upd (upd (upd (upd (upd d 0 (nI ((dN d 0) + 1))) ((22 + 11 * (dN d 0)) + 0) (cf d q 0)) ((22 + 11 * (dN d 0)) + 1) (cf d q 1)) ((22 + 11 * (dN d 0)) + 2) (cf d q 2)) ((22 + 11 * (dN d 0)) + 3) (cf d q 3)) ((22 + 11 * (dN d 0)) + 4) (cf d q 4)) ((22 + 11 * (dN d 0)) + 5) (cf d q 5)) ((22 + 11 * (dN d 0)) + 6) (cf d q 6)) ((22 + 11 * (dN d 0)) + 7) (cf d q 7)) ((22 + 11 * (dN d 0)) + 8) (cf d q 8)) ((22 + 11 * (dN d 0)) + 9) (cf d q 9)) ((22 + 11 * (dN d 0)) + 10) (cf d q 10)) (22 + 11 * (dN d 0)) am) ((22 + 11 * (dN d 0)) + 1) 0) ((22 + 11 * (dN d 0)) + 2) 0) ((22 + 11 * (dN d 0)) + 3) ex) ((22 + 11 * (dN d 0)) + 4) (mn (cf d q 4) ex)) ((22 + 11 * (dN d 0)) + 8) 0) ((22 + 11 * (dN d 0)) + 10) (nI q)))) :: hW k a9 a1 a15 a10 hh dr fb st (rem u d hs)) H := hP
                                      refine lv_iload hx hb dX5_transfer_298 (lv_at hl 2 rfl) ?_
                                      exact w_iret C (by rw [pick_t (show (hasC d (nI q) ∧ ¬ (¬ inR am 1 999999 ∨ ¬ inR ex 0 999 ∨ cf d (q) 3 < ex) ∧ ¬ ((cf d (q) 8 = 0 ∨ avail d (q) < am ∨ (cf d (q) 7 = 0 ∧ ¬ transf d (nI q) = 0)) ∨ d 0 = 12)) from ⟨Classical.not_not.mp b_10, b_65, b_146⟩)]; exact w1.symm) (by simp only [thr3_d b_10 b_65 b_146, ifp_t (show (hasC d (nI q) ∧ ¬ (¬ inR am 1 999999 ∨ ¬ inR ex 0 999 ∨ cf d (q) 3 < ex) ∧ ¬ ((cf d (q) 8 = 0 ∨ avail d (q) < am ∨ (cf d (q) 7 = 0 ∧ ¬ transf d (nI q) = 0)) ∨ d 0 = 12)) from ⟨Classical.not_not.mp b_10, b_65, b_146⟩)]; exact hP) hS dX5_transfer_300
                                    · exact absurd c_187 (by decide)
            · have b_146 := bI_nz c_146
              rw [pick_t b_146] at hP
              refine lv_iconst (v := 0) hx hb dX5_transfer_149 rfl ?_
              exact w_iret C (pick_f (fun h => h.2.2 b_146)).symm (by simp only [thr3_c b_10 b_65 b_146, ifp_f (fun h : (hasC d (nI q) ∧ ¬ (¬ inR am 1 999999 ∨ ¬ inR ex 0 999 ∨ cf d (q) 3 < ex) ∧ ¬ ((cf d (q) 8 = 0 ∨ avail d (q) < am ∨ (cf d (q) 7 = 0 ∧ ¬ transf d (nI q) = 0)) ∨ d 0 = 12)) => h.2.2 b_146)]; exact hP) hS dX5_transfer_150
          refine lv_if_ne (tgt := 137) hx hb dX5_transfer_123 (by decide) (fun c_123 => ?_) (fun c_123 => ?_)
          · have b_123 := bI_nz c_123
            refine lv_iconst (v := 1) hx hb dX5_transfer_137 rfl ?_
            refine lv_goto (tgt := 142) hx hb dX5_transfer_138 (by decide) ?_
            exact J_142 1 (by first | exact bI_t (Or.inl b_123) | exact bI_t (Or.inr c_134) | exact bI_f (fun h => h.elim b_123 c_134)) ls hl
          · have b_123 := bI_0.mp c_123
            refine lv_aload_n hx hb dX5_transfer_126 rfl (lv_at hl 2 rfl) ?_
            refine va_get hx hb hts in_X5 hown hK hP 0 rfl rfl 8 (by decide) (hts _ q1670) (fun _ h => h) rfl dX5_transfer_127 ?_
            refine lv_iconst (v := 0) hx hb dX5_transfer_130 rfl ?_
            refine w_iald hx hb hK hP 1 rfl 0 rfl (Nat.le_of_ble_eq_true rfl) (Nat.le_of_ble_eq_true rfl) dX5_transfer_131 ?_
            refine lv_bipush (v := 12) hx hb dX5_transfer_132 rfl ?_
            refine lv_icmp_ne (tgt := 141) hx hb dX5_transfer_134 (by decide) (fun c_134 => ?_) (fun c_134 => ?_)
            · refine lv_iconst (v := 0) hx hb dX5_transfer_141 rfl ?_
              exact J_142 0 (by first | exact bI_t (Or.inl b_123) | exact bI_t (Or.inr c_134) | exact bI_f (fun h => h.elim b_123 c_134)) ls hl
            · refine lv_iconst (v := 1) hx hb dX5_transfer_137 rfl ?_
              refine lv_goto (tgt := 142) hx hb dX5_transfer_138 (by decide) ?_
              exact J_142 1 (by first | exact bI_t (Or.inl b_123) | exact bI_t (Or.inr c_134) | exact bI_f (fun h => h.elim b_123 c_134)) ls hl
        refine lv_if_eq (tgt := 113) hx hb dX5_transfer_80 (by decide) (fun c_80 => ?_) (fun c_80 => ?_)
        · refine lv_iconst (v := 1) hx hb dX5_transfer_113 rfl ?_
          refine lv_goto (tgt := 118) hx hb dX5_transfer_114 (by decide) ?_
          exact J_118 1 (bI_t (Or.inl c_80)) ls hl
        · refine lv_iload_n hx hb dX5_transfer_83 rfl (lv_at hl 3 rfl) ?_
          refine lv_aload_n hx hb dX5_transfer_84 rfl (lv_at hl 1 rfl) ?_
          refine lv_iload_n hx hb dX5_transfer_85 rfl (lv_at hl 2 rfl) ?_
          refine r_callV (As := [.int (nI q)]) (rest := [.int am]) C (m_availableOf l D k o a8 ([.int 0, .ref a1, .int bl, .int tl, .int ps, .int er, .int ea, .int eo, .ref a8, .ref a9, .ref a10, .int (nI u), .int ns, .int ne, .int se, .ref a15] : List Value) d rfl hd q (by omega)) (cwV 1 hts (lw_V q1932 q1934 qs58 q76 q1935) rfl rfl rfl (by decide +kernel) ⟨Nat.le_of_ble_eq_true rfl, Nat.le_of_ble_eq_true rfl⟩) hK (va_recv hK hP (ci := 0) (q0 := 0) rfl rfl) (hP.sub [0, 1] rfl) rfl hl.1 rfl (Nat.le_of_ble_eq_true rfl) dX5_transfer_86 ⟨Nat.le_of_ble_eq_true rfl, Nat.le_of_ble_eq_true rfl⟩ ?_
          refine lv_icmp_gt (tgt := 113) hx hb dX5_transfer_89 (by decide) (fun c_89 => ?_) (fun c_89 => ?_)
          · refine lv_iconst (v := 1) hx hb dX5_transfer_113 rfl ?_
            refine lv_goto (tgt := 118) hx hb dX5_transfer_114 (by decide) ?_
            exact J_118 1 (bI_t (Or.inr (Or.inl c_89))) ls hl
          · refine lv_aload_n hx hb dX5_transfer_92 rfl (lv_at hl 1 rfl) ?_
            refine va_get hx hb hts in_X5 hown hK hP 0 rfl rfl 8 (by decide) (hts _ q1670) (fun _ h => h) rfl dX5_transfer_93 ?_
            refine lv_iload hx hb dX5_transfer_96 (lv_at hl 0 rfl) ?_
            refine lv_bipush (v := 7) hx hb dX5_transfer_98 rfl ?_
            refine lv_iadd hx hb dX5_transfer_100 ?_
            refine w_topi (y := nI ((22 + 11 * q) + 7)) (nI_add (22 + 11 * q) 7) ?_
            refine w_iald hx hb hK hP 1 rfl ((22 + 11 * q) + 7) rfl (by omega) (Nat.le_of_ble_eq_true rfl) dX5_transfer_101 ?_
            refine lv_if_ne (tgt := 117) hx hb dX5_transfer_102 (by decide) (fun c_102 => ?_) (fun c_102 => ?_)
            · refine lv_iconst (v := 0) hx hb dX5_transfer_117 rfl ?_
              exact J_118 0 (bI_f (fun h => h.elim c_80 (fun h => h.elim c_89 (fun h => c_102 h.1)))) ls hl
            · refine lv_aload_n hx hb dX5_transfer_105 rfl (lv_at hl 1 rfl) ?_
              refine lv_iload_n hx hb dX5_transfer_106 rfl (lv_at hl 2 rfl) ?_
              refine r_callV (As := [.int (nI q)]) (rest := []) C (m_transferredOf l D k o a8 ([.int 0, .ref a1, .int bl, .int tl, .int ps, .int er, .int ea, .int eo, .ref a8, .ref a9, .ref a10, .int (nI u), .int ns, .int ne, .int se, .ref a15] : List Value) d rfl hd (nI q)) (cwV 1 hts (lw_V q1924 q1926 qs57 q76 q1927) rfl rfl rfl (by decide +kernel) ⟨Nat.le_of_ble_eq_true rfl, Nat.le_of_ble_eq_true rfl⟩) hK (va_recv hK hP (ci := 0) (q0 := 0) rfl rfl) (hP.sub [0, 1] rfl) rfl hl.1 rfl (Nat.le_of_ble_eq_true rfl) dX5_transfer_107 ⟨Nat.le_of_ble_eq_true rfl, Nat.le_of_ble_eq_true rfl⟩ ?_
              refine lv_if_eq (tgt := 117) hx hb dX5_transfer_110 (by decide) (fun c_110 => ?_) (fun c_110 => ?_)
              · refine lv_iconst (v := 0) hx hb dX5_transfer_117 rfl ?_
                exact J_118 0 (bI_f (fun h => h.elim c_80 (fun h => h.elim c_89 (fun h => h.2 c_110)))) ls hl
              · refine lv_iconst (v := 1) hx hb dX5_transfer_113 rfl ?_
                refine lv_goto (tgt := 118) hx hb dX5_transfer_114 (by decide) ?_
                exact J_118 1 (bI_t (Or.inr (Or.inr ⟨c_102, c_110⟩))) ls hl
      · have b_65 := bI_nz c_65
        rw [pick_t b_65] at hP
        refine lv_iconst (v := 0) hx hb dX5_transfer_68 rfl ?_
        exact w_iret C (pick_f (fun h => h.2.1 b_65)).symm (by simp only [thr3_b b_10 b_65, ifp_f (fun h : (hasC d (nI q) ∧ ¬ (¬ inR am 1 999999 ∨ ¬ inR ex 0 999 ∨ cf d (q) 3 < ex) ∧ ¬ ((cf d (q) 8 = 0 ∨ avail d (q) < am ∨ (cf d (q) 7 = 0 ∧ ¬ transf d (nI q) = 0)) ∨ d 0 = 12)) => h.2.1 b_65)]; exact hP) hS dX5_transfer_69
    refine lv_if_eq (tgt := 56) hx hb dX5_transfer_29 (by decide) (fun c_29 => ?_) (fun c_29 => ?_)
    · have b_29 := bI_0.mp c_29
      refine lv_iconst (v := 1) hx hb dX5_transfer_56 rfl ?_
      refine lv_goto (tgt := 61) hx hb dX5_transfer_57 (by decide) ?_
      exact J_61 1 (by first | exact bI_t (Or.inl b_29) | exact bI_t (Or.inr (Or.inl b_40)) | exact bI_t (Or.inr (Or.inr (Int32.not_le.mp c_53))) | exact bI_f (fun h => h.elim (fun h => h b_29) (fun h => h.elim (fun h => h b_40) (fun h => absurd c_53 (Int32.not_le.mpr h))))) ls hl
    · have b_29 := bI_nz c_29
      refine lv_iload_n hx hb dX5_transfer_32 rfl (lv_at hl 4 rfl) ?_
      refine lv_iconst (v := 0) hx hb dX5_transfer_33 rfl ?_
      refine lv_sipush (v := 999) hx hb dX5_transfer_34 rfl ?_
      refine r_callS (As := [.int ex, .int 0, .int 999]) (rest := [.ref o]) C (m_in l D k ex 0 999) (va_cwS 3 hts (lw_S q1724 q1725 q76 q1726) rfl rfl rfl (by decide +kernel) ⟨Nat.le_of_ble_eq_true rfl, Nat.le_of_ble_eq_true rfl⟩) hK trivial rfl hl.1 rfl (Nat.le_of_ble_eq_true rfl) dX5_transfer_37 ⟨Nat.le_of_ble_eq_true rfl, Nat.le_of_ble_eq_true rfl⟩ ?_
      refine lv_if_eq (tgt := 56) hx hb dX5_transfer_40 (by decide) (fun c_40 => ?_) (fun c_40 => ?_)
      · have b_40 := bI_0.mp c_40
        refine lv_iconst (v := 1) hx hb dX5_transfer_56 rfl ?_
        refine lv_goto (tgt := 61) hx hb dX5_transfer_57 (by decide) ?_
        exact J_61 1 (by first | exact bI_t (Or.inl b_29) | exact bI_t (Or.inr (Or.inl b_40)) | exact bI_t (Or.inr (Or.inr (Int32.not_le.mp c_53))) | exact bI_f (fun h => h.elim (fun h => h b_29) (fun h => h.elim (fun h => h b_40) (fun h => absurd c_53 (Int32.not_le.mpr h))))) ls hl
      · have b_40 := bI_nz c_40
        refine lv_iload_n hx hb dX5_transfer_43 rfl (lv_at hl 4 rfl) ?_
        refine lv_aload_n hx hb dX5_transfer_44 rfl (lv_at hl 1 rfl) ?_
        refine va_get hx hb hts in_X5 hown hK hP 0 rfl rfl 8 (by decide) (hts _ q1670) (fun _ h => h) rfl dX5_transfer_45 ?_
        refine lv_iload hx hb dX5_transfer_48 (lv_at hl 0 rfl) ?_
        refine lv_iconst (v := 3) hx hb dX5_transfer_50 rfl ?_
        refine lv_iadd hx hb dX5_transfer_51 ?_
        refine w_topi (y := nI ((22 + 11 * q) + 3)) (nI_add (22 + 11 * q) 3) ?_
        refine w_iald hx hb hK hP 1 rfl ((22 + 11 * q) + 3) rfl (by omega) (Nat.le_of_ble_eq_true rfl) dX5_transfer_52 ?_
        refine lv_icmp_le (tgt := 60) hx hb dX5_transfer_53 (by decide) (fun c_53 => ?_) (fun c_53 => ?_)
        · refine lv_iconst (v := 0) hx hb dX5_transfer_60 rfl ?_
          exact J_61 0 (by first | exact bI_t (Or.inl b_29) | exact bI_t (Or.inr (Or.inl b_40)) | exact bI_t (Or.inr (Or.inr (Int32.not_le.mp c_53))) | exact bI_f (fun h => h.elim (fun h => h b_29) (fun h => h.elim (fun h => h b_40) (fun h => absurd c_53 (Int32.not_le.mpr h))))) ls hl
        · refine lv_iconst (v := 1) hx hb dX5_transfer_56 rfl ?_
          refine lv_goto (tgt := 61) hx hb dX5_transfer_57 (by decide) ?_
          exact J_61 1 (by first | exact bI_t (Or.inl b_29) | exact bI_t (Or.inr (Or.inl b_40)) | exact bI_t (Or.inr (Or.inr (Int32.not_le.mp c_53))) | exact bI_f (fun h => h.elim (fun h => h b_29) (fun h => h.elim (fun h => h b_40) (fun h => absurd c_53 (Int32.not_le.mpr h))))) ls hl
  · have b_10 := bI_nz c_10
    rw [pick_t b_10] at hP
    refine lv_iconst (v := 0) hx hb dX5_transfer_13 rfl ?_
    exact w_iret C (pick_f (fun h => b_10 h.1)).symm (by simp only [thr3_a b_10, ifp_f (fun h : (hasC d x ∧ ¬ (¬ inR am 1 999999 ∨ ¬ inR ex 0 999 ∨ cf d (ci x) 3 < ex) ∧ ¬ ((cf d (ci x) 8 = 0 ∨ avail d (ci x) < am ∨ (cf d (ci x) 7 = 0 ∧ ¬ transf d x = 0)) ∨ d 0 = 12)) => b_10 h.1)]; exact hP) hS dX5_transfer_14
def appD (fb : Nat → Int32) (b : Nat) (w0 w1 w2 w3 w4 : Int32) : Nat → Int32 :=
  upd (upd (upd (upd (upd (upd (upd (upd (upd (upd (upd (upd (upd (upd (upd (upd (upd (upd (upd (upd fb b ((w0 >>> ((24 : Int32) &&& 31)) &&& 255)) (b + 1) ((w0 >>> ((16 : Int32) &&& 31)) &&& 255)) (b + 2) ((w0 >>> ((8 : Int32) &&& 31)) &&& 255)) (b + 3) ((w0 >>> ((0 : Int32) &&& 31)) &&& 255)) (b + 4) ((w1 >>> ((24 : Int32) &&& 31)) &&& 255)) (b + 5) ((w1 >>> ((16 : Int32) &&& 31)) &&& 255)) (b + 6) ((w1 >>> ((8 : Int32) &&& 31)) &&& 255)) (b + 7) ((w1 >>> ((0 : Int32) &&& 31)) &&& 255)) (b + 8) ((w2 >>> ((24 : Int32) &&& 31)) &&& 255)) (b + 9) ((w2 >>> ((16 : Int32) &&& 31)) &&& 255)) (b + 10) ((w2 >>> ((8 : Int32) &&& 31)) &&& 255)) (b + 11) ((w2 >>> ((0 : Int32) &&& 31)) &&& 255)) (b + 12) ((w3 >>> ((24 : Int32) &&& 31)) &&& 255)) (b + 13) ((w3 >>> ((16 : Int32) &&& 31)) &&& 255)) (b + 14) ((w3 >>> ((8 : Int32) &&& 31)) &&& 255)) (b + 15) ((w3 >>> ((0 : Int32) &&& 31)) &&& 255)) (b + 16) ((w4 >>> ((24 : Int32) &&& 31)) &&& 255)) (b + 17) ((w4 >>> ((16 : Int32) &&& 31)) &&& 255)) (b + 18) ((w4 >>> ((8 : Int32) &&& 31)) &&& 255)) (b + 19) ((w4 >>> ((0 : Int32) &&& 31)) &&& 255)
set_option maxHeartbeats 16000000 in
theorem m_append (l : Launch) (D : va_G) (k : Nat → ClassId) (o a1 a8 a9 a10 a15 : Nat) (t tl ps er ea eo ud ns ne se : Int32) (wr : va_W) (d dr fb : Nat → Int32) (b : Nat) (hb0 : b ≤ 900) (w0 w1 w2 w3 w4 : Int32) (A : Nat → Prop) (hD : va_D A ((o, .inr (0, [.int t, .ref a1, .int (nI b), .int tl, .int ps, .int er, .int ea, .int eo, .ref a8, .ref a9, .ref a10, .int ud, .int ns, .int ne, .int se, .ref a15])) :: (a8, .inl (k 0, 1798, .inl d)) :: (a9, .inl (k 0, 1798, .inl dr)) :: (a1, .inl (k 0, 900, .inl fb)) :: wr)) : wM l D k yX5_append cX5_append 8 (some .int) 0 0 [.ref o, .int w0, .int w1, .int w2, .int w3, .int w4] ((o, .inr (0, [.int t, .ref a1, .int (nI b), .int tl, .int ps, .int er, .int ea, .int eo, .ref a8, .ref a9, .ref a10, .int ud, .int ns, .int ne, .int se, .ref a15])) :: (a8, .inl (k 0, 1798, .inl d)) :: (a9, .inl (k 0, 1798, .inl dr)) :: (a1, .inl (k 0, 900, .inl fb)) :: wr) (some (.int (if b + 20 ≤ 900 then nI (b + 20) else -1))) ((o, .inr (0, [.int 0, .ref a1, .int (nI (if b + 20 ≤ 900 then b + 20 else b)), .int tl, .int ps, .int er, .int ea, .int eo, .ref a8, .ref a9, .ref a10, .int ud, .int ns, .int ne, .int se, .ref a15])) :: (a8, .inl (k 0, 1798, .inl d)) :: (a9, .inl (k 0, 1798, .inl dr)) :: (a1, .inl (k 0, 900, .inl (if b + 20 ≤ 900 then appD fb b w0 w1 w2 w3 w4 else fb))) :: wr) A := by
  refine wM_of (by decide) (Nat.le_of_ble_eq_true rfl) ?_
  intro p e s m below meth c ls C hK hP hS hl
  obtain ⟨hx, hb, hr, hml, hown, hts, hlk⟩ := id C
  have hl : lv_has ls 8 [(0, .ref o), (1, .int w0), (2, .int w1), (3, .int w2), (4, .int w3), (5, .int w4)] := hl
  refine lv_aload_n hx hb dX5_append_0 rfl (lv_at hl 0 rfl) ?_
  refine lv_iconst (v := 0) hx hb dX5_append_1 rfl ?_
  refine va_put hx hb hts in_X5 tyX5 tyX5_ok nmX5 hown hK hP (va_D_of hD rfl) hS 0 rfl rfl 0 (by decide) (hts _ q1662) (fun _ h => h) rfl rfl rfl rfl (Nat.le_of_ble_eq_true rfl) dX5_append_2 (fun H locs hP _ hS => ?_)
  have hP : va_P D clA ((o, .inr (0, [.int 0, .ref a1, .int (nI b), .int tl, .int ps, .int er, .int ea, .int eo, .ref a8, .ref a9, .ref a10, .int ud, .int ns, .int ne, .int se, .ref a15])) :: (a8, .inl (k 0, 1798, .inl d)) :: (a9, .inl (k 0, 1798, .inl dr)) :: (a1, .inl (k 0, 900, .inl fb)) :: wr) H := hP
  refine lv_aload_n hx hb dX5_append_5 rfl (lv_at hl 0 rfl) ?_
  refine va_get hx hb hts in_X5 hown hK hP 0 rfl rfl 2 (by decide) (hts _ q1664) (fun _ h => h) rfl dX5_append_6 ?_
  refine lv_bipush (v := 20) hx hb dX5_append_9 rfl ?_
  refine lv_iadd hx hb dX5_append_11 ?_
  refine w_topi (y := nI (b + 20)) (nI_add b 20) ?_
  refine lv_sipush (v := 900) hx hb dX5_append_12 rfl ?_
  refine lv_icmp_le (tgt := 20) hx hb dX5_append_15 (by decide) (fun c_15 => ?_) (fun c_15 => ?_)
  · have g_15 := nI_le' (b := 900) c_15 (by omega) (by decide)
    refine lv_iconst (v := 0) hx hb dX5_append_20 rfl ?_
    refine lv_istore (lv' := [(6, .int 0), (0, .ref o), (1, .int w0), (2, .int w1), (3, .int w2), (4, .int w3), (5, .int w4)]) hx hb dX5_append_21 hl (by decide) rfl (fun ls hl => ?_)
    refine lv_iload hx hb dX5_append_23 (lv_at hl 0 rfl) ?_
    refine lv_bipush (v := 20) hx hb dX5_append_25 rfl ?_
    refine lv_icmp_ge (tgt := 120) hx hb dX5_append_27 (by decide) (fun c_27 => ?_) (fun c_27 => ?_)
    · exact absurd c_27 (by decide)
    · refine lv_iload hx hb dX5_append_30 (lv_at hl 0 rfl) ?_
      refine lv_iconst (v := 4) hx hb dX5_append_32 rfl ?_
      refine lv_icmp_ge (tgt := 40) hx hb dX5_append_33 (by decide) (fun c_33 => ?_) (fun c_33 => ?_)
      · exact absurd c_33 (by decide)
      · refine lv_iload_n hx hb dX5_append_36 rfl (lv_at hl 2 rfl) ?_
        refine lv_goto (tgt := 76) hx hb dX5_append_37 (by decide) ?_
        refine lv_istore (lv' := [(7, .int w0), (6, .int 0), (0, .ref o), (1, .int w0), (2, .int w1), (3, .int w2), (4, .int w3), (5, .int w4)]) hx hb dX5_append_76 hl (by decide) rfl (fun ls hl => ?_)
        refine lv_aload_n hx hb dX5_append_78 rfl (lv_at hl 2 rfl) ?_
        refine va_get hx hb hts in_X5 hown hK hP 0 rfl rfl 1 (by decide) (hts _ q1663) (fun _ h => h) rfl dX5_append_79 ?_
        refine lv_aload_n hx hb dX5_append_82 rfl (lv_at hl 2 rfl) ?_
        refine va_get hx hb hts in_X5 hown hK hP 0 rfl rfl 2 (by decide) (hts _ q1664) (fun _ h => h) rfl dX5_append_83 ?_
        refine lv_iload hx hb dX5_append_86 (lv_at hl 0 rfl) ?_
        refine lv_bipush (v := 24) hx hb dX5_append_88 rfl ?_
        refine lv_bipush (v := 8) hx hb dX5_append_90 rfl ?_
        refine lv_iload hx hb dX5_append_92 (lv_at hl 1 rfl) ?_
        refine lv_iconst (v := 4) hx hb dX5_append_94 rfl ?_
        refine lv_irem hx hb dX5_append_95 (by decide) ?_
        refine w_topi (y := 0) (by decide) ?_
        refine lv_imul hx hb dX5_append_96 ?_
        refine w_topi (y := 0) (by decide) ?_
        refine lv_isub hx hb dX5_append_97 ?_
        refine w_topi (y := 24) (by decide) ?_
        refine lv_ishr hx hb dX5_append_98 ?_
        refine lv_sipush (v := 255) hx hb dX5_append_99 rfl ?_
        refine lv_iand hx hb dX5_append_102 ?_
        refine w_iast hx hb hK hP (va_D_of hD rfl) hS 3 rfl b rfl (by omega) (Nat.le_of_ble_eq_true rfl) dX5_append_103 (fun H locs hP _ hS => ?_)
        have hP : va_P D clA ((o, .inr (0, [.int 0, .ref a1, .int (nI b), .int tl, .int ps, .int er, .int ea, .int eo, .ref a8, .ref a9, .ref a10, .int ud, .int ns, .int ne, .int se, .ref a15])) :: (a8, .inl (k 0, 1798, .inl d)) :: (a9, .inl (k 0, 1798, .inl dr)) :: (a1, .inl (k 0, 900, .inl (upd fb b ((w0 >>> ((24 : Int32) &&& 31)) &&& 255)))) :: wr) H := hP
        refine lv_aload_n hx hb dX5_append_104 rfl (lv_at hl 2 rfl) ?_
        refine lv_dup hx hb dX5_append_105 rfl ?_
        refine va_get hx hb hts in_X5 hown hK hP 0 rfl rfl 2 (by decide) (hts _ q1664) (fun _ h => h) rfl dX5_append_106 ?_
        refine lv_iconst (v := 1) hx hb dX5_append_109 rfl ?_
        refine lv_iadd hx hb dX5_append_110 ?_
        refine w_topi (y := nI (b + 1)) (nI_add b 1) ?_
        refine va_put hx hb hts in_X5 tyX5 tyX5_ok nmX5 hown hK hP (va_D_of hD rfl) hS 0 rfl rfl 2 (by decide) (hts _ q1664) (fun _ h => h) rfl rfl rfl rfl (Nat.le_of_ble_eq_true rfl) dX5_append_111 (fun H locs hP _ hS => ?_)
        have hP : va_P D clA ((o, .inr (0, [.int 0, .ref a1, .int (nI (b + 1)), .int tl, .int ps, .int er, .int ea, .int eo, .ref a8, .ref a9, .ref a10, .int ud, .int ns, .int ne, .int se, .ref a15])) :: (a8, .inl (k 0, 1798, .inl d)) :: (a9, .inl (k 0, 1798, .inl dr)) :: (a1, .inl (k 0, 900, .inl (upd fb b ((w0 >>> ((24 : Int32) &&& 31)) &&& 255)))) :: wr) H := hP
        refine lv_iinc (v := 1) (lv' := [(6, .int 1), (7, .int w0), (0, .ref o), (1, .int w0), (2, .int w1), (3, .int w2), (4, .int w3), (5, .int w4)]) hx hb dX5_append_114 hl (k := 1) rfl (by decide) (by decide) rfl (fun ls hl => ?_)
        refine lv_goto (tgt := 23) hx hb dX5_append_117 (by decide) ?_
        refine lv_iload hx hb dX5_append_23 (lv_at hl 0 rfl) ?_
        refine lv_bipush (v := 20) hx hb dX5_append_25 rfl ?_
        refine lv_icmp_ge (tgt := 120) hx hb dX5_append_27 (by decide) (fun c_27 => ?_) (fun c_27 => ?_)
        · exact absurd c_27 (by decide)
        · refine lv_iload hx hb dX5_append_30 (lv_at hl 0 rfl) ?_
          refine lv_iconst (v := 4) hx hb dX5_append_32 rfl ?_
          refine lv_icmp_ge (tgt := 40) hx hb dX5_append_33 (by decide) (fun c_33 => ?_) (fun c_33 => ?_)
          · exact absurd c_33 (by decide)
          · refine lv_iload_n hx hb dX5_append_36 rfl (lv_at hl 3 rfl) ?_
            refine lv_goto (tgt := 76) hx hb dX5_append_37 (by decide) ?_
            refine lv_istore (lv' := [(7, .int w0), (6, .int 1), (0, .ref o), (1, .int w0), (2, .int w1), (3, .int w2), (4, .int w3), (5, .int w4)]) hx hb dX5_append_76 hl (by decide) rfl (fun ls hl => ?_)
            refine lv_aload_n hx hb dX5_append_78 rfl (lv_at hl 2 rfl) ?_
            refine va_get hx hb hts in_X5 hown hK hP 0 rfl rfl 1 (by decide) (hts _ q1663) (fun _ h => h) rfl dX5_append_79 ?_
            refine lv_aload_n hx hb dX5_append_82 rfl (lv_at hl 2 rfl) ?_
            refine va_get hx hb hts in_X5 hown hK hP 0 rfl rfl 2 (by decide) (hts _ q1664) (fun _ h => h) rfl dX5_append_83 ?_
            refine lv_iload hx hb dX5_append_86 (lv_at hl 0 rfl) ?_
            refine lv_bipush (v := 24) hx hb dX5_append_88 rfl ?_
            refine lv_bipush (v := 8) hx hb dX5_append_90 rfl ?_
            refine lv_iload hx hb dX5_append_92 (lv_at hl 1 rfl) ?_
            refine lv_iconst (v := 4) hx hb dX5_append_94 rfl ?_
            refine lv_irem hx hb dX5_append_95 (by decide) ?_
            refine w_topi (y := 1) (by decide) ?_
            refine lv_imul hx hb dX5_append_96 ?_
            refine w_topi (y := 8) (by decide) ?_
            refine lv_isub hx hb dX5_append_97 ?_
            refine w_topi (y := 16) (by decide) ?_
            refine lv_ishr hx hb dX5_append_98 ?_
            refine lv_sipush (v := 255) hx hb dX5_append_99 rfl ?_
            refine lv_iand hx hb dX5_append_102 ?_
            refine w_iast hx hb hK hP (va_D_of hD rfl) hS 3 rfl (b + 1) rfl (by omega) (Nat.le_of_ble_eq_true rfl) dX5_append_103 (fun H locs hP _ hS => ?_)
            have hP : va_P D clA ((o, .inr (0, [.int 0, .ref a1, .int (nI (b + 1)), .int tl, .int ps, .int er, .int ea, .int eo, .ref a8, .ref a9, .ref a10, .int ud, .int ns, .int ne, .int se, .ref a15])) :: (a8, .inl (k 0, 1798, .inl d)) :: (a9, .inl (k 0, 1798, .inl dr)) :: (a1, .inl (k 0, 900, .inl (upd (upd fb b ((w0 >>> ((24 : Int32) &&& 31)) &&& 255)) (b + 1) ((w0 >>> ((16 : Int32) &&& 31)) &&& 255)))) :: wr) H := hP
            refine lv_aload_n hx hb dX5_append_104 rfl (lv_at hl 2 rfl) ?_
            refine lv_dup hx hb dX5_append_105 rfl ?_
            refine va_get hx hb hts in_X5 hown hK hP 0 rfl rfl 2 (by decide) (hts _ q1664) (fun _ h => h) rfl dX5_append_106 ?_
            refine lv_iconst (v := 1) hx hb dX5_append_109 rfl ?_
            refine lv_iadd hx hb dX5_append_110 ?_
            refine w_topi (y := nI ((b + 1) + 1)) (nI_add (b + 1) 1) ?_
            refine w_topi (y := nI (b + 2)) rfl ?_
            refine va_put hx hb hts in_X5 tyX5 tyX5_ok nmX5 hown hK hP (va_D_of hD rfl) hS 0 rfl rfl 2 (by decide) (hts _ q1664) (fun _ h => h) rfl rfl rfl rfl (Nat.le_of_ble_eq_true rfl) dX5_append_111 (fun H locs hP _ hS => ?_)
            have hP : va_P D clA ((o, .inr (0, [.int 0, .ref a1, .int (nI (b + 2)), .int tl, .int ps, .int er, .int ea, .int eo, .ref a8, .ref a9, .ref a10, .int ud, .int ns, .int ne, .int se, .ref a15])) :: (a8, .inl (k 0, 1798, .inl d)) :: (a9, .inl (k 0, 1798, .inl dr)) :: (a1, .inl (k 0, 900, .inl (upd (upd fb b ((w0 >>> ((24 : Int32) &&& 31)) &&& 255)) (b + 1) ((w0 >>> ((16 : Int32) &&& 31)) &&& 255)))) :: wr) H := hP
            refine lv_iinc (v := 2) (lv' := [(6, .int 2), (7, .int w0), (0, .ref o), (1, .int w0), (2, .int w1), (3, .int w2), (4, .int w3), (5, .int w4)]) hx hb dX5_append_114 hl (k := 1) rfl (by decide) (by decide) rfl (fun ls hl => ?_)
            refine lv_goto (tgt := 23) hx hb dX5_append_117 (by decide) ?_
            refine lv_iload hx hb dX5_append_23 (lv_at hl 0 rfl) ?_
            refine lv_bipush (v := 20) hx hb dX5_append_25 rfl ?_
            refine lv_icmp_ge (tgt := 120) hx hb dX5_append_27 (by decide) (fun c_27 => ?_) (fun c_27 => ?_)
            · exact absurd c_27 (by decide)
            · refine lv_iload hx hb dX5_append_30 (lv_at hl 0 rfl) ?_
              refine lv_iconst (v := 4) hx hb dX5_append_32 rfl ?_
              refine lv_icmp_ge (tgt := 40) hx hb dX5_append_33 (by decide) (fun c_33 => ?_) (fun c_33 => ?_)
              · exact absurd c_33 (by decide)
              · refine lv_iload_n hx hb dX5_append_36 rfl (lv_at hl 3 rfl) ?_
                refine lv_goto (tgt := 76) hx hb dX5_append_37 (by decide) ?_
                refine lv_istore (lv' := [(7, .int w0), (6, .int 2), (0, .ref o), (1, .int w0), (2, .int w1), (3, .int w2), (4, .int w3), (5, .int w4)]) hx hb dX5_append_76 hl (by decide) rfl (fun ls hl => ?_)
                refine lv_aload_n hx hb dX5_append_78 rfl (lv_at hl 2 rfl) ?_
                refine va_get hx hb hts in_X5 hown hK hP 0 rfl rfl 1 (by decide) (hts _ q1663) (fun _ h => h) rfl dX5_append_79 ?_
                refine lv_aload_n hx hb dX5_append_82 rfl (lv_at hl 2 rfl) ?_
                refine va_get hx hb hts in_X5 hown hK hP 0 rfl rfl 2 (by decide) (hts _ q1664) (fun _ h => h) rfl dX5_append_83 ?_
                refine lv_iload hx hb dX5_append_86 (lv_at hl 0 rfl) ?_
                refine lv_bipush (v := 24) hx hb dX5_append_88 rfl ?_
                refine lv_bipush (v := 8) hx hb dX5_append_90 rfl ?_
                refine lv_iload hx hb dX5_append_92 (lv_at hl 1 rfl) ?_
                refine lv_iconst (v := 4) hx hb dX5_append_94 rfl ?_
                refine lv_irem hx hb dX5_append_95 (by decide) ?_
                refine w_topi (y := 2) (by decide) ?_
                refine lv_imul hx hb dX5_append_96 ?_
                refine w_topi (y := 16) (by decide) ?_
                refine lv_isub hx hb dX5_append_97 ?_
                refine w_topi (y := 8) (by decide) ?_
                refine lv_ishr hx hb dX5_append_98 ?_
                refine lv_sipush (v := 255) hx hb dX5_append_99 rfl ?_
                refine lv_iand hx hb dX5_append_102 ?_
                refine w_iast hx hb hK hP (va_D_of hD rfl) hS 3 rfl (b + 2) rfl (by omega) (Nat.le_of_ble_eq_true rfl) dX5_append_103 (fun H locs hP _ hS => ?_)
                have hP : va_P D clA ((o, .inr (0, [.int 0, .ref a1, .int (nI (b + 2)), .int tl, .int ps, .int er, .int ea, .int eo, .ref a8, .ref a9, .ref a10, .int ud, .int ns, .int ne, .int se, .ref a15])) :: (a8, .inl (k 0, 1798, .inl d)) :: (a9, .inl (k 0, 1798, .inl dr)) :: (a1, .inl (k 0, 900, .inl (upd (upd (upd fb b ((w0 >>> ((24 : Int32) &&& 31)) &&& 255)) (b + 1) ((w0 >>> ((16 : Int32) &&& 31)) &&& 255)) (b + 2) ((w0 >>> ((8 : Int32) &&& 31)) &&& 255)))) :: wr) H := hP
                refine lv_aload_n hx hb dX5_append_104 rfl (lv_at hl 2 rfl) ?_
                refine lv_dup hx hb dX5_append_105 rfl ?_
                refine va_get hx hb hts in_X5 hown hK hP 0 rfl rfl 2 (by decide) (hts _ q1664) (fun _ h => h) rfl dX5_append_106 ?_
                refine lv_iconst (v := 1) hx hb dX5_append_109 rfl ?_
                refine lv_iadd hx hb dX5_append_110 ?_
                refine w_topi (y := nI ((b + 2) + 1)) (nI_add (b + 2) 1) ?_
                refine w_topi (y := nI (b + 3)) rfl ?_
                refine va_put hx hb hts in_X5 tyX5 tyX5_ok nmX5 hown hK hP (va_D_of hD rfl) hS 0 rfl rfl 2 (by decide) (hts _ q1664) (fun _ h => h) rfl rfl rfl rfl (Nat.le_of_ble_eq_true rfl) dX5_append_111 (fun H locs hP _ hS => ?_)
                have hP : va_P D clA ((o, .inr (0, [.int 0, .ref a1, .int (nI (b + 3)), .int tl, .int ps, .int er, .int ea, .int eo, .ref a8, .ref a9, .ref a10, .int ud, .int ns, .int ne, .int se, .ref a15])) :: (a8, .inl (k 0, 1798, .inl d)) :: (a9, .inl (k 0, 1798, .inl dr)) :: (a1, .inl (k 0, 900, .inl (upd (upd (upd fb b ((w0 >>> ((24 : Int32) &&& 31)) &&& 255)) (b + 1) ((w0 >>> ((16 : Int32) &&& 31)) &&& 255)) (b + 2) ((w0 >>> ((8 : Int32) &&& 31)) &&& 255)))) :: wr) H := hP
                refine lv_iinc (v := 3) (lv' := [(6, .int 3), (7, .int w0), (0, .ref o), (1, .int w0), (2, .int w1), (3, .int w2), (4, .int w3), (5, .int w4)]) hx hb dX5_append_114 hl (k := 1) rfl (by decide) (by decide) rfl (fun ls hl => ?_)
                refine lv_goto (tgt := 23) hx hb dX5_append_117 (by decide) ?_
                refine lv_iload hx hb dX5_append_23 (lv_at hl 0 rfl) ?_
                refine lv_bipush (v := 20) hx hb dX5_append_25 rfl ?_
                refine lv_icmp_ge (tgt := 120) hx hb dX5_append_27 (by decide) (fun c_27 => ?_) (fun c_27 => ?_)
                · exact absurd c_27 (by decide)
                · refine lv_iload hx hb dX5_append_30 (lv_at hl 0 rfl) ?_
                  refine lv_iconst (v := 4) hx hb dX5_append_32 rfl ?_
                  refine lv_icmp_ge (tgt := 40) hx hb dX5_append_33 (by decide) (fun c_33 => ?_) (fun c_33 => ?_)
                  · exact absurd c_33 (by decide)
                  · refine lv_iload_n hx hb dX5_append_36 rfl (lv_at hl 3 rfl) ?_
                    refine lv_goto (tgt := 76) hx hb dX5_append_37 (by decide) ?_
                    refine lv_istore (lv' := [(7, .int w0), (6, .int 3), (0, .ref o), (1, .int w0), (2, .int w1), (3, .int w2), (4, .int w3), (5, .int w4)]) hx hb dX5_append_76 hl (by decide) rfl (fun ls hl => ?_)
                    refine lv_aload_n hx hb dX5_append_78 rfl (lv_at hl 2 rfl) ?_
                    refine va_get hx hb hts in_X5 hown hK hP 0 rfl rfl 1 (by decide) (hts _ q1663) (fun _ h => h) rfl dX5_append_79 ?_
                    refine lv_aload_n hx hb dX5_append_82 rfl (lv_at hl 2 rfl) ?_
                    refine va_get hx hb hts in_X5 hown hK hP 0 rfl rfl 2 (by decide) (hts _ q1664) (fun _ h => h) rfl dX5_append_83 ?_
                    refine lv_iload hx hb dX5_append_86 (lv_at hl 0 rfl) ?_
                    refine lv_bipush (v := 24) hx hb dX5_append_88 rfl ?_
                    refine lv_bipush (v := 8) hx hb dX5_append_90 rfl ?_
                    refine lv_iload hx hb dX5_append_92 (lv_at hl 1 rfl) ?_
                    refine lv_iconst (v := 4) hx hb dX5_append_94 rfl ?_
                    refine lv_irem hx hb dX5_append_95 (by decide) ?_
                    refine w_topi (y := 3) (by decide) ?_
                    refine lv_imul hx hb dX5_append_96 ?_
                    refine w_topi (y := 24) (by decide) ?_
                    refine lv_isub hx hb dX5_append_97 ?_
                    refine w_topi (y := 0) (by decide) ?_
                    refine lv_ishr hx hb dX5_append_98 ?_
                    refine lv_sipush (v := 255) hx hb dX5_append_99 rfl ?_
                    refine lv_iand hx hb dX5_append_102 ?_
                    refine w_iast hx hb hK hP (va_D_of hD rfl) hS 3 rfl (b + 3) rfl (by omega) (Nat.le_of_ble_eq_true rfl) dX5_append_103 (fun H locs hP _ hS => ?_)
                    have hP : va_P D clA ((o, .inr (0, [.int 0, .ref a1, .int (nI (b + 3)), .int tl, .int ps, .int er, .int ea, .int eo, .ref a8, .ref a9, .ref a10, .int ud, .int ns, .int ne, .int se, .ref a15])) :: (a8, .inl (k 0, 1798, .inl d)) :: (a9, .inl (k 0, 1798, .inl dr)) :: (a1, .inl (k 0, 900, .inl (upd (upd (upd (upd fb b ((w0 >>> ((24 : Int32) &&& 31)) &&& 255)) (b + 1) ((w0 >>> ((16 : Int32) &&& 31)) &&& 255)) (b + 2) ((w0 >>> ((8 : Int32) &&& 31)) &&& 255)) (b + 3) ((w0 >>> ((0 : Int32) &&& 31)) &&& 255)))) :: wr) H := hP
                    refine lv_aload_n hx hb dX5_append_104 rfl (lv_at hl 2 rfl) ?_
                    refine lv_dup hx hb dX5_append_105 rfl ?_
                    refine va_get hx hb hts in_X5 hown hK hP 0 rfl rfl 2 (by decide) (hts _ q1664) (fun _ h => h) rfl dX5_append_106 ?_
                    refine lv_iconst (v := 1) hx hb dX5_append_109 rfl ?_
                    refine lv_iadd hx hb dX5_append_110 ?_
                    refine w_topi (y := nI ((b + 3) + 1)) (nI_add (b + 3) 1) ?_
                    refine w_topi (y := nI (b + 4)) rfl ?_
                    refine va_put hx hb hts in_X5 tyX5 tyX5_ok nmX5 hown hK hP (va_D_of hD rfl) hS 0 rfl rfl 2 (by decide) (hts _ q1664) (fun _ h => h) rfl rfl rfl rfl (Nat.le_of_ble_eq_true rfl) dX5_append_111 (fun H locs hP _ hS => ?_)
                    have hP : va_P D clA ((o, .inr (0, [.int 0, .ref a1, .int (nI (b + 4)), .int tl, .int ps, .int er, .int ea, .int eo, .ref a8, .ref a9, .ref a10, .int ud, .int ns, .int ne, .int se, .ref a15])) :: (a8, .inl (k 0, 1798, .inl d)) :: (a9, .inl (k 0, 1798, .inl dr)) :: (a1, .inl (k 0, 900, .inl (upd (upd (upd (upd fb b ((w0 >>> ((24 : Int32) &&& 31)) &&& 255)) (b + 1) ((w0 >>> ((16 : Int32) &&& 31)) &&& 255)) (b + 2) ((w0 >>> ((8 : Int32) &&& 31)) &&& 255)) (b + 3) ((w0 >>> ((0 : Int32) &&& 31)) &&& 255)))) :: wr) H := hP
                    refine lv_iinc (v := 4) (lv' := [(6, .int 4), (7, .int w0), (0, .ref o), (1, .int w0), (2, .int w1), (3, .int w2), (4, .int w3), (5, .int w4)]) hx hb dX5_append_114 hl (k := 1) rfl (by decide) (by decide) rfl (fun ls hl => ?_)
                    refine lv_goto (tgt := 23) hx hb dX5_append_117 (by decide) ?_
                    refine lv_iload hx hb dX5_append_23 (lv_at hl 0 rfl) ?_
                    refine lv_bipush (v := 20) hx hb dX5_append_25 rfl ?_
                    refine lv_icmp_ge (tgt := 120) hx hb dX5_append_27 (by decide) (fun c_27 => ?_) (fun c_27 => ?_)
                    · exact absurd c_27 (by decide)
                    · refine lv_iload hx hb dX5_append_30 (lv_at hl 0 rfl) ?_
                      refine lv_iconst (v := 4) hx hb dX5_append_32 rfl ?_
                      refine lv_icmp_ge (tgt := 40) hx hb dX5_append_33 (by decide) (fun c_33 => ?_) (fun c_33 => ?_)
                      · refine lv_iload hx hb dX5_append_40 (lv_at hl 0 rfl) ?_
                        refine lv_bipush (v := 8) hx hb dX5_append_42 rfl ?_
                        refine lv_icmp_ge (tgt := 51) hx hb dX5_append_44 (by decide) (fun c_44 => ?_) (fun c_44 => ?_)
                        · exact absurd c_44 (by decide)
                        · refine lv_iload_n hx hb dX5_append_47 rfl (lv_at hl 4 rfl) ?_
                          refine lv_goto (tgt := 76) hx hb dX5_append_48 (by decide) ?_
                          refine lv_istore (lv' := [(7, .int w1), (6, .int 4), (0, .ref o), (1, .int w0), (2, .int w1), (3, .int w2), (4, .int w3), (5, .int w4)]) hx hb dX5_append_76 hl (by decide) rfl (fun ls hl => ?_)
                          refine lv_aload_n hx hb dX5_append_78 rfl (lv_at hl 2 rfl) ?_
                          refine va_get hx hb hts in_X5 hown hK hP 0 rfl rfl 1 (by decide) (hts _ q1663) (fun _ h => h) rfl dX5_append_79 ?_
                          refine lv_aload_n hx hb dX5_append_82 rfl (lv_at hl 2 rfl) ?_
                          refine va_get hx hb hts in_X5 hown hK hP 0 rfl rfl 2 (by decide) (hts _ q1664) (fun _ h => h) rfl dX5_append_83 ?_
                          refine lv_iload hx hb dX5_append_86 (lv_at hl 0 rfl) ?_
                          refine lv_bipush (v := 24) hx hb dX5_append_88 rfl ?_
                          refine lv_bipush (v := 8) hx hb dX5_append_90 rfl ?_
                          refine lv_iload hx hb dX5_append_92 (lv_at hl 1 rfl) ?_
                          refine lv_iconst (v := 4) hx hb dX5_append_94 rfl ?_
                          refine lv_irem hx hb dX5_append_95 (by decide) ?_
                          refine w_topi (y := 0) (by decide) ?_
                          refine lv_imul hx hb dX5_append_96 ?_
                          refine w_topi (y := 0) (by decide) ?_
                          refine lv_isub hx hb dX5_append_97 ?_
                          refine w_topi (y := 24) (by decide) ?_
                          refine lv_ishr hx hb dX5_append_98 ?_
                          refine lv_sipush (v := 255) hx hb dX5_append_99 rfl ?_
                          refine lv_iand hx hb dX5_append_102 ?_
                          refine w_iast hx hb hK hP (va_D_of hD rfl) hS 3 rfl (b + 4) rfl (by omega) (Nat.le_of_ble_eq_true rfl) dX5_append_103 (fun H locs hP _ hS => ?_)
                          have hP : va_P D clA ((o, .inr (0, [.int 0, .ref a1, .int (nI (b + 4)), .int tl, .int ps, .int er, .int ea, .int eo, .ref a8, .ref a9, .ref a10, .int ud, .int ns, .int ne, .int se, .ref a15])) :: (a8, .inl (k 0, 1798, .inl d)) :: (a9, .inl (k 0, 1798, .inl dr)) :: (a1, .inl (k 0, 900, .inl (upd (upd (upd (upd (upd fb b ((w0 >>> ((24 : Int32) &&& 31)) &&& 255)) (b + 1) ((w0 >>> ((16 : Int32) &&& 31)) &&& 255)) (b + 2) ((w0 >>> ((8 : Int32) &&& 31)) &&& 255)) (b + 3) ((w0 >>> ((0 : Int32) &&& 31)) &&& 255)) (b + 4) ((w1 >>> ((24 : Int32) &&& 31)) &&& 255)))) :: wr) H := hP
                          refine lv_aload_n hx hb dX5_append_104 rfl (lv_at hl 2 rfl) ?_
                          refine lv_dup hx hb dX5_append_105 rfl ?_
                          refine va_get hx hb hts in_X5 hown hK hP 0 rfl rfl 2 (by decide) (hts _ q1664) (fun _ h => h) rfl dX5_append_106 ?_
                          refine lv_iconst (v := 1) hx hb dX5_append_109 rfl ?_
                          refine lv_iadd hx hb dX5_append_110 ?_
                          refine w_topi (y := nI ((b + 4) + 1)) (nI_add (b + 4) 1) ?_
                          refine w_topi (y := nI (b + 5)) rfl ?_
                          refine va_put hx hb hts in_X5 tyX5 tyX5_ok nmX5 hown hK hP (va_D_of hD rfl) hS 0 rfl rfl 2 (by decide) (hts _ q1664) (fun _ h => h) rfl rfl rfl rfl (Nat.le_of_ble_eq_true rfl) dX5_append_111 (fun H locs hP _ hS => ?_)
                          have hP : va_P D clA ((o, .inr (0, [.int 0, .ref a1, .int (nI (b + 5)), .int tl, .int ps, .int er, .int ea, .int eo, .ref a8, .ref a9, .ref a10, .int ud, .int ns, .int ne, .int se, .ref a15])) :: (a8, .inl (k 0, 1798, .inl d)) :: (a9, .inl (k 0, 1798, .inl dr)) :: (a1, .inl (k 0, 900, .inl (upd (upd (upd (upd (upd fb b ((w0 >>> ((24 : Int32) &&& 31)) &&& 255)) (b + 1) ((w0 >>> ((16 : Int32) &&& 31)) &&& 255)) (b + 2) ((w0 >>> ((8 : Int32) &&& 31)) &&& 255)) (b + 3) ((w0 >>> ((0 : Int32) &&& 31)) &&& 255)) (b + 4) ((w1 >>> ((24 : Int32) &&& 31)) &&& 255)))) :: wr) H := hP
                          refine lv_iinc (v := 5) (lv' := [(6, .int 5), (7, .int w1), (0, .ref o), (1, .int w0), (2, .int w1), (3, .int w2), (4, .int w3), (5, .int w4)]) hx hb dX5_append_114 hl (k := 1) rfl (by decide) (by decide) rfl (fun ls hl => ?_)
                          refine lv_goto (tgt := 23) hx hb dX5_append_117 (by decide) ?_
                          refine lv_iload hx hb dX5_append_23 (lv_at hl 0 rfl) ?_
                          refine lv_bipush (v := 20) hx hb dX5_append_25 rfl ?_
                          refine lv_icmp_ge (tgt := 120) hx hb dX5_append_27 (by decide) (fun c_27 => ?_) (fun c_27 => ?_)
                          · exact absurd c_27 (by decide)
                          · refine lv_iload hx hb dX5_append_30 (lv_at hl 0 rfl) ?_
                            refine lv_iconst (v := 4) hx hb dX5_append_32 rfl ?_
                            refine lv_icmp_ge (tgt := 40) hx hb dX5_append_33 (by decide) (fun c_33 => ?_) (fun c_33 => ?_)
                            · refine lv_iload hx hb dX5_append_40 (lv_at hl 0 rfl) ?_
                              refine lv_bipush (v := 8) hx hb dX5_append_42 rfl ?_
                              refine lv_icmp_ge (tgt := 51) hx hb dX5_append_44 (by decide) (fun c_44 => ?_) (fun c_44 => ?_)
                              · exact absurd c_44 (by decide)
                              · refine lv_iload_n hx hb dX5_append_47 rfl (lv_at hl 4 rfl) ?_
                                refine lv_goto (tgt := 76) hx hb dX5_append_48 (by decide) ?_
                                refine lv_istore (lv' := [(7, .int w1), (6, .int 5), (0, .ref o), (1, .int w0), (2, .int w1), (3, .int w2), (4, .int w3), (5, .int w4)]) hx hb dX5_append_76 hl (by decide) rfl (fun ls hl => ?_)
                                refine lv_aload_n hx hb dX5_append_78 rfl (lv_at hl 2 rfl) ?_
                                refine va_get hx hb hts in_X5 hown hK hP 0 rfl rfl 1 (by decide) (hts _ q1663) (fun _ h => h) rfl dX5_append_79 ?_
                                refine lv_aload_n hx hb dX5_append_82 rfl (lv_at hl 2 rfl) ?_
                                refine va_get hx hb hts in_X5 hown hK hP 0 rfl rfl 2 (by decide) (hts _ q1664) (fun _ h => h) rfl dX5_append_83 ?_
                                refine lv_iload hx hb dX5_append_86 (lv_at hl 0 rfl) ?_
                                refine lv_bipush (v := 24) hx hb dX5_append_88 rfl ?_
                                refine lv_bipush (v := 8) hx hb dX5_append_90 rfl ?_
                                refine lv_iload hx hb dX5_append_92 (lv_at hl 1 rfl) ?_
                                refine lv_iconst (v := 4) hx hb dX5_append_94 rfl ?_
                                refine lv_irem hx hb dX5_append_95 (by decide) ?_
                                refine w_topi (y := 1) (by decide) ?_
                                refine lv_imul hx hb dX5_append_96 ?_
                                refine w_topi (y := 8) (by decide) ?_
                                refine lv_isub hx hb dX5_append_97 ?_
                                refine w_topi (y := 16) (by decide) ?_
                                refine lv_ishr hx hb dX5_append_98 ?_
                                refine lv_sipush (v := 255) hx hb dX5_append_99 rfl ?_
                                refine lv_iand hx hb dX5_append_102 ?_
                                refine w_iast hx hb hK hP (va_D_of hD rfl) hS 3 rfl (b + 5) rfl (by omega) (Nat.le_of_ble_eq_true rfl) dX5_append_103 (fun H locs hP _ hS => ?_)
                                have hP : va_P D clA ((o, .inr (0, [.int 0, .ref a1, .int (nI (b + 5)), .int tl, .int ps, .int er, .int ea, .int eo, .ref a8, .ref a9, .ref a10, .int ud, .int ns, .int ne, .int se, .ref a15])) :: (a8, .inl (k 0, 1798, .inl d)) :: (a9, .inl (k 0, 1798, .inl dr)) :: (a1, .inl (k 0, 900, .inl (upd (upd (upd (upd (upd (upd fb b ((w0 >>> ((24 : Int32) &&& 31)) &&& 255)) (b + 1) ((w0 >>> ((16 : Int32) &&& 31)) &&& 255)) (b + 2) ((w0 >>> ((8 : Int32) &&& 31)) &&& 255)) (b + 3) ((w0 >>> ((0 : Int32) &&& 31)) &&& 255)) (b + 4) ((w1 >>> ((24 : Int32) &&& 31)) &&& 255)) (b + 5) ((w1 >>> ((16 : Int32) &&& 31)) &&& 255)))) :: wr) H := hP
                                refine lv_aload_n hx hb dX5_append_104 rfl (lv_at hl 2 rfl) ?_
                                refine lv_dup hx hb dX5_append_105 rfl ?_
                                refine va_get hx hb hts in_X5 hown hK hP 0 rfl rfl 2 (by decide) (hts _ q1664) (fun _ h => h) rfl dX5_append_106 ?_
                                refine lv_iconst (v := 1) hx hb dX5_append_109 rfl ?_
                                refine lv_iadd hx hb dX5_append_110 ?_
                                refine w_topi (y := nI ((b + 5) + 1)) (nI_add (b + 5) 1) ?_
                                refine w_topi (y := nI (b + 6)) rfl ?_
                                refine va_put hx hb hts in_X5 tyX5 tyX5_ok nmX5 hown hK hP (va_D_of hD rfl) hS 0 rfl rfl 2 (by decide) (hts _ q1664) (fun _ h => h) rfl rfl rfl rfl (Nat.le_of_ble_eq_true rfl) dX5_append_111 (fun H locs hP _ hS => ?_)
                                have hP : va_P D clA ((o, .inr (0, [.int 0, .ref a1, .int (nI (b + 6)), .int tl, .int ps, .int er, .int ea, .int eo, .ref a8, .ref a9, .ref a10, .int ud, .int ns, .int ne, .int se, .ref a15])) :: (a8, .inl (k 0, 1798, .inl d)) :: (a9, .inl (k 0, 1798, .inl dr)) :: (a1, .inl (k 0, 900, .inl (upd (upd (upd (upd (upd (upd fb b ((w0 >>> ((24 : Int32) &&& 31)) &&& 255)) (b + 1) ((w0 >>> ((16 : Int32) &&& 31)) &&& 255)) (b + 2) ((w0 >>> ((8 : Int32) &&& 31)) &&& 255)) (b + 3) ((w0 >>> ((0 : Int32) &&& 31)) &&& 255)) (b + 4) ((w1 >>> ((24 : Int32) &&& 31)) &&& 255)) (b + 5) ((w1 >>> ((16 : Int32) &&& 31)) &&& 255)))) :: wr) H := hP
                                refine lv_iinc (v := 6) (lv' := [(6, .int 6), (7, .int w1), (0, .ref o), (1, .int w0), (2, .int w1), (3, .int w2), (4, .int w3), (5, .int w4)]) hx hb dX5_append_114 hl (k := 1) rfl (by decide) (by decide) rfl (fun ls hl => ?_)
                                refine lv_goto (tgt := 23) hx hb dX5_append_117 (by decide) ?_
                                refine lv_iload hx hb dX5_append_23 (lv_at hl 0 rfl) ?_
                                refine lv_bipush (v := 20) hx hb dX5_append_25 rfl ?_
                                refine lv_icmp_ge (tgt := 120) hx hb dX5_append_27 (by decide) (fun c_27 => ?_) (fun c_27 => ?_)
                                · exact absurd c_27 (by decide)
                                · refine lv_iload hx hb dX5_append_30 (lv_at hl 0 rfl) ?_
                                  refine lv_iconst (v := 4) hx hb dX5_append_32 rfl ?_
                                  refine lv_icmp_ge (tgt := 40) hx hb dX5_append_33 (by decide) (fun c_33 => ?_) (fun c_33 => ?_)
                                  · refine lv_iload hx hb dX5_append_40 (lv_at hl 0 rfl) ?_
                                    refine lv_bipush (v := 8) hx hb dX5_append_42 rfl ?_
                                    refine lv_icmp_ge (tgt := 51) hx hb dX5_append_44 (by decide) (fun c_44 => ?_) (fun c_44 => ?_)
                                    · exact absurd c_44 (by decide)
                                    · refine lv_iload_n hx hb dX5_append_47 rfl (lv_at hl 4 rfl) ?_
                                      refine lv_goto (tgt := 76) hx hb dX5_append_48 (by decide) ?_
                                      refine lv_istore (lv' := [(7, .int w1), (6, .int 6), (0, .ref o), (1, .int w0), (2, .int w1), (3, .int w2), (4, .int w3), (5, .int w4)]) hx hb dX5_append_76 hl (by decide) rfl (fun ls hl => ?_)
                                      refine lv_aload_n hx hb dX5_append_78 rfl (lv_at hl 2 rfl) ?_
                                      refine va_get hx hb hts in_X5 hown hK hP 0 rfl rfl 1 (by decide) (hts _ q1663) (fun _ h => h) rfl dX5_append_79 ?_
                                      refine lv_aload_n hx hb dX5_append_82 rfl (lv_at hl 2 rfl) ?_
                                      refine va_get hx hb hts in_X5 hown hK hP 0 rfl rfl 2 (by decide) (hts _ q1664) (fun _ h => h) rfl dX5_append_83 ?_
                                      refine lv_iload hx hb dX5_append_86 (lv_at hl 0 rfl) ?_
                                      refine lv_bipush (v := 24) hx hb dX5_append_88 rfl ?_
                                      refine lv_bipush (v := 8) hx hb dX5_append_90 rfl ?_
                                      refine lv_iload hx hb dX5_append_92 (lv_at hl 1 rfl) ?_
                                      refine lv_iconst (v := 4) hx hb dX5_append_94 rfl ?_
                                      refine lv_irem hx hb dX5_append_95 (by decide) ?_
                                      refine w_topi (y := 2) (by decide) ?_
                                      refine lv_imul hx hb dX5_append_96 ?_
                                      refine w_topi (y := 16) (by decide) ?_
                                      refine lv_isub hx hb dX5_append_97 ?_
                                      refine w_topi (y := 8) (by decide) ?_
                                      refine lv_ishr hx hb dX5_append_98 ?_
                                      refine lv_sipush (v := 255) hx hb dX5_append_99 rfl ?_
                                      refine lv_iand hx hb dX5_append_102 ?_
                                      refine w_iast hx hb hK hP (va_D_of hD rfl) hS 3 rfl (b + 6) rfl (by omega) (Nat.le_of_ble_eq_true rfl) dX5_append_103 (fun H locs hP _ hS => ?_)
                                      have hP : va_P D clA ((o, .inr (0, [.int 0, .ref a1, .int (nI (b + 6)), .int tl, .int ps, .int er, .int ea, .int eo, .ref a8, .ref a9, .ref a10, .int ud, .int ns, .int ne, .int se, .ref a15])) :: (a8, .inl (k 0, 1798, .inl d)) :: (a9, .inl (k 0, 1798, .inl dr)) :: (a1, .inl (k 0, 900, .inl (upd (upd (upd (upd (upd (upd (upd fb b ((w0 >>> ((24 : Int32) &&& 31)) &&& 255)) (b + 1) ((w0 >>> ((16 : Int32) &&& 31)) &&& 255)) (b + 2) ((w0 >>> ((8 : Int32) &&& 31)) &&& 255)) (b + 3) ((w0 >>> ((0 : Int32) &&& 31)) &&& 255)) (b + 4) ((w1 >>> ((24 : Int32) &&& 31)) &&& 255)) (b + 5) ((w1 >>> ((16 : Int32) &&& 31)) &&& 255)) (b + 6) ((w1 >>> ((8 : Int32) &&& 31)) &&& 255)))) :: wr) H := hP
                                      refine lv_aload_n hx hb dX5_append_104 rfl (lv_at hl 2 rfl) ?_
                                      refine lv_dup hx hb dX5_append_105 rfl ?_
                                      refine va_get hx hb hts in_X5 hown hK hP 0 rfl rfl 2 (by decide) (hts _ q1664) (fun _ h => h) rfl dX5_append_106 ?_
                                      refine lv_iconst (v := 1) hx hb dX5_append_109 rfl ?_
                                      refine lv_iadd hx hb dX5_append_110 ?_
                                      refine w_topi (y := nI ((b + 6) + 1)) (nI_add (b + 6) 1) ?_
                                      refine w_topi (y := nI (b + 7)) rfl ?_
                                      refine va_put hx hb hts in_X5 tyX5 tyX5_ok nmX5 hown hK hP (va_D_of hD rfl) hS 0 rfl rfl 2 (by decide) (hts _ q1664) (fun _ h => h) rfl rfl rfl rfl (Nat.le_of_ble_eq_true rfl) dX5_append_111 (fun H locs hP _ hS => ?_)
                                      have hP : va_P D clA ((o, .inr (0, [.int 0, .ref a1, .int (nI (b + 7)), .int tl, .int ps, .int er, .int ea, .int eo, .ref a8, .ref a9, .ref a10, .int ud, .int ns, .int ne, .int se, .ref a15])) :: (a8, .inl (k 0, 1798, .inl d)) :: (a9, .inl (k 0, 1798, .inl dr)) :: (a1, .inl (k 0, 900, .inl (upd (upd (upd (upd (upd (upd (upd fb b ((w0 >>> ((24 : Int32) &&& 31)) &&& 255)) (b + 1) ((w0 >>> ((16 : Int32) &&& 31)) &&& 255)) (b + 2) ((w0 >>> ((8 : Int32) &&& 31)) &&& 255)) (b + 3) ((w0 >>> ((0 : Int32) &&& 31)) &&& 255)) (b + 4) ((w1 >>> ((24 : Int32) &&& 31)) &&& 255)) (b + 5) ((w1 >>> ((16 : Int32) &&& 31)) &&& 255)) (b + 6) ((w1 >>> ((8 : Int32) &&& 31)) &&& 255)))) :: wr) H := hP
                                      refine lv_iinc (v := 7) (lv' := [(6, .int 7), (7, .int w1), (0, .ref o), (1, .int w0), (2, .int w1), (3, .int w2), (4, .int w3), (5, .int w4)]) hx hb dX5_append_114 hl (k := 1) rfl (by decide) (by decide) rfl (fun ls hl => ?_)
                                      refine lv_goto (tgt := 23) hx hb dX5_append_117 (by decide) ?_
                                      refine lv_iload hx hb dX5_append_23 (lv_at hl 0 rfl) ?_
                                      refine lv_bipush (v := 20) hx hb dX5_append_25 rfl ?_
                                      refine lv_icmp_ge (tgt := 120) hx hb dX5_append_27 (by decide) (fun c_27 => ?_) (fun c_27 => ?_)
                                      · exact absurd c_27 (by decide)
                                      · refine lv_iload hx hb dX5_append_30 (lv_at hl 0 rfl) ?_
                                        refine lv_iconst (v := 4) hx hb dX5_append_32 rfl ?_
                                        refine lv_icmp_ge (tgt := 40) hx hb dX5_append_33 (by decide) (fun c_33 => ?_) (fun c_33 => ?_)
                                        · refine lv_iload hx hb dX5_append_40 (lv_at hl 0 rfl) ?_
                                          refine lv_bipush (v := 8) hx hb dX5_append_42 rfl ?_
                                          refine lv_icmp_ge (tgt := 51) hx hb dX5_append_44 (by decide) (fun c_44 => ?_) (fun c_44 => ?_)
                                          · exact absurd c_44 (by decide)
                                          · refine lv_iload_n hx hb dX5_append_47 rfl (lv_at hl 4 rfl) ?_
                                            refine lv_goto (tgt := 76) hx hb dX5_append_48 (by decide) ?_
                                            refine lv_istore (lv' := [(7, .int w1), (6, .int 7), (0, .ref o), (1, .int w0), (2, .int w1), (3, .int w2), (4, .int w3), (5, .int w4)]) hx hb dX5_append_76 hl (by decide) rfl (fun ls hl => ?_)
                                            refine lv_aload_n hx hb dX5_append_78 rfl (lv_at hl 2 rfl) ?_
                                            refine va_get hx hb hts in_X5 hown hK hP 0 rfl rfl 1 (by decide) (hts _ q1663) (fun _ h => h) rfl dX5_append_79 ?_
                                            refine lv_aload_n hx hb dX5_append_82 rfl (lv_at hl 2 rfl) ?_
                                            refine va_get hx hb hts in_X5 hown hK hP 0 rfl rfl 2 (by decide) (hts _ q1664) (fun _ h => h) rfl dX5_append_83 ?_
                                            refine lv_iload hx hb dX5_append_86 (lv_at hl 0 rfl) ?_
                                            refine lv_bipush (v := 24) hx hb dX5_append_88 rfl ?_
                                            refine lv_bipush (v := 8) hx hb dX5_append_90 rfl ?_
                                            refine lv_iload hx hb dX5_append_92 (lv_at hl 1 rfl) ?_
                                            refine lv_iconst (v := 4) hx hb dX5_append_94 rfl ?_
                                            refine lv_irem hx hb dX5_append_95 (by decide) ?_
                                            refine w_topi (y := 3) (by decide) ?_
                                            refine lv_imul hx hb dX5_append_96 ?_
                                            refine w_topi (y := 24) (by decide) ?_
                                            refine lv_isub hx hb dX5_append_97 ?_
                                            refine w_topi (y := 0) (by decide) ?_
                                            refine lv_ishr hx hb dX5_append_98 ?_
                                            refine lv_sipush (v := 255) hx hb dX5_append_99 rfl ?_
                                            refine lv_iand hx hb dX5_append_102 ?_
                                            refine w_iast hx hb hK hP (va_D_of hD rfl) hS 3 rfl (b + 7) rfl (by omega) (Nat.le_of_ble_eq_true rfl) dX5_append_103 (fun H locs hP _ hS => ?_)
                                            have hP : va_P D clA ((o, .inr (0, [.int 0, .ref a1, .int (nI (b + 7)), .int tl, .int ps, .int er, .int ea, .int eo, .ref a8, .ref a9, .ref a10, .int ud, .int ns, .int ne, .int se, .ref a15])) :: (a8, .inl (k 0, 1798, .inl d)) :: (a9, .inl (k 0, 1798, .inl dr)) :: (a1, .inl (k 0, 900, .inl (upd (upd (upd (upd (upd (upd (upd (upd fb b ((w0 >>> ((24 : Int32) &&& 31)) &&& 255)) (b + 1) ((w0 >>> ((16 : Int32) &&& 31)) &&& 255)) (b + 2) ((w0 >>> ((8 : Int32) &&& 31)) &&& 255)) (b + 3) ((w0 >>> ((0 : Int32) &&& 31)) &&& 255)) (b + 4) ((w1 >>> ((24 : Int32) &&& 31)) &&& 255)) (b + 5) ((w1 >>> ((16 : Int32) &&& 31)) &&& 255)) (b + 6) ((w1 >>> ((8 : Int32) &&& 31)) &&& 255)) (b + 7) ((w1 >>> ((0 : Int32) &&& 31)) &&& 255)))) :: wr) H := hP
                                            refine lv_aload_n hx hb dX5_append_104 rfl (lv_at hl 2 rfl) ?_
                                            refine lv_dup hx hb dX5_append_105 rfl ?_
                                            refine va_get hx hb hts in_X5 hown hK hP 0 rfl rfl 2 (by decide) (hts _ q1664) (fun _ h => h) rfl dX5_append_106 ?_
                                            refine lv_iconst (v := 1) hx hb dX5_append_109 rfl ?_
                                            refine lv_iadd hx hb dX5_append_110 ?_
                                            refine w_topi (y := nI ((b + 7) + 1)) (nI_add (b + 7) 1) ?_
                                            refine w_topi (y := nI (b + 8)) rfl ?_
                                            refine va_put hx hb hts in_X5 tyX5 tyX5_ok nmX5 hown hK hP (va_D_of hD rfl) hS 0 rfl rfl 2 (by decide) (hts _ q1664) (fun _ h => h) rfl rfl rfl rfl (Nat.le_of_ble_eq_true rfl) dX5_append_111 (fun H locs hP _ hS => ?_)
                                            have hP : va_P D clA ((o, .inr (0, [.int 0, .ref a1, .int (nI (b + 8)), .int tl, .int ps, .int er, .int ea, .int eo, .ref a8, .ref a9, .ref a10, .int ud, .int ns, .int ne, .int se, .ref a15])) :: (a8, .inl (k 0, 1798, .inl d)) :: (a9, .inl (k 0, 1798, .inl dr)) :: (a1, .inl (k 0, 900, .inl (upd (upd (upd (upd (upd (upd (upd (upd fb b ((w0 >>> ((24 : Int32) &&& 31)) &&& 255)) (b + 1) ((w0 >>> ((16 : Int32) &&& 31)) &&& 255)) (b + 2) ((w0 >>> ((8 : Int32) &&& 31)) &&& 255)) (b + 3) ((w0 >>> ((0 : Int32) &&& 31)) &&& 255)) (b + 4) ((w1 >>> ((24 : Int32) &&& 31)) &&& 255)) (b + 5) ((w1 >>> ((16 : Int32) &&& 31)) &&& 255)) (b + 6) ((w1 >>> ((8 : Int32) &&& 31)) &&& 255)) (b + 7) ((w1 >>> ((0 : Int32) &&& 31)) &&& 255)))) :: wr) H := hP
                                            refine lv_iinc (v := 8) (lv' := [(6, .int 8), (7, .int w1), (0, .ref o), (1, .int w0), (2, .int w1), (3, .int w2), (4, .int w3), (5, .int w4)]) hx hb dX5_append_114 hl (k := 1) rfl (by decide) (by decide) rfl (fun ls hl => ?_)
                                            refine lv_goto (tgt := 23) hx hb dX5_append_117 (by decide) ?_
                                            refine lv_iload hx hb dX5_append_23 (lv_at hl 0 rfl) ?_
                                            refine lv_bipush (v := 20) hx hb dX5_append_25 rfl ?_
                                            refine lv_icmp_ge (tgt := 120) hx hb dX5_append_27 (by decide) (fun c_27 => ?_) (fun c_27 => ?_)
                                            · exact absurd c_27 (by decide)
                                            · refine lv_iload hx hb dX5_append_30 (lv_at hl 0 rfl) ?_
                                              refine lv_iconst (v := 4) hx hb dX5_append_32 rfl ?_
                                              refine lv_icmp_ge (tgt := 40) hx hb dX5_append_33 (by decide) (fun c_33 => ?_) (fun c_33 => ?_)
                                              · refine lv_iload hx hb dX5_append_40 (lv_at hl 0 rfl) ?_
                                                refine lv_bipush (v := 8) hx hb dX5_append_42 rfl ?_
                                                refine lv_icmp_ge (tgt := 51) hx hb dX5_append_44 (by decide) (fun c_44 => ?_) (fun c_44 => ?_)
                                                · refine lv_iload hx hb dX5_append_51 (lv_at hl 0 rfl) ?_
                                                  refine lv_bipush (v := 12) hx hb dX5_append_53 rfl ?_
                                                  refine lv_icmp_ge (tgt := 62) hx hb dX5_append_55 (by decide) (fun c_55 => ?_) (fun c_55 => ?_)
                                                  · exact absurd c_55 (by decide)
                                                  · refine lv_iload_n hx hb dX5_append_58 rfl (lv_at hl 5 rfl) ?_
                                                    refine lv_goto (tgt := 76) hx hb dX5_append_59 (by decide) ?_
                                                    refine lv_istore (lv' := [(7, .int w2), (6, .int 8), (0, .ref o), (1, .int w0), (2, .int w1), (3, .int w2), (4, .int w3), (5, .int w4)]) hx hb dX5_append_76 hl (by decide) rfl (fun ls hl => ?_)
                                                    refine lv_aload_n hx hb dX5_append_78 rfl (lv_at hl 2 rfl) ?_
                                                    refine va_get hx hb hts in_X5 hown hK hP 0 rfl rfl 1 (by decide) (hts _ q1663) (fun _ h => h) rfl dX5_append_79 ?_
                                                    refine lv_aload_n hx hb dX5_append_82 rfl (lv_at hl 2 rfl) ?_
                                                    refine va_get hx hb hts in_X5 hown hK hP 0 rfl rfl 2 (by decide) (hts _ q1664) (fun _ h => h) rfl dX5_append_83 ?_
                                                    refine lv_iload hx hb dX5_append_86 (lv_at hl 0 rfl) ?_
                                                    refine lv_bipush (v := 24) hx hb dX5_append_88 rfl ?_
                                                    refine lv_bipush (v := 8) hx hb dX5_append_90 rfl ?_
                                                    refine lv_iload hx hb dX5_append_92 (lv_at hl 1 rfl) ?_
                                                    refine lv_iconst (v := 4) hx hb dX5_append_94 rfl ?_
                                                    refine lv_irem hx hb dX5_append_95 (by decide) ?_
                                                    refine w_topi (y := 0) (by decide) ?_
                                                    refine lv_imul hx hb dX5_append_96 ?_
                                                    refine w_topi (y := 0) (by decide) ?_
                                                    refine lv_isub hx hb dX5_append_97 ?_
                                                    refine w_topi (y := 24) (by decide) ?_
                                                    refine lv_ishr hx hb dX5_append_98 ?_
                                                    refine lv_sipush (v := 255) hx hb dX5_append_99 rfl ?_
                                                    refine lv_iand hx hb dX5_append_102 ?_
                                                    refine w_iast hx hb hK hP (va_D_of hD rfl) hS 3 rfl (b + 8) rfl (by omega) (Nat.le_of_ble_eq_true rfl) dX5_append_103 (fun H locs hP _ hS => ?_)
                                                    have hP : va_P D clA ((o, .inr (0, [.int 0, .ref a1, .int (nI (b + 8)), .int tl, .int ps, .int er, .int ea, .int eo, .ref a8, .ref a9, .ref a10, .int ud, .int ns, .int ne, .int se, .ref a15])) :: (a8, .inl (k 0, 1798, .inl d)) :: (a9, .inl (k 0, 1798, .inl dr)) :: (a1, .inl (k 0, 900, .inl (upd (upd (upd (upd (upd (upd (upd (upd (upd fb b ((w0 >>> ((24 : Int32) &&& 31)) &&& 255)) (b + 1) ((w0 >>> ((16 : Int32) &&& 31)) &&& 255)) (b + 2) ((w0 >>> ((8 : Int32) &&& 31)) &&& 255)) (b + 3) ((w0 >>> ((0 : Int32) &&& 31)) &&& 255)) (b + 4) ((w1 >>> ((24 : Int32) &&& 31)) &&& 255)) (b + 5) ((w1 >>> ((16 : Int32) &&& 31)) &&& 255)) (b + 6) ((w1 >>> ((8 : Int32) &&& 31)) &&& 255)) (b + 7) ((w1 >>> ((0 : Int32) &&& 31)) &&& 255)) (b + 8) ((w2 >>> ((24 : Int32) &&& 31)) &&& 255)))) :: wr) H := hP
                                                    refine lv_aload_n hx hb dX5_append_104 rfl (lv_at hl 2 rfl) ?_
                                                    refine lv_dup hx hb dX5_append_105 rfl ?_
                                                    refine va_get hx hb hts in_X5 hown hK hP 0 rfl rfl 2 (by decide) (hts _ q1664) (fun _ h => h) rfl dX5_append_106 ?_
                                                    refine lv_iconst (v := 1) hx hb dX5_append_109 rfl ?_
                                                    refine lv_iadd hx hb dX5_append_110 ?_
                                                    refine w_topi (y := nI ((b + 8) + 1)) (nI_add (b + 8) 1) ?_
                                                    refine w_topi (y := nI (b + 9)) rfl ?_
                                                    refine va_put hx hb hts in_X5 tyX5 tyX5_ok nmX5 hown hK hP (va_D_of hD rfl) hS 0 rfl rfl 2 (by decide) (hts _ q1664) (fun _ h => h) rfl rfl rfl rfl (Nat.le_of_ble_eq_true rfl) dX5_append_111 (fun H locs hP _ hS => ?_)
                                                    have hP : va_P D clA ((o, .inr (0, [.int 0, .ref a1, .int (nI (b + 9)), .int tl, .int ps, .int er, .int ea, .int eo, .ref a8, .ref a9, .ref a10, .int ud, .int ns, .int ne, .int se, .ref a15])) :: (a8, .inl (k 0, 1798, .inl d)) :: (a9, .inl (k 0, 1798, .inl dr)) :: (a1, .inl (k 0, 900, .inl (upd (upd (upd (upd (upd (upd (upd (upd (upd fb b ((w0 >>> ((24 : Int32) &&& 31)) &&& 255)) (b + 1) ((w0 >>> ((16 : Int32) &&& 31)) &&& 255)) (b + 2) ((w0 >>> ((8 : Int32) &&& 31)) &&& 255)) (b + 3) ((w0 >>> ((0 : Int32) &&& 31)) &&& 255)) (b + 4) ((w1 >>> ((24 : Int32) &&& 31)) &&& 255)) (b + 5) ((w1 >>> ((16 : Int32) &&& 31)) &&& 255)) (b + 6) ((w1 >>> ((8 : Int32) &&& 31)) &&& 255)) (b + 7) ((w1 >>> ((0 : Int32) &&& 31)) &&& 255)) (b + 8) ((w2 >>> ((24 : Int32) &&& 31)) &&& 255)))) :: wr) H := hP
                                                    refine lv_iinc (v := 9) (lv' := [(6, .int 9), (7, .int w2), (0, .ref o), (1, .int w0), (2, .int w1), (3, .int w2), (4, .int w3), (5, .int w4)]) hx hb dX5_append_114 hl (k := 1) rfl (by decide) (by decide) rfl (fun ls hl => ?_)
                                                    refine lv_goto (tgt := 23) hx hb dX5_append_117 (by decide) ?_
                                                    refine lv_iload hx hb dX5_append_23 (lv_at hl 0 rfl) ?_
                                                    refine lv_bipush (v := 20) hx hb dX5_append_25 rfl ?_
                                                    refine lv_icmp_ge (tgt := 120) hx hb dX5_append_27 (by decide) (fun c_27 => ?_) (fun c_27 => ?_)
                                                    · exact absurd c_27 (by decide)
                                                    · refine lv_iload hx hb dX5_append_30 (lv_at hl 0 rfl) ?_
                                                      refine lv_iconst (v := 4) hx hb dX5_append_32 rfl ?_
                                                      refine lv_icmp_ge (tgt := 40) hx hb dX5_append_33 (by decide) (fun c_33 => ?_) (fun c_33 => ?_)
                                                      · refine lv_iload hx hb dX5_append_40 (lv_at hl 0 rfl) ?_
                                                        refine lv_bipush (v := 8) hx hb dX5_append_42 rfl ?_
                                                        refine lv_icmp_ge (tgt := 51) hx hb dX5_append_44 (by decide) (fun c_44 => ?_) (fun c_44 => ?_)
                                                        · refine lv_iload hx hb dX5_append_51 (lv_at hl 0 rfl) ?_
                                                          refine lv_bipush (v := 12) hx hb dX5_append_53 rfl ?_
                                                          refine lv_icmp_ge (tgt := 62) hx hb dX5_append_55 (by decide) (fun c_55 => ?_) (fun c_55 => ?_)
                                                          · exact absurd c_55 (by decide)
                                                          · refine lv_iload_n hx hb dX5_append_58 rfl (lv_at hl 5 rfl) ?_
                                                            refine lv_goto (tgt := 76) hx hb dX5_append_59 (by decide) ?_
                                                            refine lv_istore (lv' := [(7, .int w2), (6, .int 9), (0, .ref o), (1, .int w0), (2, .int w1), (3, .int w2), (4, .int w3), (5, .int w4)]) hx hb dX5_append_76 hl (by decide) rfl (fun ls hl => ?_)
                                                            refine lv_aload_n hx hb dX5_append_78 rfl (lv_at hl 2 rfl) ?_
                                                            refine va_get hx hb hts in_X5 hown hK hP 0 rfl rfl 1 (by decide) (hts _ q1663) (fun _ h => h) rfl dX5_append_79 ?_
                                                            refine lv_aload_n hx hb dX5_append_82 rfl (lv_at hl 2 rfl) ?_
                                                            refine va_get hx hb hts in_X5 hown hK hP 0 rfl rfl 2 (by decide) (hts _ q1664) (fun _ h => h) rfl dX5_append_83 ?_
                                                            refine lv_iload hx hb dX5_append_86 (lv_at hl 0 rfl) ?_
                                                            refine lv_bipush (v := 24) hx hb dX5_append_88 rfl ?_
                                                            refine lv_bipush (v := 8) hx hb dX5_append_90 rfl ?_
                                                            refine lv_iload hx hb dX5_append_92 (lv_at hl 1 rfl) ?_
                                                            refine lv_iconst (v := 4) hx hb dX5_append_94 rfl ?_
                                                            refine lv_irem hx hb dX5_append_95 (by decide) ?_
                                                            refine w_topi (y := 1) (by decide) ?_
                                                            refine lv_imul hx hb dX5_append_96 ?_
                                                            refine w_topi (y := 8) (by decide) ?_
                                                            refine lv_isub hx hb dX5_append_97 ?_
                                                            refine w_topi (y := 16) (by decide) ?_
                                                            refine lv_ishr hx hb dX5_append_98 ?_
                                                            refine lv_sipush (v := 255) hx hb dX5_append_99 rfl ?_
                                                            refine lv_iand hx hb dX5_append_102 ?_
                                                            refine w_iast hx hb hK hP (va_D_of hD rfl) hS 3 rfl (b + 9) rfl (by omega) (Nat.le_of_ble_eq_true rfl) dX5_append_103 (fun H locs hP _ hS => ?_)
                                                            have hP : va_P D clA ((o, .inr (0, [.int 0, .ref a1, .int (nI (b + 9)), .int tl, .int ps, .int er, .int ea, .int eo, .ref a8, .ref a9, .ref a10, .int ud, .int ns, .int ne, .int se, .ref a15])) :: (a8, .inl (k 0, 1798, .inl d)) :: (a9, .inl (k 0, 1798, .inl dr)) :: (a1, .inl (k 0, 900, .inl (upd (upd (upd (upd (upd (upd (upd (upd (upd (upd fb b ((w0 >>> ((24 : Int32) &&& 31)) &&& 255)) (b + 1) ((w0 >>> ((16 : Int32) &&& 31)) &&& 255)) (b + 2) ((w0 >>> ((8 : Int32) &&& 31)) &&& 255)) (b + 3) ((w0 >>> ((0 : Int32) &&& 31)) &&& 255)) (b + 4) ((w1 >>> ((24 : Int32) &&& 31)) &&& 255)) (b + 5) ((w1 >>> ((16 : Int32) &&& 31)) &&& 255)) (b + 6) ((w1 >>> ((8 : Int32) &&& 31)) &&& 255)) (b + 7) ((w1 >>> ((0 : Int32) &&& 31)) &&& 255)) (b + 8) ((w2 >>> ((24 : Int32) &&& 31)) &&& 255)) (b + 9) ((w2 >>> ((16 : Int32) &&& 31)) &&& 255)))) :: wr) H := hP
                                                            refine lv_aload_n hx hb dX5_append_104 rfl (lv_at hl 2 rfl) ?_
                                                            refine lv_dup hx hb dX5_append_105 rfl ?_
                                                            refine va_get hx hb hts in_X5 hown hK hP 0 rfl rfl 2 (by decide) (hts _ q1664) (fun _ h => h) rfl dX5_append_106 ?_
                                                            refine lv_iconst (v := 1) hx hb dX5_append_109 rfl ?_
                                                            refine lv_iadd hx hb dX5_append_110 ?_
                                                            refine w_topi (y := nI ((b + 9) + 1)) (nI_add (b + 9) 1) ?_
                                                            refine w_topi (y := nI (b + 10)) rfl ?_
                                                            refine va_put hx hb hts in_X5 tyX5 tyX5_ok nmX5 hown hK hP (va_D_of hD rfl) hS 0 rfl rfl 2 (by decide) (hts _ q1664) (fun _ h => h) rfl rfl rfl rfl (Nat.le_of_ble_eq_true rfl) dX5_append_111 (fun H locs hP _ hS => ?_)
                                                            have hP : va_P D clA ((o, .inr (0, [.int 0, .ref a1, .int (nI (b + 10)), .int tl, .int ps, .int er, .int ea, .int eo, .ref a8, .ref a9, .ref a10, .int ud, .int ns, .int ne, .int se, .ref a15])) :: (a8, .inl (k 0, 1798, .inl d)) :: (a9, .inl (k 0, 1798, .inl dr)) :: (a1, .inl (k 0, 900, .inl (upd (upd (upd (upd (upd (upd (upd (upd (upd (upd fb b ((w0 >>> ((24 : Int32) &&& 31)) &&& 255)) (b + 1) ((w0 >>> ((16 : Int32) &&& 31)) &&& 255)) (b + 2) ((w0 >>> ((8 : Int32) &&& 31)) &&& 255)) (b + 3) ((w0 >>> ((0 : Int32) &&& 31)) &&& 255)) (b + 4) ((w1 >>> ((24 : Int32) &&& 31)) &&& 255)) (b + 5) ((w1 >>> ((16 : Int32) &&& 31)) &&& 255)) (b + 6) ((w1 >>> ((8 : Int32) &&& 31)) &&& 255)) (b + 7) ((w1 >>> ((0 : Int32) &&& 31)) &&& 255)) (b + 8) ((w2 >>> ((24 : Int32) &&& 31)) &&& 255)) (b + 9) ((w2 >>> ((16 : Int32) &&& 31)) &&& 255)))) :: wr) H := hP
                                                            refine lv_iinc (v := 10) (lv' := [(6, .int 10), (7, .int w2), (0, .ref o), (1, .int w0), (2, .int w1), (3, .int w2), (4, .int w3), (5, .int w4)]) hx hb dX5_append_114 hl (k := 1) rfl (by decide) (by decide) rfl (fun ls hl => ?_)
                                                            refine lv_goto (tgt := 23) hx hb dX5_append_117 (by decide) ?_
                                                            refine lv_iload hx hb dX5_append_23 (lv_at hl 0 rfl) ?_
                                                            refine lv_bipush (v := 20) hx hb dX5_append_25 rfl ?_
                                                            refine lv_icmp_ge (tgt := 120) hx hb dX5_append_27 (by decide) (fun c_27 => ?_) (fun c_27 => ?_)
                                                            · exact absurd c_27 (by decide)
                                                            · refine lv_iload hx hb dX5_append_30 (lv_at hl 0 rfl) ?_
                                                              refine lv_iconst (v := 4) hx hb dX5_append_32 rfl ?_
                                                              refine lv_icmp_ge (tgt := 40) hx hb dX5_append_33 (by decide) (fun c_33 => ?_) (fun c_33 => ?_)
                                                              · refine lv_iload hx hb dX5_append_40 (lv_at hl 0 rfl) ?_
                                                                refine lv_bipush (v := 8) hx hb dX5_append_42 rfl ?_
                                                                refine lv_icmp_ge (tgt := 51) hx hb dX5_append_44 (by decide) (fun c_44 => ?_) (fun c_44 => ?_)
                                                                · refine lv_iload hx hb dX5_append_51 (lv_at hl 0 rfl) ?_
                                                                  refine lv_bipush (v := 12) hx hb dX5_append_53 rfl ?_
                                                                  refine lv_icmp_ge (tgt := 62) hx hb dX5_append_55 (by decide) (fun c_55 => ?_) (fun c_55 => ?_)
                                                                  · exact absurd c_55 (by decide)
                                                                  · refine lv_iload_n hx hb dX5_append_58 rfl (lv_at hl 5 rfl) ?_
                                                                    refine lv_goto (tgt := 76) hx hb dX5_append_59 (by decide) ?_
                                                                    refine lv_istore (lv' := [(7, .int w2), (6, .int 10), (0, .ref o), (1, .int w0), (2, .int w1), (3, .int w2), (4, .int w3), (5, .int w4)]) hx hb dX5_append_76 hl (by decide) rfl (fun ls hl => ?_)
                                                                    refine lv_aload_n hx hb dX5_append_78 rfl (lv_at hl 2 rfl) ?_
                                                                    refine va_get hx hb hts in_X5 hown hK hP 0 rfl rfl 1 (by decide) (hts _ q1663) (fun _ h => h) rfl dX5_append_79 ?_
                                                                    refine lv_aload_n hx hb dX5_append_82 rfl (lv_at hl 2 rfl) ?_
                                                                    refine va_get hx hb hts in_X5 hown hK hP 0 rfl rfl 2 (by decide) (hts _ q1664) (fun _ h => h) rfl dX5_append_83 ?_
                                                                    refine lv_iload hx hb dX5_append_86 (lv_at hl 0 rfl) ?_
                                                                    refine lv_bipush (v := 24) hx hb dX5_append_88 rfl ?_
                                                                    refine lv_bipush (v := 8) hx hb dX5_append_90 rfl ?_
                                                                    refine lv_iload hx hb dX5_append_92 (lv_at hl 1 rfl) ?_
                                                                    refine lv_iconst (v := 4) hx hb dX5_append_94 rfl ?_
                                                                    refine lv_irem hx hb dX5_append_95 (by decide) ?_
                                                                    refine w_topi (y := 2) (by decide) ?_
                                                                    refine lv_imul hx hb dX5_append_96 ?_
                                                                    refine w_topi (y := 16) (by decide) ?_
                                                                    refine lv_isub hx hb dX5_append_97 ?_
                                                                    refine w_topi (y := 8) (by decide) ?_
                                                                    refine lv_ishr hx hb dX5_append_98 ?_
                                                                    refine lv_sipush (v := 255) hx hb dX5_append_99 rfl ?_
                                                                    refine lv_iand hx hb dX5_append_102 ?_
                                                                    refine w_iast hx hb hK hP (va_D_of hD rfl) hS 3 rfl (b + 10) rfl (by omega) (Nat.le_of_ble_eq_true rfl) dX5_append_103 (fun H locs hP _ hS => ?_)
                                                                    have hP : va_P D clA ((o, .inr (0, [.int 0, .ref a1, .int (nI (b + 10)), .int tl, .int ps, .int er, .int ea, .int eo, .ref a8, .ref a9, .ref a10, .int ud, .int ns, .int ne, .int se, .ref a15])) :: (a8, .inl (k 0, 1798, .inl d)) :: (a9, .inl (k 0, 1798, .inl dr)) :: (a1, .inl (k 0, 900, .inl (upd (upd (upd (upd (upd (upd (upd (upd (upd (upd (upd fb b ((w0 >>> ((24 : Int32) &&& 31)) &&& 255)) (b + 1) ((w0 >>> ((16 : Int32) &&& 31)) &&& 255)) (b + 2) ((w0 >>> ((8 : Int32) &&& 31)) &&& 255)) (b + 3) ((w0 >>> ((0 : Int32) &&& 31)) &&& 255)) (b + 4) ((w1 >>> ((24 : Int32) &&& 31)) &&& 255)) (b + 5) ((w1 >>> ((16 : Int32) &&& 31)) &&& 255)) (b + 6) ((w1 >>> ((8 : Int32) &&& 31)) &&& 255)) (b + 7) ((w1 >>> ((0 : Int32) &&& 31)) &&& 255)) (b + 8) ((w2 >>> ((24 : Int32) &&& 31)) &&& 255)) (b + 9) ((w2 >>> ((16 : Int32) &&& 31)) &&& 255)) (b + 10) ((w2 >>> ((8 : Int32) &&& 31)) &&& 255)))) :: wr) H := hP
                                                                    refine lv_aload_n hx hb dX5_append_104 rfl (lv_at hl 2 rfl) ?_
                                                                    refine lv_dup hx hb dX5_append_105 rfl ?_
                                                                    refine va_get hx hb hts in_X5 hown hK hP 0 rfl rfl 2 (by decide) (hts _ q1664) (fun _ h => h) rfl dX5_append_106 ?_
                                                                    refine lv_iconst (v := 1) hx hb dX5_append_109 rfl ?_
                                                                    refine lv_iadd hx hb dX5_append_110 ?_
                                                                    refine w_topi (y := nI ((b + 10) + 1)) (nI_add (b + 10) 1) ?_
                                                                    refine w_topi (y := nI (b + 11)) rfl ?_
                                                                    refine va_put hx hb hts in_X5 tyX5 tyX5_ok nmX5 hown hK hP (va_D_of hD rfl) hS 0 rfl rfl 2 (by decide) (hts _ q1664) (fun _ h => h) rfl rfl rfl rfl (Nat.le_of_ble_eq_true rfl) dX5_append_111 (fun H locs hP _ hS => ?_)
                                                                    have hP : va_P D clA ((o, .inr (0, [.int 0, .ref a1, .int (nI (b + 11)), .int tl, .int ps, .int er, .int ea, .int eo, .ref a8, .ref a9, .ref a10, .int ud, .int ns, .int ne, .int se, .ref a15])) :: (a8, .inl (k 0, 1798, .inl d)) :: (a9, .inl (k 0, 1798, .inl dr)) :: (a1, .inl (k 0, 900, .inl (upd (upd (upd (upd (upd (upd (upd (upd (upd (upd (upd fb b ((w0 >>> ((24 : Int32) &&& 31)) &&& 255)) (b + 1) ((w0 >>> ((16 : Int32) &&& 31)) &&& 255)) (b + 2) ((w0 >>> ((8 : Int32) &&& 31)) &&& 255)) (b + 3) ((w0 >>> ((0 : Int32) &&& 31)) &&& 255)) (b + 4) ((w1 >>> ((24 : Int32) &&& 31)) &&& 255)) (b + 5) ((w1 >>> ((16 : Int32) &&& 31)) &&& 255)) (b + 6) ((w1 >>> ((8 : Int32) &&& 31)) &&& 255)) (b + 7) ((w1 >>> ((0 : Int32) &&& 31)) &&& 255)) (b + 8) ((w2 >>> ((24 : Int32) &&& 31)) &&& 255)) (b + 9) ((w2 >>> ((16 : Int32) &&& 31)) &&& 255)) (b + 10) ((w2 >>> ((8 : Int32) &&& 31)) &&& 255)))) :: wr) H := hP
                                                                    refine lv_iinc (v := 11) (lv' := [(6, .int 11), (7, .int w2), (0, .ref o), (1, .int w0), (2, .int w1), (3, .int w2), (4, .int w3), (5, .int w4)]) hx hb dX5_append_114 hl (k := 1) rfl (by decide) (by decide) rfl (fun ls hl => ?_)
                                                                    refine lv_goto (tgt := 23) hx hb dX5_append_117 (by decide) ?_
                                                                    refine lv_iload hx hb dX5_append_23 (lv_at hl 0 rfl) ?_
                                                                    refine lv_bipush (v := 20) hx hb dX5_append_25 rfl ?_
                                                                    refine lv_icmp_ge (tgt := 120) hx hb dX5_append_27 (by decide) (fun c_27 => ?_) (fun c_27 => ?_)
                                                                    · exact absurd c_27 (by decide)
                                                                    · refine lv_iload hx hb dX5_append_30 (lv_at hl 0 rfl) ?_
                                                                      refine lv_iconst (v := 4) hx hb dX5_append_32 rfl ?_
                                                                      refine lv_icmp_ge (tgt := 40) hx hb dX5_append_33 (by decide) (fun c_33 => ?_) (fun c_33 => ?_)
                                                                      · refine lv_iload hx hb dX5_append_40 (lv_at hl 0 rfl) ?_
                                                                        refine lv_bipush (v := 8) hx hb dX5_append_42 rfl ?_
                                                                        refine lv_icmp_ge (tgt := 51) hx hb dX5_append_44 (by decide) (fun c_44 => ?_) (fun c_44 => ?_)
                                                                        · refine lv_iload hx hb dX5_append_51 (lv_at hl 0 rfl) ?_
                                                                          refine lv_bipush (v := 12) hx hb dX5_append_53 rfl ?_
                                                                          refine lv_icmp_ge (tgt := 62) hx hb dX5_append_55 (by decide) (fun c_55 => ?_) (fun c_55 => ?_)
                                                                          · exact absurd c_55 (by decide)
                                                                          · refine lv_iload_n hx hb dX5_append_58 rfl (lv_at hl 5 rfl) ?_
                                                                            refine lv_goto (tgt := 76) hx hb dX5_append_59 (by decide) ?_
                                                                            refine lv_istore (lv' := [(7, .int w2), (6, .int 11), (0, .ref o), (1, .int w0), (2, .int w1), (3, .int w2), (4, .int w3), (5, .int w4)]) hx hb dX5_append_76 hl (by decide) rfl (fun ls hl => ?_)
                                                                            refine lv_aload_n hx hb dX5_append_78 rfl (lv_at hl 2 rfl) ?_
                                                                            refine va_get hx hb hts in_X5 hown hK hP 0 rfl rfl 1 (by decide) (hts _ q1663) (fun _ h => h) rfl dX5_append_79 ?_
                                                                            refine lv_aload_n hx hb dX5_append_82 rfl (lv_at hl 2 rfl) ?_
                                                                            refine va_get hx hb hts in_X5 hown hK hP 0 rfl rfl 2 (by decide) (hts _ q1664) (fun _ h => h) rfl dX5_append_83 ?_
                                                                            refine lv_iload hx hb dX5_append_86 (lv_at hl 0 rfl) ?_
                                                                            refine lv_bipush (v := 24) hx hb dX5_append_88 rfl ?_
                                                                            refine lv_bipush (v := 8) hx hb dX5_append_90 rfl ?_
                                                                            refine lv_iload hx hb dX5_append_92 (lv_at hl 1 rfl) ?_
                                                                            refine lv_iconst (v := 4) hx hb dX5_append_94 rfl ?_
                                                                            refine lv_irem hx hb dX5_append_95 (by decide) ?_
                                                                            refine w_topi (y := 3) (by decide) ?_
                                                                            refine lv_imul hx hb dX5_append_96 ?_
                                                                            refine w_topi (y := 24) (by decide) ?_
                                                                            refine lv_isub hx hb dX5_append_97 ?_
                                                                            refine w_topi (y := 0) (by decide) ?_
                                                                            refine lv_ishr hx hb dX5_append_98 ?_
                                                                            refine lv_sipush (v := 255) hx hb dX5_append_99 rfl ?_
                                                                            refine lv_iand hx hb dX5_append_102 ?_
                                                                            refine w_iast hx hb hK hP (va_D_of hD rfl) hS 3 rfl (b + 11) rfl (by omega) (Nat.le_of_ble_eq_true rfl) dX5_append_103 (fun H locs hP _ hS => ?_)
                                                                            have hP : va_P D clA ((o, .inr (0, [.int 0, .ref a1, .int (nI (b + 11)), .int tl, .int ps, .int er, .int ea, .int eo, .ref a8, .ref a9, .ref a10, .int ud, .int ns, .int ne, .int se, .ref a15])) :: (a8, .inl (k 0, 1798, .inl d)) :: (a9, .inl (k 0, 1798, .inl dr)) :: (a1, .inl (k 0, 900, .inl (upd (upd (upd (upd (upd (upd (upd (upd (upd (upd (upd (upd fb b ((w0 >>> ((24 : Int32) &&& 31)) &&& 255)) (b + 1) ((w0 >>> ((16 : Int32) &&& 31)) &&& 255)) (b + 2) ((w0 >>> ((8 : Int32) &&& 31)) &&& 255)) (b + 3) ((w0 >>> ((0 : Int32) &&& 31)) &&& 255)) (b + 4) ((w1 >>> ((24 : Int32) &&& 31)) &&& 255)) (b + 5) ((w1 >>> ((16 : Int32) &&& 31)) &&& 255)) (b + 6) ((w1 >>> ((8 : Int32) &&& 31)) &&& 255)) (b + 7) ((w1 >>> ((0 : Int32) &&& 31)) &&& 255)) (b + 8) ((w2 >>> ((24 : Int32) &&& 31)) &&& 255)) (b + 9) ((w2 >>> ((16 : Int32) &&& 31)) &&& 255)) (b + 10) ((w2 >>> ((8 : Int32) &&& 31)) &&& 255)) (b + 11) ((w2 >>> ((0 : Int32) &&& 31)) &&& 255)))) :: wr) H := hP
                                                                            refine lv_aload_n hx hb dX5_append_104 rfl (lv_at hl 2 rfl) ?_
                                                                            refine lv_dup hx hb dX5_append_105 rfl ?_
                                                                            refine va_get hx hb hts in_X5 hown hK hP 0 rfl rfl 2 (by decide) (hts _ q1664) (fun _ h => h) rfl dX5_append_106 ?_
                                                                            refine lv_iconst (v := 1) hx hb dX5_append_109 rfl ?_
                                                                            refine lv_iadd hx hb dX5_append_110 ?_
                                                                            refine w_topi (y := nI ((b + 11) + 1)) (nI_add (b + 11) 1) ?_
                                                                            refine w_topi (y := nI (b + 12)) rfl ?_
                                                                            refine va_put hx hb hts in_X5 tyX5 tyX5_ok nmX5 hown hK hP (va_D_of hD rfl) hS 0 rfl rfl 2 (by decide) (hts _ q1664) (fun _ h => h) rfl rfl rfl rfl (Nat.le_of_ble_eq_true rfl) dX5_append_111 (fun H locs hP _ hS => ?_)
                                                                            have hP : va_P D clA ((o, .inr (0, [.int 0, .ref a1, .int (nI (b + 12)), .int tl, .int ps, .int er, .int ea, .int eo, .ref a8, .ref a9, .ref a10, .int ud, .int ns, .int ne, .int se, .ref a15])) :: (a8, .inl (k 0, 1798, .inl d)) :: (a9, .inl (k 0, 1798, .inl dr)) :: (a1, .inl (k 0, 900, .inl (upd (upd (upd (upd (upd (upd (upd (upd (upd (upd (upd (upd fb b ((w0 >>> ((24 : Int32) &&& 31)) &&& 255)) (b + 1) ((w0 >>> ((16 : Int32) &&& 31)) &&& 255)) (b + 2) ((w0 >>> ((8 : Int32) &&& 31)) &&& 255)) (b + 3) ((w0 >>> ((0 : Int32) &&& 31)) &&& 255)) (b + 4) ((w1 >>> ((24 : Int32) &&& 31)) &&& 255)) (b + 5) ((w1 >>> ((16 : Int32) &&& 31)) &&& 255)) (b + 6) ((w1 >>> ((8 : Int32) &&& 31)) &&& 255)) (b + 7) ((w1 >>> ((0 : Int32) &&& 31)) &&& 255)) (b + 8) ((w2 >>> ((24 : Int32) &&& 31)) &&& 255)) (b + 9) ((w2 >>> ((16 : Int32) &&& 31)) &&& 255)) (b + 10) ((w2 >>> ((8 : Int32) &&& 31)) &&& 255)) (b + 11) ((w2 >>> ((0 : Int32) &&& 31)) &&& 255)))) :: wr) H := hP
                                                                            refine lv_iinc (v := 12) (lv' := [(6, .int 12), (7, .int w2), (0, .ref o), (1, .int w0), (2, .int w1), (3, .int w2), (4, .int w3), (5, .int w4)]) hx hb dX5_append_114 hl (k := 1) rfl (by decide) (by decide) rfl (fun ls hl => ?_)
                                                                            refine lv_goto (tgt := 23) hx hb dX5_append_117 (by decide) ?_
                                                                            refine lv_iload hx hb dX5_append_23 (lv_at hl 0 rfl) ?_
                                                                            refine lv_bipush (v := 20) hx hb dX5_append_25 rfl ?_
                                                                            refine lv_icmp_ge (tgt := 120) hx hb dX5_append_27 (by decide) (fun c_27 => ?_) (fun c_27 => ?_)
                                                                            · exact absurd c_27 (by decide)
                                                                            · refine lv_iload hx hb dX5_append_30 (lv_at hl 0 rfl) ?_
                                                                              refine lv_iconst (v := 4) hx hb dX5_append_32 rfl ?_
                                                                              refine lv_icmp_ge (tgt := 40) hx hb dX5_append_33 (by decide) (fun c_33 => ?_) (fun c_33 => ?_)
                                                                              · refine lv_iload hx hb dX5_append_40 (lv_at hl 0 rfl) ?_
                                                                                refine lv_bipush (v := 8) hx hb dX5_append_42 rfl ?_
                                                                                refine lv_icmp_ge (tgt := 51) hx hb dX5_append_44 (by decide) (fun c_44 => ?_) (fun c_44 => ?_)
                                                                                · refine lv_iload hx hb dX5_append_51 (lv_at hl 0 rfl) ?_
                                                                                  refine lv_bipush (v := 12) hx hb dX5_append_53 rfl ?_
                                                                                  refine lv_icmp_ge (tgt := 62) hx hb dX5_append_55 (by decide) (fun c_55 => ?_) (fun c_55 => ?_)
                                                                                  · refine lv_iload hx hb dX5_append_62 (lv_at hl 0 rfl) ?_
                                                                                    refine lv_bipush (v := 16) hx hb dX5_append_64 rfl ?_
                                                                                    refine lv_icmp_ge (tgt := 74) hx hb dX5_append_66 (by decide) (fun c_66 => ?_) (fun c_66 => ?_)
                                                                                    · exact absurd c_66 (by decide)
                                                                                    · refine lv_iload hx hb dX5_append_69 (lv_at hl 6 rfl) ?_
                                                                                      refine lv_goto (tgt := 76) hx hb dX5_append_71 (by decide) ?_
                                                                                      refine lv_istore (lv' := [(7, .int w3), (6, .int 12), (0, .ref o), (1, .int w0), (2, .int w1), (3, .int w2), (4, .int w3), (5, .int w4)]) hx hb dX5_append_76 hl (by decide) rfl (fun ls hl => ?_)
                                                                                      refine lv_aload_n hx hb dX5_append_78 rfl (lv_at hl 2 rfl) ?_
                                                                                      refine va_get hx hb hts in_X5 hown hK hP 0 rfl rfl 1 (by decide) (hts _ q1663) (fun _ h => h) rfl dX5_append_79 ?_
                                                                                      refine lv_aload_n hx hb dX5_append_82 rfl (lv_at hl 2 rfl) ?_
                                                                                      refine va_get hx hb hts in_X5 hown hK hP 0 rfl rfl 2 (by decide) (hts _ q1664) (fun _ h => h) rfl dX5_append_83 ?_
                                                                                      refine lv_iload hx hb dX5_append_86 (lv_at hl 0 rfl) ?_
                                                                                      refine lv_bipush (v := 24) hx hb dX5_append_88 rfl ?_
                                                                                      refine lv_bipush (v := 8) hx hb dX5_append_90 rfl ?_
                                                                                      refine lv_iload hx hb dX5_append_92 (lv_at hl 1 rfl) ?_
                                                                                      refine lv_iconst (v := 4) hx hb dX5_append_94 rfl ?_
                                                                                      refine lv_irem hx hb dX5_append_95 (by decide) ?_
                                                                                      refine w_topi (y := 0) (by decide) ?_
                                                                                      refine lv_imul hx hb dX5_append_96 ?_
                                                                                      refine w_topi (y := 0) (by decide) ?_
                                                                                      refine lv_isub hx hb dX5_append_97 ?_
                                                                                      refine w_topi (y := 24) (by decide) ?_
                                                                                      refine lv_ishr hx hb dX5_append_98 ?_
                                                                                      refine lv_sipush (v := 255) hx hb dX5_append_99 rfl ?_
                                                                                      refine lv_iand hx hb dX5_append_102 ?_
                                                                                      refine w_iast hx hb hK hP (va_D_of hD rfl) hS 3 rfl (b + 12) rfl (by omega) (Nat.le_of_ble_eq_true rfl) dX5_append_103 (fun H locs hP _ hS => ?_)
                                                                                      have hP : va_P D clA ((o, .inr (0, [.int 0, .ref a1, .int (nI (b + 12)), .int tl, .int ps, .int er, .int ea, .int eo, .ref a8, .ref a9, .ref a10, .int ud, .int ns, .int ne, .int se, .ref a15])) :: (a8, .inl (k 0, 1798, .inl d)) :: (a9, .inl (k 0, 1798, .inl dr)) :: (a1, .inl (k 0, 900, .inl (upd (upd (upd (upd (upd (upd (upd (upd (upd (upd (upd (upd (upd fb b ((w0 >>> ((24 : Int32) &&& 31)) &&& 255)) (b + 1) ((w0 >>> ((16 : Int32) &&& 31)) &&& 255)) (b + 2) ((w0 >>> ((8 : Int32) &&& 31)) &&& 255)) (b + 3) ((w0 >>> ((0 : Int32) &&& 31)) &&& 255)) (b + 4) ((w1 >>> ((24 : Int32) &&& 31)) &&& 255)) (b + 5) ((w1 >>> ((16 : Int32) &&& 31)) &&& 255)) (b + 6) ((w1 >>> ((8 : Int32) &&& 31)) &&& 255)) (b + 7) ((w1 >>> ((0 : Int32) &&& 31)) &&& 255)) (b + 8) ((w2 >>> ((24 : Int32) &&& 31)) &&& 255)) (b + 9) ((w2 >>> ((16 : Int32) &&& 31)) &&& 255)) (b + 10) ((w2 >>> ((8 : Int32) &&& 31)) &&& 255)) (b + 11) ((w2 >>> ((0 : Int32) &&& 31)) &&& 255)) (b + 12) ((w3 >>> ((24 : Int32) &&& 31)) &&& 255)))) :: wr) H := hP
                                                                                      refine lv_aload_n hx hb dX5_append_104 rfl (lv_at hl 2 rfl) ?_
                                                                                      refine lv_dup hx hb dX5_append_105 rfl ?_
                                                                                      refine va_get hx hb hts in_X5 hown hK hP 0 rfl rfl 2 (by decide) (hts _ q1664) (fun _ h => h) rfl dX5_append_106 ?_
                                                                                      refine lv_iconst (v := 1) hx hb dX5_append_109 rfl ?_
                                                                                      refine lv_iadd hx hb dX5_append_110 ?_
                                                                                      refine w_topi (y := nI ((b + 12) + 1)) (nI_add (b + 12) 1) ?_
                                                                                      refine w_topi (y := nI (b + 13)) rfl ?_
                                                                                      refine va_put hx hb hts in_X5 tyX5 tyX5_ok nmX5 hown hK hP (va_D_of hD rfl) hS 0 rfl rfl 2 (by decide) (hts _ q1664) (fun _ h => h) rfl rfl rfl rfl (Nat.le_of_ble_eq_true rfl) dX5_append_111 (fun H locs hP _ hS => ?_)
                                                                                      have hP : va_P D clA ((o, .inr (0, [.int 0, .ref a1, .int (nI (b + 13)), .int tl, .int ps, .int er, .int ea, .int eo, .ref a8, .ref a9, .ref a10, .int ud, .int ns, .int ne, .int se, .ref a15])) :: (a8, .inl (k 0, 1798, .inl d)) :: (a9, .inl (k 0, 1798, .inl dr)) :: (a1, .inl (k 0, 900, .inl (upd (upd (upd (upd (upd (upd (upd (upd (upd (upd (upd (upd (upd fb b ((w0 >>> ((24 : Int32) &&& 31)) &&& 255)) (b + 1) ((w0 >>> ((16 : Int32) &&& 31)) &&& 255)) (b + 2) ((w0 >>> ((8 : Int32) &&& 31)) &&& 255)) (b + 3) ((w0 >>> ((0 : Int32) &&& 31)) &&& 255)) (b + 4) ((w1 >>> ((24 : Int32) &&& 31)) &&& 255)) (b + 5) ((w1 >>> ((16 : Int32) &&& 31)) &&& 255)) (b + 6) ((w1 >>> ((8 : Int32) &&& 31)) &&& 255)) (b + 7) ((w1 >>> ((0 : Int32) &&& 31)) &&& 255)) (b + 8) ((w2 >>> ((24 : Int32) &&& 31)) &&& 255)) (b + 9) ((w2 >>> ((16 : Int32) &&& 31)) &&& 255)) (b + 10) ((w2 >>> ((8 : Int32) &&& 31)) &&& 255)) (b + 11) ((w2 >>> ((0 : Int32) &&& 31)) &&& 255)) (b + 12) ((w3 >>> ((24 : Int32) &&& 31)) &&& 255)))) :: wr) H := hP
                                                                                      refine lv_iinc (v := 13) (lv' := [(6, .int 13), (7, .int w3), (0, .ref o), (1, .int w0), (2, .int w1), (3, .int w2), (4, .int w3), (5, .int w4)]) hx hb dX5_append_114 hl (k := 1) rfl (by decide) (by decide) rfl (fun ls hl => ?_)
                                                                                      refine lv_goto (tgt := 23) hx hb dX5_append_117 (by decide) ?_
                                                                                      refine lv_iload hx hb dX5_append_23 (lv_at hl 0 rfl) ?_
                                                                                      refine lv_bipush (v := 20) hx hb dX5_append_25 rfl ?_
                                                                                      refine lv_icmp_ge (tgt := 120) hx hb dX5_append_27 (by decide) (fun c_27 => ?_) (fun c_27 => ?_)
                                                                                      · exact absurd c_27 (by decide)
                                                                                      · refine lv_iload hx hb dX5_append_30 (lv_at hl 0 rfl) ?_
                                                                                        refine lv_iconst (v := 4) hx hb dX5_append_32 rfl ?_
                                                                                        refine lv_icmp_ge (tgt := 40) hx hb dX5_append_33 (by decide) (fun c_33 => ?_) (fun c_33 => ?_)
                                                                                        · refine lv_iload hx hb dX5_append_40 (lv_at hl 0 rfl) ?_
                                                                                          refine lv_bipush (v := 8) hx hb dX5_append_42 rfl ?_
                                                                                          refine lv_icmp_ge (tgt := 51) hx hb dX5_append_44 (by decide) (fun c_44 => ?_) (fun c_44 => ?_)
                                                                                          · refine lv_iload hx hb dX5_append_51 (lv_at hl 0 rfl) ?_
                                                                                            refine lv_bipush (v := 12) hx hb dX5_append_53 rfl ?_
                                                                                            refine lv_icmp_ge (tgt := 62) hx hb dX5_append_55 (by decide) (fun c_55 => ?_) (fun c_55 => ?_)
                                                                                            · refine lv_iload hx hb dX5_append_62 (lv_at hl 0 rfl) ?_
                                                                                              refine lv_bipush (v := 16) hx hb dX5_append_64 rfl ?_
                                                                                              refine lv_icmp_ge (tgt := 74) hx hb dX5_append_66 (by decide) (fun c_66 => ?_) (fun c_66 => ?_)
                                                                                              · exact absurd c_66 (by decide)
                                                                                              · refine lv_iload hx hb dX5_append_69 (lv_at hl 6 rfl) ?_
                                                                                                refine lv_goto (tgt := 76) hx hb dX5_append_71 (by decide) ?_
                                                                                                refine lv_istore (lv' := [(7, .int w3), (6, .int 13), (0, .ref o), (1, .int w0), (2, .int w1), (3, .int w2), (4, .int w3), (5, .int w4)]) hx hb dX5_append_76 hl (by decide) rfl (fun ls hl => ?_)
                                                                                                refine lv_aload_n hx hb dX5_append_78 rfl (lv_at hl 2 rfl) ?_
                                                                                                refine va_get hx hb hts in_X5 hown hK hP 0 rfl rfl 1 (by decide) (hts _ q1663) (fun _ h => h) rfl dX5_append_79 ?_
                                                                                                refine lv_aload_n hx hb dX5_append_82 rfl (lv_at hl 2 rfl) ?_
                                                                                                refine va_get hx hb hts in_X5 hown hK hP 0 rfl rfl 2 (by decide) (hts _ q1664) (fun _ h => h) rfl dX5_append_83 ?_
                                                                                                refine lv_iload hx hb dX5_append_86 (lv_at hl 0 rfl) ?_
                                                                                                refine lv_bipush (v := 24) hx hb dX5_append_88 rfl ?_
                                                                                                refine lv_bipush (v := 8) hx hb dX5_append_90 rfl ?_
                                                                                                refine lv_iload hx hb dX5_append_92 (lv_at hl 1 rfl) ?_
                                                                                                refine lv_iconst (v := 4) hx hb dX5_append_94 rfl ?_
                                                                                                refine lv_irem hx hb dX5_append_95 (by decide) ?_
                                                                                                refine w_topi (y := 1) (by decide) ?_
                                                                                                refine lv_imul hx hb dX5_append_96 ?_
                                                                                                refine w_topi (y := 8) (by decide) ?_
                                                                                                refine lv_isub hx hb dX5_append_97 ?_
                                                                                                refine w_topi (y := 16) (by decide) ?_
                                                                                                refine lv_ishr hx hb dX5_append_98 ?_
                                                                                                refine lv_sipush (v := 255) hx hb dX5_append_99 rfl ?_
                                                                                                refine lv_iand hx hb dX5_append_102 ?_
                                                                                                refine w_iast hx hb hK hP (va_D_of hD rfl) hS 3 rfl (b + 13) rfl (by omega) (Nat.le_of_ble_eq_true rfl) dX5_append_103 (fun H locs hP _ hS => ?_)
                                                                                                have hP : va_P D clA ((o, .inr (0, [.int 0, .ref a1, .int (nI (b + 13)), .int tl, .int ps, .int er, .int ea, .int eo, .ref a8, .ref a9, .ref a10, .int ud, .int ns, .int ne, .int se, .ref a15])) :: (a8, .inl (k 0, 1798, .inl d)) :: (a9, .inl (k 0, 1798, .inl dr)) :: (a1, .inl (k 0, 900, .inl (upd (upd (upd (upd (upd (upd (upd (upd (upd (upd (upd (upd (upd (upd fb b ((w0 >>> ((24 : Int32) &&& 31)) &&& 255)) (b + 1) ((w0 >>> ((16 : Int32) &&& 31)) &&& 255)) (b + 2) ((w0 >>> ((8 : Int32) &&& 31)) &&& 255)) (b + 3) ((w0 >>> ((0 : Int32) &&& 31)) &&& 255)) (b + 4) ((w1 >>> ((24 : Int32) &&& 31)) &&& 255)) (b + 5) ((w1 >>> ((16 : Int32) &&& 31)) &&& 255)) (b + 6) ((w1 >>> ((8 : Int32) &&& 31)) &&& 255)) (b + 7) ((w1 >>> ((0 : Int32) &&& 31)) &&& 255)) (b + 8) ((w2 >>> ((24 : Int32) &&& 31)) &&& 255)) (b + 9) ((w2 >>> ((16 : Int32) &&& 31)) &&& 255)) (b + 10) ((w2 >>> ((8 : Int32) &&& 31)) &&& 255)) (b + 11) ((w2 >>> ((0 : Int32) &&& 31)) &&& 255)) (b + 12) ((w3 >>> ((24 : Int32) &&& 31)) &&& 255)) (b + 13) ((w3 >>> ((16 : Int32) &&& 31)) &&& 255)))) :: wr) H := hP
                                                                                                refine lv_aload_n hx hb dX5_append_104 rfl (lv_at hl 2 rfl) ?_
                                                                                                refine lv_dup hx hb dX5_append_105 rfl ?_
                                                                                                refine va_get hx hb hts in_X5 hown hK hP 0 rfl rfl 2 (by decide) (hts _ q1664) (fun _ h => h) rfl dX5_append_106 ?_
                                                                                                refine lv_iconst (v := 1) hx hb dX5_append_109 rfl ?_
                                                                                                refine lv_iadd hx hb dX5_append_110 ?_
                                                                                                refine w_topi (y := nI ((b + 13) + 1)) (nI_add (b + 13) 1) ?_
                                                                                                refine w_topi (y := nI (b + 14)) rfl ?_
                                                                                                refine va_put hx hb hts in_X5 tyX5 tyX5_ok nmX5 hown hK hP (va_D_of hD rfl) hS 0 rfl rfl 2 (by decide) (hts _ q1664) (fun _ h => h) rfl rfl rfl rfl (Nat.le_of_ble_eq_true rfl) dX5_append_111 (fun H locs hP _ hS => ?_)
                                                                                                have hP : va_P D clA ((o, .inr (0, [.int 0, .ref a1, .int (nI (b + 14)), .int tl, .int ps, .int er, .int ea, .int eo, .ref a8, .ref a9, .ref a10, .int ud, .int ns, .int ne, .int se, .ref a15])) :: (a8, .inl (k 0, 1798, .inl d)) :: (a9, .inl (k 0, 1798, .inl dr)) :: (a1, .inl (k 0, 900, .inl (upd (upd (upd (upd (upd (upd (upd (upd (upd (upd (upd (upd (upd (upd fb b ((w0 >>> ((24 : Int32) &&& 31)) &&& 255)) (b + 1) ((w0 >>> ((16 : Int32) &&& 31)) &&& 255)) (b + 2) ((w0 >>> ((8 : Int32) &&& 31)) &&& 255)) (b + 3) ((w0 >>> ((0 : Int32) &&& 31)) &&& 255)) (b + 4) ((w1 >>> ((24 : Int32) &&& 31)) &&& 255)) (b + 5) ((w1 >>> ((16 : Int32) &&& 31)) &&& 255)) (b + 6) ((w1 >>> ((8 : Int32) &&& 31)) &&& 255)) (b + 7) ((w1 >>> ((0 : Int32) &&& 31)) &&& 255)) (b + 8) ((w2 >>> ((24 : Int32) &&& 31)) &&& 255)) (b + 9) ((w2 >>> ((16 : Int32) &&& 31)) &&& 255)) (b + 10) ((w2 >>> ((8 : Int32) &&& 31)) &&& 255)) (b + 11) ((w2 >>> ((0 : Int32) &&& 31)) &&& 255)) (b + 12) ((w3 >>> ((24 : Int32) &&& 31)) &&& 255)) (b + 13) ((w3 >>> ((16 : Int32) &&& 31)) &&& 255)))) :: wr) H := hP
                                                                                                refine lv_iinc (v := 14) (lv' := [(6, .int 14), (7, .int w3), (0, .ref o), (1, .int w0), (2, .int w1), (3, .int w2), (4, .int w3), (5, .int w4)]) hx hb dX5_append_114 hl (k := 1) rfl (by decide) (by decide) rfl (fun ls hl => ?_)
                                                                                                refine lv_goto (tgt := 23) hx hb dX5_append_117 (by decide) ?_
                                                                                                refine lv_iload hx hb dX5_append_23 (lv_at hl 0 rfl) ?_
                                                                                                refine lv_bipush (v := 20) hx hb dX5_append_25 rfl ?_
                                                                                                refine lv_icmp_ge (tgt := 120) hx hb dX5_append_27 (by decide) (fun c_27 => ?_) (fun c_27 => ?_)
                                                                                                · exact absurd c_27 (by decide)
                                                                                                · refine lv_iload hx hb dX5_append_30 (lv_at hl 0 rfl) ?_
                                                                                                  refine lv_iconst (v := 4) hx hb dX5_append_32 rfl ?_
                                                                                                  refine lv_icmp_ge (tgt := 40) hx hb dX5_append_33 (by decide) (fun c_33 => ?_) (fun c_33 => ?_)
                                                                                                  · refine lv_iload hx hb dX5_append_40 (lv_at hl 0 rfl) ?_
                                                                                                    refine lv_bipush (v := 8) hx hb dX5_append_42 rfl ?_
                                                                                                    refine lv_icmp_ge (tgt := 51) hx hb dX5_append_44 (by decide) (fun c_44 => ?_) (fun c_44 => ?_)
                                                                                                    · refine lv_iload hx hb dX5_append_51 (lv_at hl 0 rfl) ?_
                                                                                                      refine lv_bipush (v := 12) hx hb dX5_append_53 rfl ?_
                                                                                                      refine lv_icmp_ge (tgt := 62) hx hb dX5_append_55 (by decide) (fun c_55 => ?_) (fun c_55 => ?_)
                                                                                                      · refine lv_iload hx hb dX5_append_62 (lv_at hl 0 rfl) ?_
                                                                                                        refine lv_bipush (v := 16) hx hb dX5_append_64 rfl ?_
                                                                                                        refine lv_icmp_ge (tgt := 74) hx hb dX5_append_66 (by decide) (fun c_66 => ?_) (fun c_66 => ?_)
                                                                                                        · exact absurd c_66 (by decide)
                                                                                                        · refine lv_iload hx hb dX5_append_69 (lv_at hl 6 rfl) ?_
                                                                                                          refine lv_goto (tgt := 76) hx hb dX5_append_71 (by decide) ?_
                                                                                                          refine lv_istore (lv' := [(7, .int w3), (6, .int 14), (0, .ref o), (1, .int w0), (2, .int w1), (3, .int w2), (4, .int w3), (5, .int w4)]) hx hb dX5_append_76 hl (by decide) rfl (fun ls hl => ?_)
                                                                                                          refine lv_aload_n hx hb dX5_append_78 rfl (lv_at hl 2 rfl) ?_
                                                                                                          refine va_get hx hb hts in_X5 hown hK hP 0 rfl rfl 1 (by decide) (hts _ q1663) (fun _ h => h) rfl dX5_append_79 ?_
                                                                                                          refine lv_aload_n hx hb dX5_append_82 rfl (lv_at hl 2 rfl) ?_
                                                                                                          refine va_get hx hb hts in_X5 hown hK hP 0 rfl rfl 2 (by decide) (hts _ q1664) (fun _ h => h) rfl dX5_append_83 ?_
                                                                                                          refine lv_iload hx hb dX5_append_86 (lv_at hl 0 rfl) ?_
                                                                                                          refine lv_bipush (v := 24) hx hb dX5_append_88 rfl ?_
                                                                                                          refine lv_bipush (v := 8) hx hb dX5_append_90 rfl ?_
                                                                                                          refine lv_iload hx hb dX5_append_92 (lv_at hl 1 rfl) ?_
                                                                                                          refine lv_iconst (v := 4) hx hb dX5_append_94 rfl ?_
                                                                                                          refine lv_irem hx hb dX5_append_95 (by decide) ?_
                                                                                                          refine w_topi (y := 2) (by decide) ?_
                                                                                                          refine lv_imul hx hb dX5_append_96 ?_
                                                                                                          refine w_topi (y := 16) (by decide) ?_
                                                                                                          refine lv_isub hx hb dX5_append_97 ?_
                                                                                                          refine w_topi (y := 8) (by decide) ?_
                                                                                                          refine lv_ishr hx hb dX5_append_98 ?_
                                                                                                          refine lv_sipush (v := 255) hx hb dX5_append_99 rfl ?_
                                                                                                          refine lv_iand hx hb dX5_append_102 ?_
                                                                                                          refine w_iast hx hb hK hP (va_D_of hD rfl) hS 3 rfl (b + 14) rfl (by omega) (Nat.le_of_ble_eq_true rfl) dX5_append_103 (fun H locs hP _ hS => ?_)
                                                                                                          have hP : va_P D clA ((o, .inr (0, [.int 0, .ref a1, .int (nI (b + 14)), .int tl, .int ps, .int er, .int ea, .int eo, .ref a8, .ref a9, .ref a10, .int ud, .int ns, .int ne, .int se, .ref a15])) :: (a8, .inl (k 0, 1798, .inl d)) :: (a9, .inl (k 0, 1798, .inl dr)) :: (a1, .inl (k 0, 900, .inl (upd (upd (upd (upd (upd (upd (upd (upd (upd (upd (upd (upd (upd (upd (upd fb b ((w0 >>> ((24 : Int32) &&& 31)) &&& 255)) (b + 1) ((w0 >>> ((16 : Int32) &&& 31)) &&& 255)) (b + 2) ((w0 >>> ((8 : Int32) &&& 31)) &&& 255)) (b + 3) ((w0 >>> ((0 : Int32) &&& 31)) &&& 255)) (b + 4) ((w1 >>> ((24 : Int32) &&& 31)) &&& 255)) (b + 5) ((w1 >>> ((16 : Int32) &&& 31)) &&& 255)) (b + 6) ((w1 >>> ((8 : Int32) &&& 31)) &&& 255)) (b + 7) ((w1 >>> ((0 : Int32) &&& 31)) &&& 255)) (b + 8) ((w2 >>> ((24 : Int32) &&& 31)) &&& 255)) (b + 9) ((w2 >>> ((16 : Int32) &&& 31)) &&& 255)) (b + 10) ((w2 >>> ((8 : Int32) &&& 31)) &&& 255)) (b + 11) ((w2 >>> ((0 : Int32) &&& 31)) &&& 255)) (b + 12) ((w3 >>> ((24 : Int32) &&& 31)) &&& 255)) (b + 13) ((w3 >>> ((16 : Int32) &&& 31)) &&& 255)) (b + 14) ((w3 >>> ((8 : Int32) &&& 31)) &&& 255)))) :: wr) H := hP
                                                                                                          refine lv_aload_n hx hb dX5_append_104 rfl (lv_at hl 2 rfl) ?_
                                                                                                          refine lv_dup hx hb dX5_append_105 rfl ?_
                                                                                                          refine va_get hx hb hts in_X5 hown hK hP 0 rfl rfl 2 (by decide) (hts _ q1664) (fun _ h => h) rfl dX5_append_106 ?_
                                                                                                          refine lv_iconst (v := 1) hx hb dX5_append_109 rfl ?_
                                                                                                          refine lv_iadd hx hb dX5_append_110 ?_
                                                                                                          refine w_topi (y := nI ((b + 14) + 1)) (nI_add (b + 14) 1) ?_
                                                                                                          refine w_topi (y := nI (b + 15)) rfl ?_
                                                                                                          refine va_put hx hb hts in_X5 tyX5 tyX5_ok nmX5 hown hK hP (va_D_of hD rfl) hS 0 rfl rfl 2 (by decide) (hts _ q1664) (fun _ h => h) rfl rfl rfl rfl (Nat.le_of_ble_eq_true rfl) dX5_append_111 (fun H locs hP _ hS => ?_)
                                                                                                          have hP : va_P D clA ((o, .inr (0, [.int 0, .ref a1, .int (nI (b + 15)), .int tl, .int ps, .int er, .int ea, .int eo, .ref a8, .ref a9, .ref a10, .int ud, .int ns, .int ne, .int se, .ref a15])) :: (a8, .inl (k 0, 1798, .inl d)) :: (a9, .inl (k 0, 1798, .inl dr)) :: (a1, .inl (k 0, 900, .inl (upd (upd (upd (upd (upd (upd (upd (upd (upd (upd (upd (upd (upd (upd (upd fb b ((w0 >>> ((24 : Int32) &&& 31)) &&& 255)) (b + 1) ((w0 >>> ((16 : Int32) &&& 31)) &&& 255)) (b + 2) ((w0 >>> ((8 : Int32) &&& 31)) &&& 255)) (b + 3) ((w0 >>> ((0 : Int32) &&& 31)) &&& 255)) (b + 4) ((w1 >>> ((24 : Int32) &&& 31)) &&& 255)) (b + 5) ((w1 >>> ((16 : Int32) &&& 31)) &&& 255)) (b + 6) ((w1 >>> ((8 : Int32) &&& 31)) &&& 255)) (b + 7) ((w1 >>> ((0 : Int32) &&& 31)) &&& 255)) (b + 8) ((w2 >>> ((24 : Int32) &&& 31)) &&& 255)) (b + 9) ((w2 >>> ((16 : Int32) &&& 31)) &&& 255)) (b + 10) ((w2 >>> ((8 : Int32) &&& 31)) &&& 255)) (b + 11) ((w2 >>> ((0 : Int32) &&& 31)) &&& 255)) (b + 12) ((w3 >>> ((24 : Int32) &&& 31)) &&& 255)) (b + 13) ((w3 >>> ((16 : Int32) &&& 31)) &&& 255)) (b + 14) ((w3 >>> ((8 : Int32) &&& 31)) &&& 255)))) :: wr) H := hP
                                                                                                          refine lv_iinc (v := 15) (lv' := [(6, .int 15), (7, .int w3), (0, .ref o), (1, .int w0), (2, .int w1), (3, .int w2), (4, .int w3), (5, .int w4)]) hx hb dX5_append_114 hl (k := 1) rfl (by decide) (by decide) rfl (fun ls hl => ?_)
                                                                                                          refine lv_goto (tgt := 23) hx hb dX5_append_117 (by decide) ?_
                                                                                                          refine lv_iload hx hb dX5_append_23 (lv_at hl 0 rfl) ?_
                                                                                                          refine lv_bipush (v := 20) hx hb dX5_append_25 rfl ?_
                                                                                                          refine lv_icmp_ge (tgt := 120) hx hb dX5_append_27 (by decide) (fun c_27 => ?_) (fun c_27 => ?_)
                                                                                                          · exact absurd c_27 (by decide)
                                                                                                          · refine lv_iload hx hb dX5_append_30 (lv_at hl 0 rfl) ?_
                                                                                                            refine lv_iconst (v := 4) hx hb dX5_append_32 rfl ?_
                                                                                                            refine lv_icmp_ge (tgt := 40) hx hb dX5_append_33 (by decide) (fun c_33 => ?_) (fun c_33 => ?_)
                                                                                                            · refine lv_iload hx hb dX5_append_40 (lv_at hl 0 rfl) ?_
                                                                                                              refine lv_bipush (v := 8) hx hb dX5_append_42 rfl ?_
                                                                                                              refine lv_icmp_ge (tgt := 51) hx hb dX5_append_44 (by decide) (fun c_44 => ?_) (fun c_44 => ?_)
                                                                                                              · refine lv_iload hx hb dX5_append_51 (lv_at hl 0 rfl) ?_
                                                                                                                refine lv_bipush (v := 12) hx hb dX5_append_53 rfl ?_
                                                                                                                refine lv_icmp_ge (tgt := 62) hx hb dX5_append_55 (by decide) (fun c_55 => ?_) (fun c_55 => ?_)
                                                                                                                · refine lv_iload hx hb dX5_append_62 (lv_at hl 0 rfl) ?_
                                                                                                                  refine lv_bipush (v := 16) hx hb dX5_append_64 rfl ?_
                                                                                                                  refine lv_icmp_ge (tgt := 74) hx hb dX5_append_66 (by decide) (fun c_66 => ?_) (fun c_66 => ?_)
                                                                                                                  · exact absurd c_66 (by decide)
                                                                                                                  · refine lv_iload hx hb dX5_append_69 (lv_at hl 6 rfl) ?_
                                                                                                                    refine lv_goto (tgt := 76) hx hb dX5_append_71 (by decide) ?_
                                                                                                                    refine lv_istore (lv' := [(7, .int w3), (6, .int 15), (0, .ref o), (1, .int w0), (2, .int w1), (3, .int w2), (4, .int w3), (5, .int w4)]) hx hb dX5_append_76 hl (by decide) rfl (fun ls hl => ?_)
                                                                                                                    refine lv_aload_n hx hb dX5_append_78 rfl (lv_at hl 2 rfl) ?_
                                                                                                                    refine va_get hx hb hts in_X5 hown hK hP 0 rfl rfl 1 (by decide) (hts _ q1663) (fun _ h => h) rfl dX5_append_79 ?_
                                                                                                                    refine lv_aload_n hx hb dX5_append_82 rfl (lv_at hl 2 rfl) ?_
                                                                                                                    refine va_get hx hb hts in_X5 hown hK hP 0 rfl rfl 2 (by decide) (hts _ q1664) (fun _ h => h) rfl dX5_append_83 ?_
                                                                                                                    refine lv_iload hx hb dX5_append_86 (lv_at hl 0 rfl) ?_
                                                                                                                    refine lv_bipush (v := 24) hx hb dX5_append_88 rfl ?_
                                                                                                                    refine lv_bipush (v := 8) hx hb dX5_append_90 rfl ?_
                                                                                                                    refine lv_iload hx hb dX5_append_92 (lv_at hl 1 rfl) ?_
                                                                                                                    refine lv_iconst (v := 4) hx hb dX5_append_94 rfl ?_
                                                                                                                    refine lv_irem hx hb dX5_append_95 (by decide) ?_
                                                                                                                    refine w_topi (y := 3) (by decide) ?_
                                                                                                                    refine lv_imul hx hb dX5_append_96 ?_
                                                                                                                    refine w_topi (y := 24) (by decide) ?_
                                                                                                                    refine lv_isub hx hb dX5_append_97 ?_
                                                                                                                    refine w_topi (y := 0) (by decide) ?_
                                                                                                                    refine lv_ishr hx hb dX5_append_98 ?_
                                                                                                                    refine lv_sipush (v := 255) hx hb dX5_append_99 rfl ?_
                                                                                                                    refine lv_iand hx hb dX5_append_102 ?_
                                                                                                                    refine w_iast hx hb hK hP (va_D_of hD rfl) hS 3 rfl (b + 15) rfl (by omega) (Nat.le_of_ble_eq_true rfl) dX5_append_103 (fun H locs hP _ hS => ?_)
                                                                                                                    have hP : va_P D clA ((o, .inr (0, [.int 0, .ref a1, .int (nI (b + 15)), .int tl, .int ps, .int er, .int ea, .int eo, .ref a8, .ref a9, .ref a10, .int ud, .int ns, .int ne, .int se, .ref a15])) :: (a8, .inl (k 0, 1798, .inl d)) :: (a9, .inl (k 0, 1798, .inl dr)) :: (a1, .inl (k 0, 900, .inl (upd (upd (upd (upd (upd (upd (upd (upd (upd (upd (upd (upd (upd (upd (upd (upd fb b ((w0 >>> ((24 : Int32) &&& 31)) &&& 255)) (b + 1) ((w0 >>> ((16 : Int32) &&& 31)) &&& 255)) (b + 2) ((w0 >>> ((8 : Int32) &&& 31)) &&& 255)) (b + 3) ((w0 >>> ((0 : Int32) &&& 31)) &&& 255)) (b + 4) ((w1 >>> ((24 : Int32) &&& 31)) &&& 255)) (b + 5) ((w1 >>> ((16 : Int32) &&& 31)) &&& 255)) (b + 6) ((w1 >>> ((8 : Int32) &&& 31)) &&& 255)) (b + 7) ((w1 >>> ((0 : Int32) &&& 31)) &&& 255)) (b + 8) ((w2 >>> ((24 : Int32) &&& 31)) &&& 255)) (b + 9) ((w2 >>> ((16 : Int32) &&& 31)) &&& 255)) (b + 10) ((w2 >>> ((8 : Int32) &&& 31)) &&& 255)) (b + 11) ((w2 >>> ((0 : Int32) &&& 31)) &&& 255)) (b + 12) ((w3 >>> ((24 : Int32) &&& 31)) &&& 255)) (b + 13) ((w3 >>> ((16 : Int32) &&& 31)) &&& 255)) (b + 14) ((w3 >>> ((8 : Int32) &&& 31)) &&& 255)) (b + 15) ((w3 >>> ((0 : Int32) &&& 31)) &&& 255)))) :: wr) H := hP
                                                                                                                    refine lv_aload_n hx hb dX5_append_104 rfl (lv_at hl 2 rfl) ?_
                                                                                                                    refine lv_dup hx hb dX5_append_105 rfl ?_
                                                                                                                    refine va_get hx hb hts in_X5 hown hK hP 0 rfl rfl 2 (by decide) (hts _ q1664) (fun _ h => h) rfl dX5_append_106 ?_
                                                                                                                    refine lv_iconst (v := 1) hx hb dX5_append_109 rfl ?_
                                                                                                                    refine lv_iadd hx hb dX5_append_110 ?_
                                                                                                                    refine w_topi (y := nI ((b + 15) + 1)) (nI_add (b + 15) 1) ?_
                                                                                                                    refine w_topi (y := nI (b + 16)) rfl ?_
                                                                                                                    refine va_put hx hb hts in_X5 tyX5 tyX5_ok nmX5 hown hK hP (va_D_of hD rfl) hS 0 rfl rfl 2 (by decide) (hts _ q1664) (fun _ h => h) rfl rfl rfl rfl (Nat.le_of_ble_eq_true rfl) dX5_append_111 (fun H locs hP _ hS => ?_)
                                                                                                                    have hP : va_P D clA ((o, .inr (0, [.int 0, .ref a1, .int (nI (b + 16)), .int tl, .int ps, .int er, .int ea, .int eo, .ref a8, .ref a9, .ref a10, .int ud, .int ns, .int ne, .int se, .ref a15])) :: (a8, .inl (k 0, 1798, .inl d)) :: (a9, .inl (k 0, 1798, .inl dr)) :: (a1, .inl (k 0, 900, .inl (upd (upd (upd (upd (upd (upd (upd (upd (upd (upd (upd (upd (upd (upd (upd (upd fb b ((w0 >>> ((24 : Int32) &&& 31)) &&& 255)) (b + 1) ((w0 >>> ((16 : Int32) &&& 31)) &&& 255)) (b + 2) ((w0 >>> ((8 : Int32) &&& 31)) &&& 255)) (b + 3) ((w0 >>> ((0 : Int32) &&& 31)) &&& 255)) (b + 4) ((w1 >>> ((24 : Int32) &&& 31)) &&& 255)) (b + 5) ((w1 >>> ((16 : Int32) &&& 31)) &&& 255)) (b + 6) ((w1 >>> ((8 : Int32) &&& 31)) &&& 255)) (b + 7) ((w1 >>> ((0 : Int32) &&& 31)) &&& 255)) (b + 8) ((w2 >>> ((24 : Int32) &&& 31)) &&& 255)) (b + 9) ((w2 >>> ((16 : Int32) &&& 31)) &&& 255)) (b + 10) ((w2 >>> ((8 : Int32) &&& 31)) &&& 255)) (b + 11) ((w2 >>> ((0 : Int32) &&& 31)) &&& 255)) (b + 12) ((w3 >>> ((24 : Int32) &&& 31)) &&& 255)) (b + 13) ((w3 >>> ((16 : Int32) &&& 31)) &&& 255)) (b + 14) ((w3 >>> ((8 : Int32) &&& 31)) &&& 255)) (b + 15) ((w3 >>> ((0 : Int32) &&& 31)) &&& 255)))) :: wr) H := hP
                                                                                                                    refine lv_iinc (v := 16) (lv' := [(6, .int 16), (7, .int w3), (0, .ref o), (1, .int w0), (2, .int w1), (3, .int w2), (4, .int w3), (5, .int w4)]) hx hb dX5_append_114 hl (k := 1) rfl (by decide) (by decide) rfl (fun ls hl => ?_)
                                                                                                                    refine lv_goto (tgt := 23) hx hb dX5_append_117 (by decide) ?_
                                                                                                                    refine lv_iload hx hb dX5_append_23 (lv_at hl 0 rfl) ?_
                                                                                                                    refine lv_bipush (v := 20) hx hb dX5_append_25 rfl ?_
                                                                                                                    refine lv_icmp_ge (tgt := 120) hx hb dX5_append_27 (by decide) (fun c_27 => ?_) (fun c_27 => ?_)
                                                                                                                    · exact absurd c_27 (by decide)
                                                                                                                    · refine lv_iload hx hb dX5_append_30 (lv_at hl 0 rfl) ?_
                                                                                                                      refine lv_iconst (v := 4) hx hb dX5_append_32 rfl ?_
                                                                                                                      refine lv_icmp_ge (tgt := 40) hx hb dX5_append_33 (by decide) (fun c_33 => ?_) (fun c_33 => ?_)
                                                                                                                      · refine lv_iload hx hb dX5_append_40 (lv_at hl 0 rfl) ?_
                                                                                                                        refine lv_bipush (v := 8) hx hb dX5_append_42 rfl ?_
                                                                                                                        refine lv_icmp_ge (tgt := 51) hx hb dX5_append_44 (by decide) (fun c_44 => ?_) (fun c_44 => ?_)
                                                                                                                        · refine lv_iload hx hb dX5_append_51 (lv_at hl 0 rfl) ?_
                                                                                                                          refine lv_bipush (v := 12) hx hb dX5_append_53 rfl ?_
                                                                                                                          refine lv_icmp_ge (tgt := 62) hx hb dX5_append_55 (by decide) (fun c_55 => ?_) (fun c_55 => ?_)
                                                                                                                          · refine lv_iload hx hb dX5_append_62 (lv_at hl 0 rfl) ?_
                                                                                                                            refine lv_bipush (v := 16) hx hb dX5_append_64 rfl ?_
                                                                                                                            refine lv_icmp_ge (tgt := 74) hx hb dX5_append_66 (by decide) (fun c_66 => ?_) (fun c_66 => ?_)
                                                                                                                            · refine lv_iload hx hb dX5_append_74 (lv_at hl 7 rfl) ?_
                                                                                                                              refine lv_istore (lv' := [(7, .int w4), (6, .int 16), (0, .ref o), (1, .int w0), (2, .int w1), (3, .int w2), (4, .int w3), (5, .int w4)]) hx hb dX5_append_76 hl (by decide) rfl (fun ls hl => ?_)
                                                                                                                              refine lv_aload_n hx hb dX5_append_78 rfl (lv_at hl 2 rfl) ?_
                                                                                                                              refine va_get hx hb hts in_X5 hown hK hP 0 rfl rfl 1 (by decide) (hts _ q1663) (fun _ h => h) rfl dX5_append_79 ?_
                                                                                                                              refine lv_aload_n hx hb dX5_append_82 rfl (lv_at hl 2 rfl) ?_
                                                                                                                              refine va_get hx hb hts in_X5 hown hK hP 0 rfl rfl 2 (by decide) (hts _ q1664) (fun _ h => h) rfl dX5_append_83 ?_
                                                                                                                              refine lv_iload hx hb dX5_append_86 (lv_at hl 0 rfl) ?_
                                                                                                                              refine lv_bipush (v := 24) hx hb dX5_append_88 rfl ?_
                                                                                                                              refine lv_bipush (v := 8) hx hb dX5_append_90 rfl ?_
                                                                                                                              refine lv_iload hx hb dX5_append_92 (lv_at hl 1 rfl) ?_
                                                                                                                              refine lv_iconst (v := 4) hx hb dX5_append_94 rfl ?_
                                                                                                                              refine lv_irem hx hb dX5_append_95 (by decide) ?_
                                                                                                                              refine w_topi (y := 0) (by decide) ?_
                                                                                                                              refine lv_imul hx hb dX5_append_96 ?_
                                                                                                                              refine w_topi (y := 0) (by decide) ?_
                                                                                                                              refine lv_isub hx hb dX5_append_97 ?_
                                                                                                                              refine w_topi (y := 24) (by decide) ?_
                                                                                                                              refine lv_ishr hx hb dX5_append_98 ?_
                                                                                                                              refine lv_sipush (v := 255) hx hb dX5_append_99 rfl ?_
                                                                                                                              refine lv_iand hx hb dX5_append_102 ?_
                                                                                                                              refine w_iast hx hb hK hP (va_D_of hD rfl) hS 3 rfl (b + 16) rfl (by omega) (Nat.le_of_ble_eq_true rfl) dX5_append_103 (fun H locs hP _ hS => ?_)
                                                                                                                              have hP : va_P D clA ((o, .inr (0, [.int 0, .ref a1, .int (nI (b + 16)), .int tl, .int ps, .int er, .int ea, .int eo, .ref a8, .ref a9, .ref a10, .int ud, .int ns, .int ne, .int se, .ref a15])) :: (a8, .inl (k 0, 1798, .inl d)) :: (a9, .inl (k 0, 1798, .inl dr)) :: (a1, .inl (k 0, 900, .inl (upd (upd (upd (upd (upd (upd (upd (upd (upd (upd (upd (upd (upd (upd (upd (upd (upd fb b ((w0 >>> ((24 : Int32) &&& 31)) &&& 255)) (b + 1) ((w0 >>> ((16 : Int32) &&& 31)) &&& 255)) (b + 2) ((w0 >>> ((8 : Int32) &&& 31)) &&& 255)) (b + 3) ((w0 >>> ((0 : Int32) &&& 31)) &&& 255)) (b + 4) ((w1 >>> ((24 : Int32) &&& 31)) &&& 255)) (b + 5) ((w1 >>> ((16 : Int32) &&& 31)) &&& 255)) (b + 6) ((w1 >>> ((8 : Int32) &&& 31)) &&& 255)) (b + 7) ((w1 >>> ((0 : Int32) &&& 31)) &&& 255)) (b + 8) ((w2 >>> ((24 : Int32) &&& 31)) &&& 255)) (b + 9) ((w2 >>> ((16 : Int32) &&& 31)) &&& 255)) (b + 10) ((w2 >>> ((8 : Int32) &&& 31)) &&& 255)) (b + 11) ((w2 >>> ((0 : Int32) &&& 31)) &&& 255)) (b + 12) ((w3 >>> ((24 : Int32) &&& 31)) &&& 255)) (b + 13) ((w3 >>> ((16 : Int32) &&& 31)) &&& 255)) (b + 14) ((w3 >>> ((8 : Int32) &&& 31)) &&& 255)) (b + 15) ((w3 >>> ((0 : Int32) &&& 31)) &&& 255)) (b + 16) ((w4 >>> ((24 : Int32) &&& 31)) &&& 255)))) :: wr) H := hP
                                                                                                                              refine lv_aload_n hx hb dX5_append_104 rfl (lv_at hl 2 rfl) ?_
                                                                                                                              refine lv_dup hx hb dX5_append_105 rfl ?_
                                                                                                                              refine va_get hx hb hts in_X5 hown hK hP 0 rfl rfl 2 (by decide) (hts _ q1664) (fun _ h => h) rfl dX5_append_106 ?_
                                                                                                                              refine lv_iconst (v := 1) hx hb dX5_append_109 rfl ?_
                                                                                                                              refine lv_iadd hx hb dX5_append_110 ?_
                                                                                                                              refine w_topi (y := nI ((b + 16) + 1)) (nI_add (b + 16) 1) ?_
                                                                                                                              refine w_topi (y := nI (b + 17)) rfl ?_
                                                                                                                              refine va_put hx hb hts in_X5 tyX5 tyX5_ok nmX5 hown hK hP (va_D_of hD rfl) hS 0 rfl rfl 2 (by decide) (hts _ q1664) (fun _ h => h) rfl rfl rfl rfl (Nat.le_of_ble_eq_true rfl) dX5_append_111 (fun H locs hP _ hS => ?_)
                                                                                                                              have hP : va_P D clA ((o, .inr (0, [.int 0, .ref a1, .int (nI (b + 17)), .int tl, .int ps, .int er, .int ea, .int eo, .ref a8, .ref a9, .ref a10, .int ud, .int ns, .int ne, .int se, .ref a15])) :: (a8, .inl (k 0, 1798, .inl d)) :: (a9, .inl (k 0, 1798, .inl dr)) :: (a1, .inl (k 0, 900, .inl (upd (upd (upd (upd (upd (upd (upd (upd (upd (upd (upd (upd (upd (upd (upd (upd (upd fb b ((w0 >>> ((24 : Int32) &&& 31)) &&& 255)) (b + 1) ((w0 >>> ((16 : Int32) &&& 31)) &&& 255)) (b + 2) ((w0 >>> ((8 : Int32) &&& 31)) &&& 255)) (b + 3) ((w0 >>> ((0 : Int32) &&& 31)) &&& 255)) (b + 4) ((w1 >>> ((24 : Int32) &&& 31)) &&& 255)) (b + 5) ((w1 >>> ((16 : Int32) &&& 31)) &&& 255)) (b + 6) ((w1 >>> ((8 : Int32) &&& 31)) &&& 255)) (b + 7) ((w1 >>> ((0 : Int32) &&& 31)) &&& 255)) (b + 8) ((w2 >>> ((24 : Int32) &&& 31)) &&& 255)) (b + 9) ((w2 >>> ((16 : Int32) &&& 31)) &&& 255)) (b + 10) ((w2 >>> ((8 : Int32) &&& 31)) &&& 255)) (b + 11) ((w2 >>> ((0 : Int32) &&& 31)) &&& 255)) (b + 12) ((w3 >>> ((24 : Int32) &&& 31)) &&& 255)) (b + 13) ((w3 >>> ((16 : Int32) &&& 31)) &&& 255)) (b + 14) ((w3 >>> ((8 : Int32) &&& 31)) &&& 255)) (b + 15) ((w3 >>> ((0 : Int32) &&& 31)) &&& 255)) (b + 16) ((w4 >>> ((24 : Int32) &&& 31)) &&& 255)))) :: wr) H := hP
                                                                                                                              refine lv_iinc (v := 17) (lv' := [(6, .int 17), (7, .int w4), (0, .ref o), (1, .int w0), (2, .int w1), (3, .int w2), (4, .int w3), (5, .int w4)]) hx hb dX5_append_114 hl (k := 1) rfl (by decide) (by decide) rfl (fun ls hl => ?_)
                                                                                                                              refine lv_goto (tgt := 23) hx hb dX5_append_117 (by decide) ?_
                                                                                                                              refine lv_iload hx hb dX5_append_23 (lv_at hl 0 rfl) ?_
                                                                                                                              refine lv_bipush (v := 20) hx hb dX5_append_25 rfl ?_
                                                                                                                              refine lv_icmp_ge (tgt := 120) hx hb dX5_append_27 (by decide) (fun c_27 => ?_) (fun c_27 => ?_)
                                                                                                                              · exact absurd c_27 (by decide)
                                                                                                                              · refine lv_iload hx hb dX5_append_30 (lv_at hl 0 rfl) ?_
                                                                                                                                refine lv_iconst (v := 4) hx hb dX5_append_32 rfl ?_
                                                                                                                                refine lv_icmp_ge (tgt := 40) hx hb dX5_append_33 (by decide) (fun c_33 => ?_) (fun c_33 => ?_)
                                                                                                                                · refine lv_iload hx hb dX5_append_40 (lv_at hl 0 rfl) ?_
                                                                                                                                  refine lv_bipush (v := 8) hx hb dX5_append_42 rfl ?_
                                                                                                                                  refine lv_icmp_ge (tgt := 51) hx hb dX5_append_44 (by decide) (fun c_44 => ?_) (fun c_44 => ?_)
                                                                                                                                  · refine lv_iload hx hb dX5_append_51 (lv_at hl 0 rfl) ?_
                                                                                                                                    refine lv_bipush (v := 12) hx hb dX5_append_53 rfl ?_
                                                                                                                                    refine lv_icmp_ge (tgt := 62) hx hb dX5_append_55 (by decide) (fun c_55 => ?_) (fun c_55 => ?_)
                                                                                                                                    · refine lv_iload hx hb dX5_append_62 (lv_at hl 0 rfl) ?_
                                                                                                                                      refine lv_bipush (v := 16) hx hb dX5_append_64 rfl ?_
                                                                                                                                      refine lv_icmp_ge (tgt := 74) hx hb dX5_append_66 (by decide) (fun c_66 => ?_) (fun c_66 => ?_)
                                                                                                                                      · refine lv_iload hx hb dX5_append_74 (lv_at hl 7 rfl) ?_
                                                                                                                                        refine lv_istore (lv' := [(7, .int w4), (6, .int 17), (0, .ref o), (1, .int w0), (2, .int w1), (3, .int w2), (4, .int w3), (5, .int w4)]) hx hb dX5_append_76 hl (by decide) rfl (fun ls hl => ?_)
                                                                                                                                        refine lv_aload_n hx hb dX5_append_78 rfl (lv_at hl 2 rfl) ?_
                                                                                                                                        refine va_get hx hb hts in_X5 hown hK hP 0 rfl rfl 1 (by decide) (hts _ q1663) (fun _ h => h) rfl dX5_append_79 ?_
                                                                                                                                        refine lv_aload_n hx hb dX5_append_82 rfl (lv_at hl 2 rfl) ?_
                                                                                                                                        refine va_get hx hb hts in_X5 hown hK hP 0 rfl rfl 2 (by decide) (hts _ q1664) (fun _ h => h) rfl dX5_append_83 ?_
                                                                                                                                        refine lv_iload hx hb dX5_append_86 (lv_at hl 0 rfl) ?_
                                                                                                                                        refine lv_bipush (v := 24) hx hb dX5_append_88 rfl ?_
                                                                                                                                        refine lv_bipush (v := 8) hx hb dX5_append_90 rfl ?_
                                                                                                                                        refine lv_iload hx hb dX5_append_92 (lv_at hl 1 rfl) ?_
                                                                                                                                        refine lv_iconst (v := 4) hx hb dX5_append_94 rfl ?_
                                                                                                                                        refine lv_irem hx hb dX5_append_95 (by decide) ?_
                                                                                                                                        refine w_topi (y := 1) (by decide) ?_
                                                                                                                                        refine lv_imul hx hb dX5_append_96 ?_
                                                                                                                                        refine w_topi (y := 8) (by decide) ?_
                                                                                                                                        refine lv_isub hx hb dX5_append_97 ?_
                                                                                                                                        refine w_topi (y := 16) (by decide) ?_
                                                                                                                                        refine lv_ishr hx hb dX5_append_98 ?_
                                                                                                                                        refine lv_sipush (v := 255) hx hb dX5_append_99 rfl ?_
                                                                                                                                        refine lv_iand hx hb dX5_append_102 ?_
                                                                                                                                        refine w_iast hx hb hK hP (va_D_of hD rfl) hS 3 rfl (b + 17) rfl (by omega) (Nat.le_of_ble_eq_true rfl) dX5_append_103 (fun H locs hP _ hS => ?_)
                                                                                                                                        have hP : va_P D clA ((o, .inr (0, [.int 0, .ref a1, .int (nI (b + 17)), .int tl, .int ps, .int er, .int ea, .int eo, .ref a8, .ref a9, .ref a10, .int ud, .int ns, .int ne, .int se, .ref a15])) :: (a8, .inl (k 0, 1798, .inl d)) :: (a9, .inl (k 0, 1798, .inl dr)) :: (a1, .inl (k 0, 900, .inl (upd (upd (upd (upd (upd (upd (upd (upd (upd (upd (upd (upd (upd (upd (upd (upd (upd (upd fb b ((w0 >>> ((24 : Int32) &&& 31)) &&& 255)) (b + 1) ((w0 >>> ((16 : Int32) &&& 31)) &&& 255)) (b + 2) ((w0 >>> ((8 : Int32) &&& 31)) &&& 255)) (b + 3) ((w0 >>> ((0 : Int32) &&& 31)) &&& 255)) (b + 4) ((w1 >>> ((24 : Int32) &&& 31)) &&& 255)) (b + 5) ((w1 >>> ((16 : Int32) &&& 31)) &&& 255)) (b + 6) ((w1 >>> ((8 : Int32) &&& 31)) &&& 255)) (b + 7) ((w1 >>> ((0 : Int32) &&& 31)) &&& 255)) (b + 8) ((w2 >>> ((24 : Int32) &&& 31)) &&& 255)) (b + 9) ((w2 >>> ((16 : Int32) &&& 31)) &&& 255)) (b + 10) ((w2 >>> ((8 : Int32) &&& 31)) &&& 255)) (b + 11) ((w2 >>> ((0 : Int32) &&& 31)) &&& 255)) (b + 12) ((w3 >>> ((24 : Int32) &&& 31)) &&& 255)) (b + 13) ((w3 >>> ((16 : Int32) &&& 31)) &&& 255)) (b + 14) ((w3 >>> ((8 : Int32) &&& 31)) &&& 255)) (b + 15) ((w3 >>> ((0 : Int32) &&& 31)) &&& 255)) (b + 16) ((w4 >>> ((24 : Int32) &&& 31)) &&& 255)) (b + 17) ((w4 >>> ((16 : Int32) &&& 31)) &&& 255)))) :: wr) H := hP
                                                                                                                                        refine lv_aload_n hx hb dX5_append_104 rfl (lv_at hl 2 rfl) ?_
                                                                                                                                        refine lv_dup hx hb dX5_append_105 rfl ?_
                                                                                                                                        refine va_get hx hb hts in_X5 hown hK hP 0 rfl rfl 2 (by decide) (hts _ q1664) (fun _ h => h) rfl dX5_append_106 ?_
                                                                                                                                        refine lv_iconst (v := 1) hx hb dX5_append_109 rfl ?_
                                                                                                                                        refine lv_iadd hx hb dX5_append_110 ?_
                                                                                                                                        refine w_topi (y := nI ((b + 17) + 1)) (nI_add (b + 17) 1) ?_
                                                                                                                                        refine w_topi (y := nI (b + 18)) rfl ?_
                                                                                                                                        refine va_put hx hb hts in_X5 tyX5 tyX5_ok nmX5 hown hK hP (va_D_of hD rfl) hS 0 rfl rfl 2 (by decide) (hts _ q1664) (fun _ h => h) rfl rfl rfl rfl (Nat.le_of_ble_eq_true rfl) dX5_append_111 (fun H locs hP _ hS => ?_)
                                                                                                                                        have hP : va_P D clA ((o, .inr (0, [.int 0, .ref a1, .int (nI (b + 18)), .int tl, .int ps, .int er, .int ea, .int eo, .ref a8, .ref a9, .ref a10, .int ud, .int ns, .int ne, .int se, .ref a15])) :: (a8, .inl (k 0, 1798, .inl d)) :: (a9, .inl (k 0, 1798, .inl dr)) :: (a1, .inl (k 0, 900, .inl (upd (upd (upd (upd (upd (upd (upd (upd (upd (upd (upd (upd (upd (upd (upd (upd (upd (upd fb b ((w0 >>> ((24 : Int32) &&& 31)) &&& 255)) (b + 1) ((w0 >>> ((16 : Int32) &&& 31)) &&& 255)) (b + 2) ((w0 >>> ((8 : Int32) &&& 31)) &&& 255)) (b + 3) ((w0 >>> ((0 : Int32) &&& 31)) &&& 255)) (b + 4) ((w1 >>> ((24 : Int32) &&& 31)) &&& 255)) (b + 5) ((w1 >>> ((16 : Int32) &&& 31)) &&& 255)) (b + 6) ((w1 >>> ((8 : Int32) &&& 31)) &&& 255)) (b + 7) ((w1 >>> ((0 : Int32) &&& 31)) &&& 255)) (b + 8) ((w2 >>> ((24 : Int32) &&& 31)) &&& 255)) (b + 9) ((w2 >>> ((16 : Int32) &&& 31)) &&& 255)) (b + 10) ((w2 >>> ((8 : Int32) &&& 31)) &&& 255)) (b + 11) ((w2 >>> ((0 : Int32) &&& 31)) &&& 255)) (b + 12) ((w3 >>> ((24 : Int32) &&& 31)) &&& 255)) (b + 13) ((w3 >>> ((16 : Int32) &&& 31)) &&& 255)) (b + 14) ((w3 >>> ((8 : Int32) &&& 31)) &&& 255)) (b + 15) ((w3 >>> ((0 : Int32) &&& 31)) &&& 255)) (b + 16) ((w4 >>> ((24 : Int32) &&& 31)) &&& 255)) (b + 17) ((w4 >>> ((16 : Int32) &&& 31)) &&& 255)))) :: wr) H := hP
                                                                                                                                        refine lv_iinc (v := 18) (lv' := [(6, .int 18), (7, .int w4), (0, .ref o), (1, .int w0), (2, .int w1), (3, .int w2), (4, .int w3), (5, .int w4)]) hx hb dX5_append_114 hl (k := 1) rfl (by decide) (by decide) rfl (fun ls hl => ?_)
                                                                                                                                        refine lv_goto (tgt := 23) hx hb dX5_append_117 (by decide) ?_
                                                                                                                                        refine lv_iload hx hb dX5_append_23 (lv_at hl 0 rfl) ?_
                                                                                                                                        refine lv_bipush (v := 20) hx hb dX5_append_25 rfl ?_
                                                                                                                                        refine lv_icmp_ge (tgt := 120) hx hb dX5_append_27 (by decide) (fun c_27 => ?_) (fun c_27 => ?_)
                                                                                                                                        · exact absurd c_27 (by decide)
                                                                                                                                        · refine lv_iload hx hb dX5_append_30 (lv_at hl 0 rfl) ?_
                                                                                                                                          refine lv_iconst (v := 4) hx hb dX5_append_32 rfl ?_
                                                                                                                                          refine lv_icmp_ge (tgt := 40) hx hb dX5_append_33 (by decide) (fun c_33 => ?_) (fun c_33 => ?_)
                                                                                                                                          · refine lv_iload hx hb dX5_append_40 (lv_at hl 0 rfl) ?_
                                                                                                                                            refine lv_bipush (v := 8) hx hb dX5_append_42 rfl ?_
                                                                                                                                            refine lv_icmp_ge (tgt := 51) hx hb dX5_append_44 (by decide) (fun c_44 => ?_) (fun c_44 => ?_)
                                                                                                                                            · refine lv_iload hx hb dX5_append_51 (lv_at hl 0 rfl) ?_
                                                                                                                                              refine lv_bipush (v := 12) hx hb dX5_append_53 rfl ?_
                                                                                                                                              refine lv_icmp_ge (tgt := 62) hx hb dX5_append_55 (by decide) (fun c_55 => ?_) (fun c_55 => ?_)
                                                                                                                                              · refine lv_iload hx hb dX5_append_62 (lv_at hl 0 rfl) ?_
                                                                                                                                                refine lv_bipush (v := 16) hx hb dX5_append_64 rfl ?_
                                                                                                                                                refine lv_icmp_ge (tgt := 74) hx hb dX5_append_66 (by decide) (fun c_66 => ?_) (fun c_66 => ?_)
                                                                                                                                                · refine lv_iload hx hb dX5_append_74 (lv_at hl 7 rfl) ?_
                                                                                                                                                  refine lv_istore (lv' := [(7, .int w4), (6, .int 18), (0, .ref o), (1, .int w0), (2, .int w1), (3, .int w2), (4, .int w3), (5, .int w4)]) hx hb dX5_append_76 hl (by decide) rfl (fun ls hl => ?_)
                                                                                                                                                  refine lv_aload_n hx hb dX5_append_78 rfl (lv_at hl 2 rfl) ?_
                                                                                                                                                  refine va_get hx hb hts in_X5 hown hK hP 0 rfl rfl 1 (by decide) (hts _ q1663) (fun _ h => h) rfl dX5_append_79 ?_
                                                                                                                                                  refine lv_aload_n hx hb dX5_append_82 rfl (lv_at hl 2 rfl) ?_
                                                                                                                                                  refine va_get hx hb hts in_X5 hown hK hP 0 rfl rfl 2 (by decide) (hts _ q1664) (fun _ h => h) rfl dX5_append_83 ?_
                                                                                                                                                  refine lv_iload hx hb dX5_append_86 (lv_at hl 0 rfl) ?_
                                                                                                                                                  refine lv_bipush (v := 24) hx hb dX5_append_88 rfl ?_
                                                                                                                                                  refine lv_bipush (v := 8) hx hb dX5_append_90 rfl ?_
                                                                                                                                                  refine lv_iload hx hb dX5_append_92 (lv_at hl 1 rfl) ?_
                                                                                                                                                  refine lv_iconst (v := 4) hx hb dX5_append_94 rfl ?_
                                                                                                                                                  refine lv_irem hx hb dX5_append_95 (by decide) ?_
                                                                                                                                                  refine w_topi (y := 2) (by decide) ?_
                                                                                                                                                  refine lv_imul hx hb dX5_append_96 ?_
                                                                                                                                                  refine w_topi (y := 16) (by decide) ?_
                                                                                                                                                  refine lv_isub hx hb dX5_append_97 ?_
                                                                                                                                                  refine w_topi (y := 8) (by decide) ?_
                                                                                                                                                  refine lv_ishr hx hb dX5_append_98 ?_
                                                                                                                                                  refine lv_sipush (v := 255) hx hb dX5_append_99 rfl ?_
                                                                                                                                                  refine lv_iand hx hb dX5_append_102 ?_
                                                                                                                                                  refine w_iast hx hb hK hP (va_D_of hD rfl) hS 3 rfl (b + 18) rfl (by omega) (Nat.le_of_ble_eq_true rfl) dX5_append_103 (fun H locs hP _ hS => ?_)
                                                                                                                                                  have hP : va_P D clA ((o, .inr (0, [.int 0, .ref a1, .int (nI (b + 18)), .int tl, .int ps, .int er, .int ea, .int eo, .ref a8, .ref a9, .ref a10, .int ud, .int ns, .int ne, .int se, .ref a15])) :: (a8, .inl (k 0, 1798, .inl d)) :: (a9, .inl (k 0, 1798, .inl dr)) :: (a1, .inl (k 0, 900, .inl (upd (upd (upd (upd (upd (upd (upd (upd (upd (upd (upd (upd (upd (upd (upd (upd (upd (upd (upd fb b ((w0 >>> ((24 : Int32) &&& 31)) &&& 255)) (b + 1) ((w0 >>> ((16 : Int32) &&& 31)) &&& 255)) (b + 2) ((w0 >>> ((8 : Int32) &&& 31)) &&& 255)) (b + 3) ((w0 >>> ((0 : Int32) &&& 31)) &&& 255)) (b + 4) ((w1 >>> ((24 : Int32) &&& 31)) &&& 255)) (b + 5) ((w1 >>> ((16 : Int32) &&& 31)) &&& 255)) (b + 6) ((w1 >>> ((8 : Int32) &&& 31)) &&& 255)) (b + 7) ((w1 >>> ((0 : Int32) &&& 31)) &&& 255)) (b + 8) ((w2 >>> ((24 : Int32) &&& 31)) &&& 255)) (b + 9) ((w2 >>> ((16 : Int32) &&& 31)) &&& 255)) (b + 10) ((w2 >>> ((8 : Int32) &&& 31)) &&& 255)) (b + 11) ((w2 >>> ((0 : Int32) &&& 31)) &&& 255)) (b + 12) ((w3 >>> ((24 : Int32) &&& 31)) &&& 255)) (b + 13) ((w3 >>> ((16 : Int32) &&& 31)) &&& 255)) (b + 14) ((w3 >>> ((8 : Int32) &&& 31)) &&& 255)) (b + 15) ((w3 >>> ((0 : Int32) &&& 31)) &&& 255)) (b + 16) ((w4 >>> ((24 : Int32) &&& 31)) &&& 255)) (b + 17) ((w4 >>> ((16 : Int32) &&& 31)) &&& 255)) (b + 18) ((w4 >>> ((8 : Int32) &&& 31)) &&& 255)))) :: wr) H := hP
                                                                                                                                                  refine lv_aload_n hx hb dX5_append_104 rfl (lv_at hl 2 rfl) ?_
                                                                                                                                                  refine lv_dup hx hb dX5_append_105 rfl ?_
                                                                                                                                                  refine va_get hx hb hts in_X5 hown hK hP 0 rfl rfl 2 (by decide) (hts _ q1664) (fun _ h => h) rfl dX5_append_106 ?_
                                                                                                                                                  refine lv_iconst (v := 1) hx hb dX5_append_109 rfl ?_
                                                                                                                                                  refine lv_iadd hx hb dX5_append_110 ?_
                                                                                                                                                  refine w_topi (y := nI ((b + 18) + 1)) (nI_add (b + 18) 1) ?_
                                                                                                                                                  refine w_topi (y := nI (b + 19)) rfl ?_
                                                                                                                                                  refine va_put hx hb hts in_X5 tyX5 tyX5_ok nmX5 hown hK hP (va_D_of hD rfl) hS 0 rfl rfl 2 (by decide) (hts _ q1664) (fun _ h => h) rfl rfl rfl rfl (Nat.le_of_ble_eq_true rfl) dX5_append_111 (fun H locs hP _ hS => ?_)
                                                                                                                                                  have hP : va_P D clA ((o, .inr (0, [.int 0, .ref a1, .int (nI (b + 19)), .int tl, .int ps, .int er, .int ea, .int eo, .ref a8, .ref a9, .ref a10, .int ud, .int ns, .int ne, .int se, .ref a15])) :: (a8, .inl (k 0, 1798, .inl d)) :: (a9, .inl (k 0, 1798, .inl dr)) :: (a1, .inl (k 0, 900, .inl (upd (upd (upd (upd (upd (upd (upd (upd (upd (upd (upd (upd (upd (upd (upd (upd (upd (upd (upd fb b ((w0 >>> ((24 : Int32) &&& 31)) &&& 255)) (b + 1) ((w0 >>> ((16 : Int32) &&& 31)) &&& 255)) (b + 2) ((w0 >>> ((8 : Int32) &&& 31)) &&& 255)) (b + 3) ((w0 >>> ((0 : Int32) &&& 31)) &&& 255)) (b + 4) ((w1 >>> ((24 : Int32) &&& 31)) &&& 255)) (b + 5) ((w1 >>> ((16 : Int32) &&& 31)) &&& 255)) (b + 6) ((w1 >>> ((8 : Int32) &&& 31)) &&& 255)) (b + 7) ((w1 >>> ((0 : Int32) &&& 31)) &&& 255)) (b + 8) ((w2 >>> ((24 : Int32) &&& 31)) &&& 255)) (b + 9) ((w2 >>> ((16 : Int32) &&& 31)) &&& 255)) (b + 10) ((w2 >>> ((8 : Int32) &&& 31)) &&& 255)) (b + 11) ((w2 >>> ((0 : Int32) &&& 31)) &&& 255)) (b + 12) ((w3 >>> ((24 : Int32) &&& 31)) &&& 255)) (b + 13) ((w3 >>> ((16 : Int32) &&& 31)) &&& 255)) (b + 14) ((w3 >>> ((8 : Int32) &&& 31)) &&& 255)) (b + 15) ((w3 >>> ((0 : Int32) &&& 31)) &&& 255)) (b + 16) ((w4 >>> ((24 : Int32) &&& 31)) &&& 255)) (b + 17) ((w4 >>> ((16 : Int32) &&& 31)) &&& 255)) (b + 18) ((w4 >>> ((8 : Int32) &&& 31)) &&& 255)))) :: wr) H := hP
                                                                                                                                                  refine lv_iinc (v := 19) (lv' := [(6, .int 19), (7, .int w4), (0, .ref o), (1, .int w0), (2, .int w1), (3, .int w2), (4, .int w3), (5, .int w4)]) hx hb dX5_append_114 hl (k := 1) rfl (by decide) (by decide) rfl (fun ls hl => ?_)
                                                                                                                                                  refine lv_goto (tgt := 23) hx hb dX5_append_117 (by decide) ?_
                                                                                                                                                  refine lv_iload hx hb dX5_append_23 (lv_at hl 0 rfl) ?_
                                                                                                                                                  refine lv_bipush (v := 20) hx hb dX5_append_25 rfl ?_
                                                                                                                                                  refine lv_icmp_ge (tgt := 120) hx hb dX5_append_27 (by decide) (fun c_27 => ?_) (fun c_27 => ?_)
                                                                                                                                                  · exact absurd c_27 (by decide)
                                                                                                                                                  · refine lv_iload hx hb dX5_append_30 (lv_at hl 0 rfl) ?_
                                                                                                                                                    refine lv_iconst (v := 4) hx hb dX5_append_32 rfl ?_
                                                                                                                                                    refine lv_icmp_ge (tgt := 40) hx hb dX5_append_33 (by decide) (fun c_33 => ?_) (fun c_33 => ?_)
                                                                                                                                                    · refine lv_iload hx hb dX5_append_40 (lv_at hl 0 rfl) ?_
                                                                                                                                                      refine lv_bipush (v := 8) hx hb dX5_append_42 rfl ?_
                                                                                                                                                      refine lv_icmp_ge (tgt := 51) hx hb dX5_append_44 (by decide) (fun c_44 => ?_) (fun c_44 => ?_)
                                                                                                                                                      · refine lv_iload hx hb dX5_append_51 (lv_at hl 0 rfl) ?_
                                                                                                                                                        refine lv_bipush (v := 12) hx hb dX5_append_53 rfl ?_
                                                                                                                                                        refine lv_icmp_ge (tgt := 62) hx hb dX5_append_55 (by decide) (fun c_55 => ?_) (fun c_55 => ?_)
                                                                                                                                                        · refine lv_iload hx hb dX5_append_62 (lv_at hl 0 rfl) ?_
                                                                                                                                                          refine lv_bipush (v := 16) hx hb dX5_append_64 rfl ?_
                                                                                                                                                          refine lv_icmp_ge (tgt := 74) hx hb dX5_append_66 (by decide) (fun c_66 => ?_) (fun c_66 => ?_)
                                                                                                                                                          · refine lv_iload hx hb dX5_append_74 (lv_at hl 7 rfl) ?_
                                                                                                                                                            refine lv_istore (lv' := [(7, .int w4), (6, .int 19), (0, .ref o), (1, .int w0), (2, .int w1), (3, .int w2), (4, .int w3), (5, .int w4)]) hx hb dX5_append_76 hl (by decide) rfl (fun ls hl => ?_)
                                                                                                                                                            refine lv_aload_n hx hb dX5_append_78 rfl (lv_at hl 2 rfl) ?_
                                                                                                                                                            refine va_get hx hb hts in_X5 hown hK hP 0 rfl rfl 1 (by decide) (hts _ q1663) (fun _ h => h) rfl dX5_append_79 ?_
                                                                                                                                                            refine lv_aload_n hx hb dX5_append_82 rfl (lv_at hl 2 rfl) ?_
                                                                                                                                                            refine va_get hx hb hts in_X5 hown hK hP 0 rfl rfl 2 (by decide) (hts _ q1664) (fun _ h => h) rfl dX5_append_83 ?_
                                                                                                                                                            refine lv_iload hx hb dX5_append_86 (lv_at hl 0 rfl) ?_
                                                                                                                                                            refine lv_bipush (v := 24) hx hb dX5_append_88 rfl ?_
                                                                                                                                                            refine lv_bipush (v := 8) hx hb dX5_append_90 rfl ?_
                                                                                                                                                            refine lv_iload hx hb dX5_append_92 (lv_at hl 1 rfl) ?_
                                                                                                                                                            refine lv_iconst (v := 4) hx hb dX5_append_94 rfl ?_
                                                                                                                                                            refine lv_irem hx hb dX5_append_95 (by decide) ?_
                                                                                                                                                            refine w_topi (y := 3) (by decide) ?_
                                                                                                                                                            refine lv_imul hx hb dX5_append_96 ?_
                                                                                                                                                            refine w_topi (y := 24) (by decide) ?_
                                                                                                                                                            refine lv_isub hx hb dX5_append_97 ?_
                                                                                                                                                            refine w_topi (y := 0) (by decide) ?_
                                                                                                                                                            refine lv_ishr hx hb dX5_append_98 ?_
                                                                                                                                                            refine lv_sipush (v := 255) hx hb dX5_append_99 rfl ?_
                                                                                                                                                            refine lv_iand hx hb dX5_append_102 ?_
                                                                                                                                                            refine w_iast hx hb hK hP (va_D_of hD rfl) hS 3 rfl (b + 19) rfl (by omega) (Nat.le_of_ble_eq_true rfl) dX5_append_103 (fun H locs hP _ hS => ?_)
                                                                                                                                                            have hP : va_P D clA ((o, .inr (0, [.int 0, .ref a1, .int (nI (b + 19)), .int tl, .int ps, .int er, .int ea, .int eo, .ref a8, .ref a9, .ref a10, .int ud, .int ns, .int ne, .int se, .ref a15])) :: (a8, .inl (k 0, 1798, .inl d)) :: (a9, .inl (k 0, 1798, .inl dr)) :: (a1, .inl (k 0, 900, .inl (upd (upd (upd (upd (upd (upd (upd (upd (upd (upd (upd (upd (upd (upd (upd (upd (upd (upd (upd (upd fb b ((w0 >>> ((24 : Int32) &&& 31)) &&& 255)) (b + 1) ((w0 >>> ((16 : Int32) &&& 31)) &&& 255)) (b + 2) ((w0 >>> ((8 : Int32) &&& 31)) &&& 255)) (b + 3) ((w0 >>> ((0 : Int32) &&& 31)) &&& 255)) (b + 4) ((w1 >>> ((24 : Int32) &&& 31)) &&& 255)) (b + 5) ((w1 >>> ((16 : Int32) &&& 31)) &&& 255)) (b + 6) ((w1 >>> ((8 : Int32) &&& 31)) &&& 255)) (b + 7) ((w1 >>> ((0 : Int32) &&& 31)) &&& 255)) (b + 8) ((w2 >>> ((24 : Int32) &&& 31)) &&& 255)) (b + 9) ((w2 >>> ((16 : Int32) &&& 31)) &&& 255)) (b + 10) ((w2 >>> ((8 : Int32) &&& 31)) &&& 255)) (b + 11) ((w2 >>> ((0 : Int32) &&& 31)) &&& 255)) (b + 12) ((w3 >>> ((24 : Int32) &&& 31)) &&& 255)) (b + 13) ((w3 >>> ((16 : Int32) &&& 31)) &&& 255)) (b + 14) ((w3 >>> ((8 : Int32) &&& 31)) &&& 255)) (b + 15) ((w3 >>> ((0 : Int32) &&& 31)) &&& 255)) (b + 16) ((w4 >>> ((24 : Int32) &&& 31)) &&& 255)) (b + 17) ((w4 >>> ((16 : Int32) &&& 31)) &&& 255)) (b + 18) ((w4 >>> ((8 : Int32) &&& 31)) &&& 255)) (b + 19) ((w4 >>> ((0 : Int32) &&& 31)) &&& 255)))) :: wr) H := hP
                                                                                                                                                            refine lv_aload_n hx hb dX5_append_104 rfl (lv_at hl 2 rfl) ?_
                                                                                                                                                            refine lv_dup hx hb dX5_append_105 rfl ?_
                                                                                                                                                            refine va_get hx hb hts in_X5 hown hK hP 0 rfl rfl 2 (by decide) (hts _ q1664) (fun _ h => h) rfl dX5_append_106 ?_
                                                                                                                                                            refine lv_iconst (v := 1) hx hb dX5_append_109 rfl ?_
                                                                                                                                                            refine lv_iadd hx hb dX5_append_110 ?_
                                                                                                                                                            refine w_topi (y := nI ((b + 19) + 1)) (nI_add (b + 19) 1) ?_
                                                                                                                                                            refine w_topi (y := nI (b + 20)) rfl ?_
                                                                                                                                                            refine va_put hx hb hts in_X5 tyX5 tyX5_ok nmX5 hown hK hP (va_D_of hD rfl) hS 0 rfl rfl 2 (by decide) (hts _ q1664) (fun _ h => h) rfl rfl rfl rfl (Nat.le_of_ble_eq_true rfl) dX5_append_111 (fun H locs hP _ hS => ?_)
                                                                                                                                                            have hP : va_P D clA ((o, .inr (0, [.int 0, .ref a1, .int (nI (b + 20)), .int tl, .int ps, .int er, .int ea, .int eo, .ref a8, .ref a9, .ref a10, .int ud, .int ns, .int ne, .int se, .ref a15])) :: (a8, .inl (k 0, 1798, .inl d)) :: (a9, .inl (k 0, 1798, .inl dr)) :: (a1, .inl (k 0, 900, .inl (upd (upd (upd (upd (upd (upd (upd (upd (upd (upd (upd (upd (upd (upd (upd (upd (upd (upd (upd (upd fb b ((w0 >>> ((24 : Int32) &&& 31)) &&& 255)) (b + 1) ((w0 >>> ((16 : Int32) &&& 31)) &&& 255)) (b + 2) ((w0 >>> ((8 : Int32) &&& 31)) &&& 255)) (b + 3) ((w0 >>> ((0 : Int32) &&& 31)) &&& 255)) (b + 4) ((w1 >>> ((24 : Int32) &&& 31)) &&& 255)) (b + 5) ((w1 >>> ((16 : Int32) &&& 31)) &&& 255)) (b + 6) ((w1 >>> ((8 : Int32) &&& 31)) &&& 255)) (b + 7) ((w1 >>> ((0 : Int32) &&& 31)) &&& 255)) (b + 8) ((w2 >>> ((24 : Int32) &&& 31)) &&& 255)) (b + 9) ((w2 >>> ((16 : Int32) &&& 31)) &&& 255)) (b + 10) ((w2 >>> ((8 : Int32) &&& 31)) &&& 255)) (b + 11) ((w2 >>> ((0 : Int32) &&& 31)) &&& 255)) (b + 12) ((w3 >>> ((24 : Int32) &&& 31)) &&& 255)) (b + 13) ((w3 >>> ((16 : Int32) &&& 31)) &&& 255)) (b + 14) ((w3 >>> ((8 : Int32) &&& 31)) &&& 255)) (b + 15) ((w3 >>> ((0 : Int32) &&& 31)) &&& 255)) (b + 16) ((w4 >>> ((24 : Int32) &&& 31)) &&& 255)) (b + 17) ((w4 >>> ((16 : Int32) &&& 31)) &&& 255)) (b + 18) ((w4 >>> ((8 : Int32) &&& 31)) &&& 255)) (b + 19) ((w4 >>> ((0 : Int32) &&& 31)) &&& 255)))) :: wr) H := hP
                                                                                                                                                            refine lv_iinc (v := 20) (lv' := [(6, .int 20), (7, .int w4), (0, .ref o), (1, .int w0), (2, .int w1), (3, .int w2), (4, .int w3), (5, .int w4)]) hx hb dX5_append_114 hl (k := 1) rfl (by decide) (by decide) rfl (fun ls hl => ?_)
                                                                                                                                                            refine lv_goto (tgt := 23) hx hb dX5_append_117 (by decide) ?_
                                                                                                                                                            refine lv_iload hx hb dX5_append_23 (lv_at hl 0 rfl) ?_
                                                                                                                                                            refine lv_bipush (v := 20) hx hb dX5_append_25 rfl ?_
                                                                                                                                                            refine lv_icmp_ge (tgt := 120) hx hb dX5_append_27 (by decide) (fun c_27 => ?_) (fun c_27 => ?_)
                                                                                                                                                            · refine lv_aload_n hx hb dX5_append_120 rfl (lv_at hl 2 rfl) ?_
                                                                                                                                                              refine va_get hx hb hts in_X5 hown hK hP 0 rfl rfl 2 (by decide) (hts _ q1664) (fun _ h => h) rfl dX5_append_121 ?_
                                                                                                                                                              exact w_iret C (if_pos g_15).symm (by rw [if_pos g_15, if_pos g_15]; exact hP) hS dX5_append_124
                                                                                                                                                            · exact absurd c_27 (by decide)
                                                                                                                                                          · exact absurd c_66 (by decide)
                                                                                                                                                        · exact absurd c_55 (by decide)
                                                                                                                                                      · exact absurd c_44 (by decide)
                                                                                                                                                    · exact absurd c_33 (by decide)
                                                                                                                                                · exact absurd c_66 (by decide)
                                                                                                                                              · exact absurd c_55 (by decide)
                                                                                                                                            · exact absurd c_44 (by decide)
                                                                                                                                          · exact absurd c_33 (by decide)
                                                                                                                                      · exact absurd c_66 (by decide)
                                                                                                                                    · exact absurd c_55 (by decide)
                                                                                                                                  · exact absurd c_44 (by decide)
                                                                                                                                · exact absurd c_33 (by decide)
                                                                                                                            · exact absurd c_66 (by decide)
                                                                                                                          · exact absurd c_55 (by decide)
                                                                                                                        · exact absurd c_44 (by decide)
                                                                                                                      · exact absurd c_33 (by decide)
                                                                                                                · exact absurd c_55 (by decide)
                                                                                                              · exact absurd c_44 (by decide)
                                                                                                            · exact absurd c_33 (by decide)
                                                                                                      · exact absurd c_55 (by decide)
                                                                                                    · exact absurd c_44 (by decide)
                                                                                                  · exact absurd c_33 (by decide)
                                                                                            · exact absurd c_55 (by decide)
                                                                                          · exact absurd c_44 (by decide)
                                                                                        · exact absurd c_33 (by decide)
                                                                                  · exact absurd c_55 (by decide)
                                                                                · exact absurd c_44 (by decide)
                                                                              · exact absurd c_33 (by decide)
                                                                        · exact absurd c_44 (by decide)
                                                                      · exact absurd c_33 (by decide)
                                                                · exact absurd c_44 (by decide)
                                                              · exact absurd c_33 (by decide)
                                                        · exact absurd c_44 (by decide)
                                                      · exact absurd c_33 (by decide)
                                                · exact absurd c_44 (by decide)
                                              · exact absurd c_33 (by decide)
                                        · exact absurd c_33 (by decide)
                                  · exact absurd c_33 (by decide)
                            · exact absurd c_33 (by decide)
                      · exact absurd c_33 (by decide)
  · have g_15 := nI_nle' (b := 900) c_15 (by omega) (by decide)
    refine lv_iconst (v := (-1)) hx hb dX5_append_18 rfl ?_
    exact w_iret C (if_neg (by omega)).symm (by rw [if_neg (by omega), if_neg (by omega)]; exact hP) hS dX5_append_19
