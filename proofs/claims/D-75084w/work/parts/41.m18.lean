/-! the reference: bestFit (printed by gen/m18.py) -/
set_option maxRecDepth 100000
theorem qd_0 : ∀ {b : Nat} {R : List Nat}, qd b R 0 = 0
  | b, [] => rfl
  | b, p :: R => by simp only [qd]; rw [show 0 / 2 = 0 from rfl, qd_0]; simp
theorem qd_I0 {b : Nat} {R : List Nat} : (0 : Int32) = nI (qd b R 0) := by rw [qd_0]; rfl
theorem qd_lt {R : List Nat} {s : Nat} (h : asc 0 R 24) : qd 0 R s < 2 ^ 24 := by have := mk_lt h; have := qd_le (b := 0) (R := R) (s := s); omega
theorem rl_skip {d : Nat → Int32} {x : Int32} {j : Nat} (h : ¬ (pf d j 0 = x ∧ pf d j 4 = 3)) : rl d x (j + 1) = rl d x j := by
  simp only [rl]; rw [if_neg (fun z => h z.2)]
theorem rl_take {d : Nat → Int32} {x : Int32} {j : Nat} (h0 : (rl d x j).length < 12) (h : pf d j 0 = x) (h4 : pf d j 4 = 3) : rl d x (j + 1) = rl d x j ++ [j] := by
  simp only [rl]; rw [if_pos ⟨h0, h, h4⟩]
theorem bfs_y {A : Nat → Int32} {lim : Int32} {R : List Nat} {s : Nat} (h : smS A R s ≤ lim) (h2 : (bfs A lim R s).2 < smS A R s) : bfs A lim R (s + 1) = (s, smS A R s) := by
  simp only [bfs]; rw [if_pos ⟨h, h2⟩]
theorem bfs_n {A : Nat → Int32} {lim : Int32} {R : List Nat} {s : Nat} (h : ¬ (smS A R s ≤ lim ∧ (bfs A lim R s).2 < smS A R s)) : bfs A lim R (s + 1) = bfs A lim R s := by
  simp only [bfs]; rw [if_neg h]
set_option maxHeartbeats 32000000 in
theorem m_bestFit (l : Launch) (D : va_G) (k : Nat → ClassId) (o a1 a8 a9 a10 a15 : Nat) (t bl tl ps er ea eo ud ns ne se : Int32) (wr : va_W) (d : Nat → Int32) (A : Nat → Prop) (hD : va_D A ((o, .inr (0, [.int t, .ref a1, .int bl, .int tl, .int ps, .int er, .int ea, .int eo, .ref a8, .ref a9, .ref a10, .int ud, .int ns, .int ne, .int se, .ref a15])) :: (a8, .inl (k 0, 1798, .inl d)) :: wr)) (hd : okD d) (x : Int32) : wM l D k yX5_bestFit cX5_bestFit 10 (some .int) 4 86 [.ref o, .int x] ((o, .inr (0, [.int t, .ref a1, .int bl, .int tl, .int ps, .int er, .int ea, .int eo, .ref a8, .ref a9, .ref a10, .int ud, .int ns, .int ne, .int se, .ref a15])) :: (a8, .inl (k 0, 1798, .inl d)) :: wr) (some (.int (pick (hasC d x) (fitV d x)))) ((o, .inr (0, [.int (pick (¬ hasC d x) 1), .ref a1, .int bl, .int tl, .int ps, .int er, .int ea, .int eo, .ref a8, .ref a9, .ref a10, .int ud, .int ns, .int ne, .int se, .ref a15])) :: (a8, .inl (k 0, 1798, .inl d)) :: wr) A := by
  refine wM_of (by decide) (Nat.le_of_ble_eq_true rfl) ?_
  intro p e s m below meth c ls C hK hP hS hl
  obtain ⟨hx, hb, hr, hml, hown, hts, hlk⟩ := id C
  have hl : lv_has ls 10 [(0, .ref o), (1, .int x)] := hl
  refine lv_aload_n hx hb dX5_bestFit_0 rfl (lv_at hl 0 rfl) ?_
  refine lv_iconst (v := 0) hx hb dX5_bestFit_1 rfl ?_
  refine va_put hx hb hts in_X5 tyX5 tyX5_ok nmX5 hown hK hP (va_D_of hD rfl) hS 0 rfl rfl 0 (by decide) (hts _ q1662) (fun _ h => h) rfl rfl rfl rfl (Nat.le_of_ble_eq_true rfl) dX5_bestFit_2 (fun H locs hP _ hS => ?_)
  have hP : va_P D clA ((o, .inr (0, [.int 0, .ref a1, .int bl, .int tl, .int ps, .int er, .int ea, .int eo, .ref a8, .ref a9, .ref a10, .int ud, .int ns, .int ne, .int se, .ref a15])) :: (a8, .inl (k 0, 1798, .inl d)) :: wr) H := hP
  refine lv_aload_n hx hb dX5_bestFit_5 rfl (lv_at hl 0 rfl) ?_
  refine lv_iload_n hx hb dX5_bestFit_6 rfl (lv_at hl 1 rfl) ?_
  refine w_callV (As := [.int x]) (rest := []) C (m_noCredit l D k o a1 a8 a9 a10 a15 bl tl ps er ea eo ud ns ne se wr d A (va_D_of hD rfl) hd x) (cwV 1 hts (lw_V q1885 q1887 qs52 q76 q1888) rfl rfl rfl (by decide +kernel) ⟨Nat.le_of_ble_eq_true rfl, Nat.le_of_ble_eq_true rfl⟩) hK (va_recv hK hP (ci := 0) (q0 := 0) rfl rfl) hP hS (fun _ h => h) rfl hl.1 rfl (Nat.le_of_ble_eq_true rfl) dX5_bestFit_7 ⟨Nat.le_of_ble_eq_true rfl, Nat.le_of_ble_eq_true rfl⟩ (fun H locs hP hS _ _ => ?_)
  have hP : va_P D clA ((o, .inr (0, [.int (pick (¬ hasC d x) 1), .ref a1, .int bl, .int tl, .int ps, .int er, .int ea, .int eo, .ref a8, .ref a9, .ref a10, .int ud, .int ns, .int ne, .int se, .ref a15])) :: (a8, .inl (k 0, 1798, .inl d)) :: wr) H := hP
  refine lv_if_eq (tgt := 15) hx hb dX5_bestFit_10 (by decide) (fun c_10 => ?_) (fun c_10 => ?_)
  · have b_10 := bI_0.mp c_10
    rw [pick_f b_10] at hP
    have hlk := hl
    have hPk := hP
    have hSk := hS
    obtain ⟨q, hq, rfl⟩ := hasC_n hd (Classical.not_not.mp b_10)
    have hl := hlk
    have hP := hPk
    have hS := hSk
    obtain ⟨⟨⟨_, n0⟩, ⟨_, n1⟩, -⟩, -⟩ := id hd
    obtain ⟨⟨⟨e0, n0⟩, ⟨e1, n1⟩, ⟨e2, n2⟩, ⟨e3, n3⟩, ⟨e5, n5⟩⟩, hhol, hcr, hpr⟩ := id hd
    have hasc : asc 0 (rl d (nI q) (dN d 1)) 24 := asc_mono (rl_asc _) (by omega)
    refine lv_iconst (v := 0) hx hb dX5_bestFit_15 rfl ?_
    refine w_topi (y := nI (mkR 0 (rl d (nI q) 0))) rfl ?_
    refine lv_istore_n (lv' := [(2, .int (nI (mkR 0 (rl d (nI q) 0)))), (0, .ref o), (1, .int (nI q))]) hx hb dX5_bestFit_16 rfl hl (by decide) rfl (fun ls hl => ?_)
    refine lv_iconst (v := 0) hx hb dX5_bestFit_17 rfl ?_
    refine w_topi (y := nI (rl d (nI q) 0).length) rfl ?_
    refine lv_istore_n (lv' := [(3, .int (nI (rl d (nI q) 0).length)), (2, .int (nI (mkR 0 (rl d (nI q) 0)))), (0, .ref o), (1, .int (nI q))]) hx hb dX5_bestFit_18 rfl hl (by decide) rfl (fun ls hl => ?_)
    refine lv_iconst (v := 0) hx hb dX5_bestFit_19 rfl ?_
    refine w_topi (y := nI (qd 0 (rl d (nI q) (dN d 1)) (bfs (fun p => pf d p 2) (avail d q) (rl d (nI q) (dN d 1)) 0).1)) qd_I0 ?_
    refine lv_istore (lv' := [(4, .int (nI (qd 0 (rl d (nI q) (dN d 1)) (bfs (fun p => pf d p 2) (avail d q) (rl d (nI q) (dN d 1)) 0).1))), (3, .int (nI (rl d (nI q) 0).length)), (2, .int (nI (mkR 0 (rl d (nI q) 0)))), (0, .ref o), (1, .int (nI q))]) hx hb dX5_bestFit_20 hl (by decide) rfl (fun ls hl => ?_)
    refine lv_iconst (v := 0) hx hb dX5_bestFit_22 rfl ?_
    refine w_topi (y := (bfs (fun p => pf d p 2) (avail d q) (rl d (nI q) (dN d 1)) 0).2) rfl ?_
    refine lv_istore (lv' := [(5, .int ((bfs (fun p => pf d p 2) (avail d q) (rl d (nI q) (dN d 1)) 0).2)), (4, .int (nI (qd 0 (rl d (nI q) (dN d 1)) (bfs (fun p => pf d p 2) (avail d q) (rl d (nI q) (dN d 1)) 0).1))), (3, .int (nI (rl d (nI q) 0).length)), (2, .int (nI (mkR 0 (rl d (nI q) 0)))), (0, .ref o), (1, .int (nI q))]) hx hb dX5_bestFit_23 hl (by decide) rfl (fun ls hl => ?_)
    refine lv_aload_n hx hb dX5_bestFit_25 rfl (lv_at hl 4 rfl) ?_
    refine lv_iload_n hx hb dX5_bestFit_26 rfl (lv_at hl 5 rfl) ?_
    refine r_callV (As := [.int (nI q)]) (rest := []) C (m_availableOf l D k o a8 ([.int 0, .ref a1, .int bl, .int tl, .int ps, .int er, .int ea, .int eo, .ref a8, .ref a9, .ref a10, .int ud, .int ns, .int ne, .int se, .ref a15] : List Value) d rfl hd q (by omega)) (cwV 1 hts (lw_V q1932 q1934 qs58 q76 q1935) rfl rfl rfl (by decide +kernel) ⟨Nat.le_of_ble_eq_true rfl, Nat.le_of_ble_eq_true rfl⟩) hK (va_recv hK hP (ci := 0) (q0 := 0) rfl rfl) (hP.sub [0, 1] rfl) rfl hl.1 rfl (Nat.le_of_ble_eq_true rfl) dX5_bestFit_27 ⟨Nat.le_of_ble_eq_true rfl, Nat.le_of_ble_eq_true rfl⟩ ?_
    refine lv_istore (lv' := [(6, .int (avail d q)), (5, .int ((bfs (fun p => pf d p 2) (avail d q) (rl d (nI q) (dN d 1)) 0).2)), (4, .int (nI (qd 0 (rl d (nI q) (dN d 1)) (bfs (fun p => pf d p 2) (avail d q) (rl d (nI q) (dN d 1)) 0).1))), (3, .int (nI (rl d (nI q) 0).length)), (2, .int (nI (mkR 0 (rl d (nI q) 0)))), (0, .ref o), (1, .int (nI q))]) hx hb dX5_bestFit_30 hl (by decide) rfl (fun ls hl => ?_)
    refine lv_iconst (v := 0) hx hb dX5_bestFit_32 rfl ?_
    refine lv_istore (lv' := [(7, .int 0), (6, .int (avail d q)), (5, .int ((bfs (fun p => pf d p 2) (avail d q) (rl d (nI q) (dN d 1)) 0).2)), (4, .int (nI (qd 0 (rl d (nI q) (dN d 1)) (bfs (fun p => pf d p 2) (avail d q) (rl d (nI q) (dN d 1)) 0).1))), (3, .int (nI (rl d (nI q) 0).length)), (2, .int (nI (mkR 0 (rl d (nI q) 0)))), (0, .ref o), (1, .int (nI q))]) hx hb dX5_bestFit_33 hl (by decide) rfl (fun ls hl => ?_)
    have loop_35 : ∀ (n : Nat) (j : Nat), (j ≤ dN d 1) → (dN d 1 + 1 ≤ j + n) → ∀ (ls : Array Slot), lv_has ls 10 [(0, .ref o), (1, .int (nI q)), (2, .int (nI (mkR 0 (rl d (nI q) j)))), (3, .int (nI (rl d (nI q) j).length)), (4, .int (nI (qd 0 (rl d (nI q) (dN d 1)) (bfs (fun p => pf d p 2) (avail d q) (rl d (nI q) (dN d 1)) 0).1))), (5, .int ((bfs (fun p => pf d p 2) (avail d q) (rl d (nI q) (dN d 1)) 0).2)), (6, .int (avail d q)), (7, .int (nI j))] → W p l e (Rm 4 86 0 0) s m ([.ref o, .int (nI q)] : List Value).toArray below meth c H locs 0 0 (MQ below (wQ D (some (.int (pick (hasC d (nI q)) (fitV d (nI q))))) ((o, .inr (0, [.int (pick (¬ hasC d (nI q)) 1), .ref a1, .int bl, .int tl, .int ps, .int er, .int ea, .int eo, .ref a8, .ref a9, .ref a10, .int ud, .int ns, .int ne, .int se, .ref a15])) :: (a8, .inl (k 0, 1798, .inl d)) :: wr) A) ([.ref o, .int (nI q)] : List Value).toArray s 0 0 A) (F0 m 35 ls []) := by
      intro n
      induction n with
      | zero =>
        intro j hj hn
        exact absurd hn (by omega)
      | succ n ih_35 =>
        intro j hj hn ls hl
        refine lv_iload hx hb dX5_bestFit_35 (lv_at hl 7 rfl) ?_
        refine lv_aload_n hx hb dX5_bestFit_37 rfl (lv_at hl 0 rfl) ?_
        refine va_get hx hb hts in_X5 hown hK hP 0 rfl rfl 8 (by decide) (hts _ q1670) (fun _ h => h) rfl dX5_bestFit_38 ?_
        refine lv_iconst (v := 1) hx hb dX5_bestFit_41 rfl ?_
        refine w_iald hx hb hK hP 1 rfl 1 rfl (Nat.le_of_ble_eq_true rfl) (Nat.le_of_ble_eq_true rfl) dX5_bestFit_42 ?_
        refine w_topi (y := nI (dN d 1)) e1 ?_
        refine lv_icmp_ge (tgt := 101) hx hb dX5_bestFit_43 (by decide) (fun c_43 => ?_) (fun c_43 => ?_)
        · have g_43 := nI_le' c_43 (by omega) (by omega)
          have hfl : rl d (nI q) j = (rl d (nI q) (dN d 1)) := by rw [show j = dN d 1 by omega]
          rw [hfl] at hl
          refine lv_iconst (v := 0) hx hb dX5_bestFit_101 rfl ?_
          refine w_topi (y := nI (qd 0 (rl d (nI q) (dN d 1)) 0)) qd_I0 ?_
          refine lv_istore (lv' := [(7, .int (nI (qd 0 (rl d (nI q) (dN d 1)) 0))), (0, .ref o), (1, .int (nI q)), (2, .int (nI (mkR 0 (rl d (nI q) (dN d 1))))), (3, .int (nI (rl d (nI q) (dN d 1)).length)), (4, .int (nI (qd 0 (rl d (nI q) (dN d 1)) (bfs (fun p => pf d p 2) (avail d q) (rl d (nI q) (dN d 1)) 0).1))), (5, .int ((bfs (fun p => pf d p 2) (avail d q) (rl d (nI q) (dN d 1)) 0).2)), (6, .int (avail d q))]) hx hb dX5_bestFit_102 hl (by decide) rfl (fun ls hl => ?_)
          have loop_104 : ∀ (n : Nat) (u : Nat), (u < 2 ^ (rl d (nI q) (dN d 1)).length) → (2 ^ (rl d (nI q) (dN d 1)).length + 1 ≤ u + n) → ∀ (ls : Array Slot), lv_has ls 10 [(0, .ref o), (1, .int (nI q)), (2, .int (nI (mkR 0 (rl d (nI q) (dN d 1))))), (3, .int (nI (rl d (nI q) (dN d 1)).length)), (4, .int (nI (qd 0 (rl d (nI q) (dN d 1)) (bfs (fun p => pf d p 2) (avail d q) (rl d (nI q) (dN d 1)) u).1))), (5, .int ((bfs (fun p => pf d p 2) (avail d q) (rl d (nI q) (dN d 1)) u).2)), (6, .int (avail d q)), (7, .int (nI (qd 0 (rl d (nI q) (dN d 1)) u)))] → W p l e (Rm 4 86 0 0) s m ([.ref o, .int (nI q)] : List Value).toArray below meth c H locs 0 0 (MQ below (wQ D (some (.int (pick (hasC d (nI q)) (fitV d (nI q))))) ((o, .inr (0, [.int (pick (¬ hasC d (nI q)) 1), .ref a1, .int bl, .int tl, .int ps, .int er, .int ea, .int eo, .ref a8, .ref a9, .ref a10, .int ud, .int ns, .int ne, .int se, .ref a15])) :: (a8, .inl (k 0, 1798, .inl d)) :: wr) A) ([.ref o, .int (nI q)] : List Value).toArray s 0 0 A) (F0 m 104 ls []) := by
            intro n
            induction n with
            | zero =>
              intro u hu hn2
              exact absurd hn2 (by omega)
            | succ n ih_104 =>
              intro u hu hn2 ls hl
              refine lv_iconst (v := 0) hx hb dX5_bestFit_104 rfl ?_
              refine lv_istore (lv' := [(8, .int 0), (0, .ref o), (1, .int (nI q)), (2, .int (nI (mkR 0 (rl d (nI q) (dN d 1))))), (3, .int (nI (rl d (nI q) (dN d 1)).length)), (4, .int (nI (qd 0 (rl d (nI q) (dN d 1)) (bfs (fun p => pf d p 2) (avail d q) (rl d (nI q) (dN d 1)) u).1))), (5, .int ((bfs (fun p => pf d p 2) (avail d q) (rl d (nI q) (dN d 1)) u).2)), (6, .int (avail d q)), (7, .int (nI (qd 0 (rl d (nI q) (dN d 1)) u)))]) hx hb dX5_bestFit_105 hl (by decide) rfl (fun ls hl => ?_)
              refine lv_iconst (v := 0) hx hb dX5_bestFit_107 rfl ?_
              refine lv_istore (lv' := [(9, .int 0), (8, .int 0), (0, .ref o), (1, .int (nI q)), (2, .int (nI (mkR 0 (rl d (nI q) (dN d 1))))), (3, .int (nI (rl d (nI q) (dN d 1)).length)), (4, .int (nI (qd 0 (rl d (nI q) (dN d 1)) (bfs (fun p => pf d p 2) (avail d q) (rl d (nI q) (dN d 1)) u).1))), (5, .int ((bfs (fun p => pf d p 2) (avail d q) (rl d (nI q) (dN d 1)) u).2)), (6, .int (avail d q)), (7, .int (nI (qd 0 (rl d (nI q) (dN d 1)) u)))]) hx hb dX5_bestFit_108 hl (by decide) rfl (fun ls hl => ?_)
              have loop_110 : ∀ (n : Nat) (j2 : Nat), (j2 ≤ dN d 1) → (dN d 1 + 1 ≤ j2 + n) → ∀ (ls : Array Slot), lv_has ls 10 [(0, .ref o), (1, .int (nI q)), (2, .int (nI (mkR 0 (rl d (nI q) (dN d 1))))), (3, .int (nI (rl d (nI q) (dN d 1)).length)), (4, .int (nI (qd 0 (rl d (nI q) (dN d 1)) (bfs (fun p => pf d p 2) (avail d q) (rl d (nI q) (dN d 1)) u).1))), (5, .int ((bfs (fun p => pf d p 2) (avail d q) (rl d (nI q) (dN d 1)) u).2)), (6, .int (avail d q)), (7, .int (nI (qd 0 (rl d (nI q) (dN d 1)) u))), (8, .int (sumI (fun j => if qd 0 (rl d (nI q) (dN d 1)) u / 2 ^ j % 2 = 1 then pf d (0 + j) 2 else 0) j2)), (9, .int (nI j2))] → W p l e (Rm 4 86 0 0) s m ([.ref o, .int (nI q)] : List Value).toArray below meth c H locs 0 0 (MQ below (wQ D (some (.int (pick (hasC d (nI q)) (fitV d (nI q))))) ((o, .inr (0, [.int (pick (¬ hasC d (nI q)) 1), .ref a1, .int bl, .int tl, .int ps, .int er, .int ea, .int eo, .ref a8, .ref a9, .ref a10, .int ud, .int ns, .int ne, .int se, .ref a15])) :: (a8, .inl (k 0, 1798, .inl d)) :: wr) A) ([.ref o, .int (nI q)] : List Value).toArray s 0 0 A) (F0 m 110 ls []) := by
                intro n
                induction n with
                | zero =>
                  intro j2 hj2 hn3
                  exact absurd hn3 (by omega)
                | succ n ih_110 =>
                  intro j2 hj2 hn3 ls hl
                  refine lv_iload hx hb dX5_bestFit_110 (lv_at hl 9 rfl) ?_
                  refine lv_aload_n hx hb dX5_bestFit_112 rfl (lv_at hl 0 rfl) ?_
                  refine va_get hx hb hts in_X5 hown hK hP 0 rfl rfl 8 (by decide) (hts _ q1670) (fun _ h => h) rfl dX5_bestFit_113 ?_
                  refine lv_iconst (v := 1) hx hb dX5_bestFit_116 rfl ?_
                  refine w_iald hx hb hK hP 1 rfl 1 rfl (Nat.le_of_ble_eq_true rfl) (Nat.le_of_ble_eq_true rfl) dX5_bestFit_117 ?_
                  refine w_topi (y := nI (dN d 1)) e1 ?_
                  refine lv_icmp_ge (tgt := 159) hx hb dX5_bestFit_118 (by decide) (fun c_118 => ?_) (fun c_118 => ?_)
                  · have g_118 := nI_le' c_118 (by omega) (by omega)
                    have hsm : sumI (fun j => if qd 0 (rl d (nI q) (dN d 1)) u / 2 ^ j % 2 = 1 then pf d (0 + j) 2 else 0) j2 = smS (fun p => pf d p 2) (rl d (nI q) (dN d 1)) u := by rw [show j2 = dN d 1 by omega]; exact sm_eq (A := (fun p => pf d p 2)) (b := 0) (m := dN d 1) (by rw [Nat.zero_add]; exact rl_asc _)
                    rw [hsm] at hl
                    refine lv_iload hx hb dX5_bestFit_159 (lv_at hl 8 rfl) ?_
                    refine lv_iload hx hb dX5_bestFit_161 (lv_at hl 6 rfl) ?_
                    refine lv_icmp_gt (tgt := 181) hx hb dX5_bestFit_163 (by decide) (fun c_163 => ?_) (fun c_163 => ?_)
                    · have hbf := bfs_n (A := (fun p => pf d p 2)) (lim := avail d q) (R := (rl d (nI q) (dN d 1))) (s := u) (fun h => absurd h.1 (Int32.not_le.mpr c_163))
                      rw [← hbf] at hl
                      refine lv_iload hx hb dX5_bestFit_181 (lv_at hl 7 rfl) ?_
                      refine lv_iload_n hx hb dX5_bestFit_183 rfl (lv_at hl 2 rfl) ?_
                      refine lv_isub hx hb dX5_bestFit_184 ?_
                      refine lv_iload_n hx hb dX5_bestFit_185 rfl (lv_at hl 2 rfl) ?_
                      refine lv_iand hx hb dX5_bestFit_186 ?_
                      refine w_topi (y := nI (qd 0 (rl d (nI q) (dN d 1)) ((u + 1) % 2 ^ (rl d (nI q) (dN d 1)).length))) (nxt_I (asc_mono hasc (by decide)) hu) ?_
                      refine lv_istore (lv' := [(7, .int (nI (qd 0 (rl d (nI q) (dN d 1)) ((u + 1) % 2 ^ (rl d (nI q) (dN d 1)).length)))), (0, .ref o), (1, .int (nI q)), (2, .int (nI (mkR 0 (rl d (nI q) (dN d 1))))), (3, .int (nI (rl d (nI q) (dN d 1)).length)), (4, .int (nI (qd 0 (rl d (nI q) (dN d 1)) (bfs (fun p => pf d p 2) (avail d q) (rl d (nI q) (dN d 1)) (u + 1)).1))), (5, .int ((bfs (fun p => pf d p 2) (avail d q) (rl d (nI q) (dN d 1)) (u + 1)).2)), (6, .int (avail d q)), (8, .int (smS (fun p => pf d p 2) (rl d (nI q) (dN d 1)) u)), (9, .int (nI j2))]) hx hb dX5_bestFit_187 hl (by decide) rfl (fun ls hl => ?_)
                      refine lv_iload hx hb dX5_bestFit_189 (lv_at hl 0 rfl) ?_
                      refine lv_if_ne (tgt := 104) hx hb dX5_bestFit_191 (by decide) (fun c_191 => ?_) (fun c_191 => ?_)
                      · have hs1 : u + 1 < 2 ^ (rl d (nI q) (dN d 1)).length := by rcases Nat.lt_or_ge (u + 1) (2 ^ (rl d (nI q) (dN d 1)).length) with z | z; exact z; rw [show u + 1 = 2 ^ (rl d (nI q) (dN d 1)).length by omega, Nat.mod_self, qd_0] at c_191; exact absurd rfl c_191
                        rw [Nat.mod_eq_of_lt hs1] at hl
                        exact ih_104 (u + 1) (by omega) (by omega) ls (lv_sub hl [1, 2, 3, 4, 5, 6, 7, 0] rfl)
                      · have hs1 : u + 1 = 2 ^ (rl d (nI q) (dN d 1)).length := by have h0 := qd_z (b := 0) (R := (rl d (nI q) (dN d 1))) (Nat.mod_lt (u + 1) (Nat.two_pow_pos _)) (nI_eq' (b := 0) c_191 (Nat.lt_trans (qd_lt hasc) (by decide)) (by decide)); rcases Nat.lt_or_ge (u + 1) (2 ^ (rl d (nI q) (dN d 1)).length) with z | z; (rw [Nat.mod_eq_of_lt z] at h0; omega); omega
                        refine lv_iload hx hb dX5_bestFit_194 (lv_at hl 5 rfl) ?_
                        exact w_iret C (by rw [pick_t (Classical.not_not.mp b_10)]; unfold fitV; rw [ci_n (by omega), ← hs1]) (by rw [pick_f b_10]; exact hP) hS dX5_bestFit_196
                    · refine lv_iload hx hb dX5_bestFit_166 (lv_at hl 8 rfl) ?_
                      refine lv_iload hx hb dX5_bestFit_168 (lv_at hl 5 rfl) ?_
                      refine lv_icmp_le (tgt := 181) hx hb dX5_bestFit_170 (by decide) (fun c_170 => ?_) (fun c_170 => ?_)
                      · have hbf := bfs_n (A := (fun p => pf d p 2)) (lim := avail d q) (R := (rl d (nI q) (dN d 1))) (s := u) (fun h => absurd h.2 (Int32.not_lt.mpr c_170))
                        rw [← hbf] at hl
                        refine lv_iload hx hb dX5_bestFit_181 (lv_at hl 7 rfl) ?_
                        refine lv_iload_n hx hb dX5_bestFit_183 rfl (lv_at hl 2 rfl) ?_
                        refine lv_isub hx hb dX5_bestFit_184 ?_
                        refine lv_iload_n hx hb dX5_bestFit_185 rfl (lv_at hl 2 rfl) ?_
                        refine lv_iand hx hb dX5_bestFit_186 ?_
                        refine w_topi (y := nI (qd 0 (rl d (nI q) (dN d 1)) ((u + 1) % 2 ^ (rl d (nI q) (dN d 1)).length))) (nxt_I (asc_mono hasc (by decide)) hu) ?_
                        refine lv_istore (lv' := [(7, .int (nI (qd 0 (rl d (nI q) (dN d 1)) ((u + 1) % 2 ^ (rl d (nI q) (dN d 1)).length)))), (0, .ref o), (1, .int (nI q)), (2, .int (nI (mkR 0 (rl d (nI q) (dN d 1))))), (3, .int (nI (rl d (nI q) (dN d 1)).length)), (4, .int (nI (qd 0 (rl d (nI q) (dN d 1)) (bfs (fun p => pf d p 2) (avail d q) (rl d (nI q) (dN d 1)) (u + 1)).1))), (5, .int ((bfs (fun p => pf d p 2) (avail d q) (rl d (nI q) (dN d 1)) (u + 1)).2)), (6, .int (avail d q)), (8, .int (smS (fun p => pf d p 2) (rl d (nI q) (dN d 1)) u)), (9, .int (nI j2))]) hx hb dX5_bestFit_187 hl (by decide) rfl (fun ls hl => ?_)
                        refine lv_iload hx hb dX5_bestFit_189 (lv_at hl 0 rfl) ?_
                        refine lv_if_ne (tgt := 104) hx hb dX5_bestFit_191 (by decide) (fun c_191 => ?_) (fun c_191 => ?_)
                        · have hs1 : u + 1 < 2 ^ (rl d (nI q) (dN d 1)).length := by rcases Nat.lt_or_ge (u + 1) (2 ^ (rl d (nI q) (dN d 1)).length) with z | z; exact z; rw [show u + 1 = 2 ^ (rl d (nI q) (dN d 1)).length by omega, Nat.mod_self, qd_0] at c_191; exact absurd rfl c_191
                          rw [Nat.mod_eq_of_lt hs1] at hl
                          exact ih_104 (u + 1) (by omega) (by omega) ls (lv_sub hl [1, 2, 3, 4, 5, 6, 7, 0] rfl)
                        · have hs1 : u + 1 = 2 ^ (rl d (nI q) (dN d 1)).length := by have h0 := qd_z (b := 0) (R := (rl d (nI q) (dN d 1))) (Nat.mod_lt (u + 1) (Nat.two_pow_pos _)) (nI_eq' (b := 0) c_191 (Nat.lt_trans (qd_lt hasc) (by decide)) (by decide)); rcases Nat.lt_or_ge (u + 1) (2 ^ (rl d (nI q) (dN d 1)).length) with z | z; (rw [Nat.mod_eq_of_lt z] at h0; omega); omega
                          refine lv_iload hx hb dX5_bestFit_194 (lv_at hl 5 rfl) ?_
                          exact w_iret C (by rw [pick_t (Classical.not_not.mp b_10)]; unfold fitV; rw [ci_n (by omega), ← hs1]) (by rw [pick_f b_10]; exact hP) hS dX5_bestFit_196
                      · refine lv_iload hx hb dX5_bestFit_173 (lv_at hl 7 rfl) ?_
                        refine w_topi (y := nI (qd 0 (rl d (nI q) (dN d 1)) (bfs (fun p => pf d p 2) (avail d q) (rl d (nI q) (dN d 1)) (u + 1)).1)) (by rw [bfs_y (Int32.not_lt.mp c_163) (Int32.not_le.mp c_170)]) ?_
                        refine lv_istore (lv' := [(4, .int (nI (qd 0 (rl d (nI q) (dN d 1)) (bfs (fun p => pf d p 2) (avail d q) (rl d (nI q) (dN d 1)) (u + 1)).1))), (0, .ref o), (1, .int (nI q)), (2, .int (nI (mkR 0 (rl d (nI q) (dN d 1))))), (3, .int (nI (rl d (nI q) (dN d 1)).length)), (5, .int ((bfs (fun p => pf d p 2) (avail d q) (rl d (nI q) (dN d 1)) u).2)), (6, .int (avail d q)), (7, .int (nI (qd 0 (rl d (nI q) (dN d 1)) u))), (8, .int (smS (fun p => pf d p 2) (rl d (nI q) (dN d 1)) u)), (9, .int (nI j2))]) hx hb dX5_bestFit_175 hl (by decide) rfl (fun ls hl => ?_)
                        refine lv_iload hx hb dX5_bestFit_177 (lv_at hl 8 rfl) ?_
                        refine w_topi (y := (bfs (fun p => pf d p 2) (avail d q) (rl d (nI q) (dN d 1)) (u + 1)).2) (by rw [bfs_y (Int32.not_lt.mp c_163) (Int32.not_le.mp c_170)]) ?_
                        refine lv_istore (lv' := [(5, .int ((bfs (fun p => pf d p 2) (avail d q) (rl d (nI q) (dN d 1)) (u + 1)).2)), (4, .int (nI (qd 0 (rl d (nI q) (dN d 1)) (bfs (fun p => pf d p 2) (avail d q) (rl d (nI q) (dN d 1)) (u + 1)).1))), (0, .ref o), (1, .int (nI q)), (2, .int (nI (mkR 0 (rl d (nI q) (dN d 1))))), (3, .int (nI (rl d (nI q) (dN d 1)).length)), (6, .int (avail d q)), (7, .int (nI (qd 0 (rl d (nI q) (dN d 1)) u))), (8, .int (smS (fun p => pf d p 2) (rl d (nI q) (dN d 1)) u)), (9, .int (nI j2))]) hx hb dX5_bestFit_179 hl (by decide) rfl (fun ls hl => ?_)
                        refine lv_iload hx hb dX5_bestFit_181 (lv_at hl 7 rfl) ?_
                        refine lv_iload_n hx hb dX5_bestFit_183 rfl (lv_at hl 4 rfl) ?_
                        refine lv_isub hx hb dX5_bestFit_184 ?_
                        refine lv_iload_n hx hb dX5_bestFit_185 rfl (lv_at hl 4 rfl) ?_
                        refine lv_iand hx hb dX5_bestFit_186 ?_
                        refine w_topi (y := nI (qd 0 (rl d (nI q) (dN d 1)) ((u + 1) % 2 ^ (rl d (nI q) (dN d 1)).length))) (nxt_I (asc_mono hasc (by decide)) hu) ?_
                        refine lv_istore (lv' := [(7, .int (nI (qd 0 (rl d (nI q) (dN d 1)) ((u + 1) % 2 ^ (rl d (nI q) (dN d 1)).length)))), (5, .int ((bfs (fun p => pf d p 2) (avail d q) (rl d (nI q) (dN d 1)) (u + 1)).2)), (4, .int (nI (qd 0 (rl d (nI q) (dN d 1)) (bfs (fun p => pf d p 2) (avail d q) (rl d (nI q) (dN d 1)) (u + 1)).1))), (0, .ref o), (1, .int (nI q)), (2, .int (nI (mkR 0 (rl d (nI q) (dN d 1))))), (3, .int (nI (rl d (nI q) (dN d 1)).length)), (6, .int (avail d q)), (8, .int (smS (fun p => pf d p 2) (rl d (nI q) (dN d 1)) u)), (9, .int (nI j2))]) hx hb dX5_bestFit_187 hl (by decide) rfl (fun ls hl => ?_)
                        refine lv_iload hx hb dX5_bestFit_189 (lv_at hl 0 rfl) ?_
                        refine lv_if_ne (tgt := 104) hx hb dX5_bestFit_191 (by decide) (fun c_191 => ?_) (fun c_191 => ?_)
                        · have hs1 : u + 1 < 2 ^ (rl d (nI q) (dN d 1)).length := by rcases Nat.lt_or_ge (u + 1) (2 ^ (rl d (nI q) (dN d 1)).length) with z | z; exact z; rw [show u + 1 = 2 ^ (rl d (nI q) (dN d 1)).length by omega, Nat.mod_self, qd_0] at c_191; exact absurd rfl c_191
                          rw [Nat.mod_eq_of_lt hs1] at hl
                          exact ih_104 (u + 1) (by omega) (by omega) ls (lv_sub hl [3, 4, 5, 6, 2, 1, 7, 0] rfl)
                        · have hs1 : u + 1 = 2 ^ (rl d (nI q) (dN d 1)).length := by have h0 := qd_z (b := 0) (R := (rl d (nI q) (dN d 1))) (Nat.mod_lt (u + 1) (Nat.two_pow_pos _)) (nI_eq' (b := 0) c_191 (Nat.lt_trans (qd_lt hasc) (by decide)) (by decide)); rcases Nat.lt_or_ge (u + 1) (2 ^ (rl d (nI q) (dN d 1)).length) with z | z; (rw [Nat.mod_eq_of_lt z] at h0; omega); omega
                          refine lv_iload hx hb dX5_bestFit_194 (lv_at hl 2 rfl) ?_
                          exact w_iret C (by rw [pick_t (Classical.not_not.mp b_10)]; unfold fitV; rw [ci_n (by omega), ← hs1]) (by rw [pick_f b_10]; exact hP) hS dX5_bestFit_196
                  · have g_118 := nI_nle' c_118 (by omega) (by omega)
                    refine lv_iload hx hb dX5_bestFit_121 (lv_at hl 8 rfl) ?_
                    refine lv_iload hx hb dX5_bestFit_123 (lv_at hl 7 rfl) ?_
                    refine lv_iload hx hb dX5_bestFit_125 (lv_at hl 9 rfl) ?_
                    refine lv_ishr hx hb dX5_bestFit_127 ?_
                    refine lv_iconst (v := 1) hx hb dX5_bestFit_128 rfl ?_
                    refine lv_iand hx hb dX5_bestFit_129 ?_
                    refine w_topi (y := nI (qd 0 (rl d (nI q) (dN d 1)) u / 2 ^ j2 % 2)) (bit_I (Nat.lt_trans (qd_lt hasc) (by decide)) (by omega)) ?_
                    refine lv_iconst (v := 1) hx hb dX5_bestFit_130 rfl ?_
                    have J_150 : ∀ (z : Int32), (z = if qd 0 (rl d (nI q) (dN d 1)) u / 2 ^ j2 % 2 = 1 then pf d (0 + j2) 2 else 0) → ∀ (ls : Array Slot), lv_has ls 10 [(0, .ref o), (1, .int (nI q)), (2, .int (nI (mkR 0 (rl d (nI q) (dN d 1))))), (3, .int (nI (rl d (nI q) (dN d 1)).length)), (4, .int (nI (qd 0 (rl d (nI q) (dN d 1)) (bfs (fun p => pf d p 2) (avail d q) (rl d (nI q) (dN d 1)) u).1))), (5, .int ((bfs (fun p => pf d p 2) (avail d q) (rl d (nI q) (dN d 1)) u).2)), (6, .int (avail d q)), (7, .int (nI (qd 0 (rl d (nI q) (dN d 1)) u))), (8, .int (sumI (fun j => if qd 0 (rl d (nI q) (dN d 1)) u / 2 ^ j % 2 = 1 then pf d (0 + j) 2 else 0) j2)), (9, .int (nI j2))] → W p l e (Rm 4 86 0 0) s m ([.ref o, .int (nI q)] : List Value).toArray below meth c H locs 0 0 (MQ below (wQ D (some (.int (pick (hasC d (nI q)) (fitV d (nI q))))) ((o, .inr (0, [.int (pick (¬ hasC d (nI q)) 1), .ref a1, .int bl, .int tl, .int ps, .int er, .int ea, .int eo, .ref a8, .ref a9, .ref a10, .int ud, .int ns, .int ne, .int se, .ref a15])) :: (a8, .inl (k 0, 1798, .inl d)) :: wr) A) ([.ref o, .int (nI q)] : List Value).toArray s 0 0 A) (F0 m 150 ls [.int z, .int (sumI (fun j => if qd 0 (rl d (nI q) (dN d 1)) u / 2 ^ j % 2 = 1 then pf d (0 + j) 2 else 0) j2)]) := by
                      intro z h_z ls hl
                      refine lv_iadd hx hb dX5_bestFit_150 ?_
                      refine w_topi (y := sumI (fun j => if qd 0 (rl d (nI q) (dN d 1)) u / 2 ^ j % 2 = 1 then pf d (0 + j) 2 else 0) (j2 + 1)) (by rw [h_z]; rfl) ?_
                      refine lv_istore (lv' := [(8, .int (sumI (fun j => if qd 0 (rl d (nI q) (dN d 1)) u / 2 ^ j % 2 = 1 then pf d (0 + j) 2 else 0) (j2 + 1))), (0, .ref o), (1, .int (nI q)), (2, .int (nI (mkR 0 (rl d (nI q) (dN d 1))))), (3, .int (nI (rl d (nI q) (dN d 1)).length)), (4, .int (nI (qd 0 (rl d (nI q) (dN d 1)) (bfs (fun p => pf d p 2) (avail d q) (rl d (nI q) (dN d 1)) u).1))), (5, .int ((bfs (fun p => pf d p 2) (avail d q) (rl d (nI q) (dN d 1)) u).2)), (6, .int (avail d q)), (7, .int (nI (qd 0 (rl d (nI q) (dN d 1)) u))), (9, .int (nI j2))]) hx hb dX5_bestFit_151 hl (by decide) rfl (fun ls hl => ?_)
                      refine lv_iinc (v := nI (j2 + 1)) (lv' := [(9, .int (nI (j2 + 1))), (8, .int (sumI (fun j => if qd 0 (rl d (nI q) (dN d 1)) u / 2 ^ j % 2 = 1 then pf d (0 + j) 2 else 0) (j2 + 1))), (0, .ref o), (1, .int (nI q)), (2, .int (nI (mkR 0 (rl d (nI q) (dN d 1))))), (3, .int (nI (rl d (nI q) (dN d 1)).length)), (4, .int (nI (qd 0 (rl d (nI q) (dN d 1)) (bfs (fun p => pf d p 2) (avail d q) (rl d (nI q) (dN d 1)) u).1))), (5, .int ((bfs (fun p => pf d p 2) (avail d q) (rl d (nI q) (dN d 1)) u).2)), (6, .int (avail d q)), (7, .int (nI (qd 0 (rl d (nI q) (dN d 1)) u)))]) hx hb dX5_bestFit_153 hl (k := 9) rfl (nI_1 j2) (by decide) rfl (fun ls hl => ?_)
                      refine lv_goto (tgt := 110) hx hb dX5_bestFit_156 (by decide) ?_
                      exact ih_110 (j2 + 1) (by omega) (by omega) ls (lv_sub hl [2, 3, 4, 5, 6, 7, 8, 9, 1, 0] rfl)
                    refine lv_icmp_ne (tgt := 149) hx hb dX5_bestFit_131 (by decide) (fun c_131 => ?_) (fun c_131 => ?_)
                    · refine lv_iconst (v := 0) hx hb dX5_bestFit_149 rfl ?_
                      exact J_150 0 (by first | exact (if_pos (nI_eq' (b := 1) c_131 (by omega) (by decide))).symm | exact (if_neg (fun h => c_131 (by rw [h]; rfl))).symm) ls hl
                    · refine lv_aload_n hx hb dX5_bestFit_134 rfl (lv_at hl 0 rfl) ?_
                      refine va_get hx hb hts in_X5 hown hK hP 0 rfl rfl 8 (by decide) (hts _ q1670) (fun _ h => h) rfl dX5_bestFit_135 ?_
                      refine lv_iload hx hb dX5_bestFit_138 (lv_at hl 9 rfl) ?_
                      refine r_callS (As := [.int (nI j2)]) (rest := [.ref a8, .int (sumI (fun j => if qd 0 (rl d (nI q) (dN d 1)) u / 2 ^ j % 2 = 1 then pf d (0 + j) 2 else 0) j2)]) C (m_presentationN l D k j2) (va_cwS 1 hts (lw_S q1917 q1918 q76 q1919) rfl rfl rfl (by decide +kernel) ⟨Nat.le_of_ble_eq_true rfl, Nat.le_of_ble_eq_true rfl⟩) hK trivial rfl hl.1 rfl (Nat.le_of_ble_eq_true rfl) dX5_bestFit_140 ⟨Nat.le_of_ble_eq_true rfl, Nat.le_of_ble_eq_true rfl⟩ ?_
                      refine lv_iconst (v := 2) hx hb dX5_bestFit_143 rfl ?_
                      refine lv_iadd hx hb dX5_bestFit_144 ?_
                      refine w_topi (y := nI ((154 + 6 * j2) + 2)) (nI_add (154 + 6 * j2) 2) ?_
                      refine w_iald hx hb hK hP 1 rfl ((154 + 6 * j2) + 2) rfl (by omega) (Nat.le_of_ble_eq_true rfl) dX5_bestFit_145 ?_
                      refine w_topi (y := pf d (0 + j2) 2) (by rw [Nat.zero_add]; rfl) ?_
                      refine lv_goto (tgt := 150) hx hb dX5_bestFit_146 (by decide) ?_
                      exact J_150 (pf d (0 + j2) 2) (by first | exact (if_pos (nI_eq' (b := 1) c_131 (by omega) (by decide))).symm | exact (if_neg (fun h => c_131 (by rw [h]; rfl))).symm) ls hl
              exact loop_110 (dN d 1 + 1) 0 (Nat.zero_le _) (by omega) ls (lv_sub hl [2, 3, 4, 5, 6, 7, 8, 9, 1, 0] rfl)
          exact loop_104 (2 ^ (rl d (nI q) (dN d 1)).length + 1) 0 (Nat.two_pow_pos _) (by omega) ls (lv_sub hl [1, 2, 3, 4, 5, 6, 7, 0] rfl)
        · have g_43 := nI_nle' c_43 (by omega) (by omega)
          have hlen := rl_len (d := d) (x := nI q) j
          refine lv_iload_n hx hb dX5_bestFit_46 rfl (lv_at hl 3 rfl) ?_
          refine lv_bipush (v := 12) hx hb dX5_bestFit_47 rfl ?_
          refine lv_icmp_ge (tgt := 101) hx hb dX5_bestFit_49 (by decide) (fun c_49 => ?_) (fun c_49 => ?_)
          · have g_49 := nI_le' (a := 12) c_49 (by decide) (by omega)
            have hfl : rl d (nI q) j = (rl d (nI q) (dN d 1)) := by rw [show dN d 1 = j + (dN d 1 - j) by omega]; exact (rl_full (by omega) _).symm
            rw [hfl] at hl
            refine lv_iconst (v := 0) hx hb dX5_bestFit_101 rfl ?_
            refine w_topi (y := nI (qd 0 (rl d (nI q) (dN d 1)) 0)) qd_I0 ?_
            refine lv_istore (lv' := [(7, .int (nI (qd 0 (rl d (nI q) (dN d 1)) 0))), (0, .ref o), (1, .int (nI q)), (2, .int (nI (mkR 0 (rl d (nI q) (dN d 1))))), (3, .int (nI (rl d (nI q) (dN d 1)).length)), (4, .int (nI (qd 0 (rl d (nI q) (dN d 1)) (bfs (fun p => pf d p 2) (avail d q) (rl d (nI q) (dN d 1)) 0).1))), (5, .int ((bfs (fun p => pf d p 2) (avail d q) (rl d (nI q) (dN d 1)) 0).2)), (6, .int (avail d q))]) hx hb dX5_bestFit_102 hl (by decide) rfl (fun ls hl => ?_)
            have loop_104 : ∀ (n : Nat) (u : Nat), (u < 2 ^ (rl d (nI q) (dN d 1)).length) → (2 ^ (rl d (nI q) (dN d 1)).length + 1 ≤ u + n) → ∀ (ls : Array Slot), lv_has ls 10 [(0, .ref o), (1, .int (nI q)), (2, .int (nI (mkR 0 (rl d (nI q) (dN d 1))))), (3, .int (nI (rl d (nI q) (dN d 1)).length)), (4, .int (nI (qd 0 (rl d (nI q) (dN d 1)) (bfs (fun p => pf d p 2) (avail d q) (rl d (nI q) (dN d 1)) u).1))), (5, .int ((bfs (fun p => pf d p 2) (avail d q) (rl d (nI q) (dN d 1)) u).2)), (6, .int (avail d q)), (7, .int (nI (qd 0 (rl d (nI q) (dN d 1)) u)))] → W p l e (Rm 4 86 0 0) s m ([.ref o, .int (nI q)] : List Value).toArray below meth c H locs 0 0 (MQ below (wQ D (some (.int (pick (hasC d (nI q)) (fitV d (nI q))))) ((o, .inr (0, [.int (pick (¬ hasC d (nI q)) 1), .ref a1, .int bl, .int tl, .int ps, .int er, .int ea, .int eo, .ref a8, .ref a9, .ref a10, .int ud, .int ns, .int ne, .int se, .ref a15])) :: (a8, .inl (k 0, 1798, .inl d)) :: wr) A) ([.ref o, .int (nI q)] : List Value).toArray s 0 0 A) (F0 m 104 ls []) := by
              intro n
              induction n with
              | zero =>
                intro u hu hn2
                exact absurd hn2 (by omega)
              | succ n ih_104 =>
                intro u hu hn2 ls hl
                refine lv_iconst (v := 0) hx hb dX5_bestFit_104 rfl ?_
                refine lv_istore (lv' := [(8, .int 0), (0, .ref o), (1, .int (nI q)), (2, .int (nI (mkR 0 (rl d (nI q) (dN d 1))))), (3, .int (nI (rl d (nI q) (dN d 1)).length)), (4, .int (nI (qd 0 (rl d (nI q) (dN d 1)) (bfs (fun p => pf d p 2) (avail d q) (rl d (nI q) (dN d 1)) u).1))), (5, .int ((bfs (fun p => pf d p 2) (avail d q) (rl d (nI q) (dN d 1)) u).2)), (6, .int (avail d q)), (7, .int (nI (qd 0 (rl d (nI q) (dN d 1)) u)))]) hx hb dX5_bestFit_105 hl (by decide) rfl (fun ls hl => ?_)
                refine lv_iconst (v := 0) hx hb dX5_bestFit_107 rfl ?_
                refine lv_istore (lv' := [(9, .int 0), (8, .int 0), (0, .ref o), (1, .int (nI q)), (2, .int (nI (mkR 0 (rl d (nI q) (dN d 1))))), (3, .int (nI (rl d (nI q) (dN d 1)).length)), (4, .int (nI (qd 0 (rl d (nI q) (dN d 1)) (bfs (fun p => pf d p 2) (avail d q) (rl d (nI q) (dN d 1)) u).1))), (5, .int ((bfs (fun p => pf d p 2) (avail d q) (rl d (nI q) (dN d 1)) u).2)), (6, .int (avail d q)), (7, .int (nI (qd 0 (rl d (nI q) (dN d 1)) u)))]) hx hb dX5_bestFit_108 hl (by decide) rfl (fun ls hl => ?_)
                have loop_110 : ∀ (n : Nat) (j2 : Nat), (j2 ≤ dN d 1) → (dN d 1 + 1 ≤ j2 + n) → ∀ (ls : Array Slot), lv_has ls 10 [(0, .ref o), (1, .int (nI q)), (2, .int (nI (mkR 0 (rl d (nI q) (dN d 1))))), (3, .int (nI (rl d (nI q) (dN d 1)).length)), (4, .int (nI (qd 0 (rl d (nI q) (dN d 1)) (bfs (fun p => pf d p 2) (avail d q) (rl d (nI q) (dN d 1)) u).1))), (5, .int ((bfs (fun p => pf d p 2) (avail d q) (rl d (nI q) (dN d 1)) u).2)), (6, .int (avail d q)), (7, .int (nI (qd 0 (rl d (nI q) (dN d 1)) u))), (8, .int (sumI (fun j => if qd 0 (rl d (nI q) (dN d 1)) u / 2 ^ j % 2 = 1 then pf d (0 + j) 2 else 0) j2)), (9, .int (nI j2))] → W p l e (Rm 4 86 0 0) s m ([.ref o, .int (nI q)] : List Value).toArray below meth c H locs 0 0 (MQ below (wQ D (some (.int (pick (hasC d (nI q)) (fitV d (nI q))))) ((o, .inr (0, [.int (pick (¬ hasC d (nI q)) 1), .ref a1, .int bl, .int tl, .int ps, .int er, .int ea, .int eo, .ref a8, .ref a9, .ref a10, .int ud, .int ns, .int ne, .int se, .ref a15])) :: (a8, .inl (k 0, 1798, .inl d)) :: wr) A) ([.ref o, .int (nI q)] : List Value).toArray s 0 0 A) (F0 m 110 ls []) := by
                  intro n
                  induction n with
                  | zero =>
                    intro j2 hj2 hn3
                    exact absurd hn3 (by omega)
                  | succ n ih_110 =>
                    intro j2 hj2 hn3 ls hl
                    refine lv_iload hx hb dX5_bestFit_110 (lv_at hl 9 rfl) ?_
                    refine lv_aload_n hx hb dX5_bestFit_112 rfl (lv_at hl 0 rfl) ?_
                    refine va_get hx hb hts in_X5 hown hK hP 0 rfl rfl 8 (by decide) (hts _ q1670) (fun _ h => h) rfl dX5_bestFit_113 ?_
                    refine lv_iconst (v := 1) hx hb dX5_bestFit_116 rfl ?_
                    refine w_iald hx hb hK hP 1 rfl 1 rfl (Nat.le_of_ble_eq_true rfl) (Nat.le_of_ble_eq_true rfl) dX5_bestFit_117 ?_
                    refine w_topi (y := nI (dN d 1)) e1 ?_
                    refine lv_icmp_ge (tgt := 159) hx hb dX5_bestFit_118 (by decide) (fun c_118 => ?_) (fun c_118 => ?_)
                    · have g_118 := nI_le' c_118 (by omega) (by omega)
                      have hsm : sumI (fun j => if qd 0 (rl d (nI q) (dN d 1)) u / 2 ^ j % 2 = 1 then pf d (0 + j) 2 else 0) j2 = smS (fun p => pf d p 2) (rl d (nI q) (dN d 1)) u := by rw [show j2 = dN d 1 by omega]; exact sm_eq (A := (fun p => pf d p 2)) (b := 0) (m := dN d 1) (by rw [Nat.zero_add]; exact rl_asc _)
                      rw [hsm] at hl
                      refine lv_iload hx hb dX5_bestFit_159 (lv_at hl 8 rfl) ?_
                      refine lv_iload hx hb dX5_bestFit_161 (lv_at hl 6 rfl) ?_
                      refine lv_icmp_gt (tgt := 181) hx hb dX5_bestFit_163 (by decide) (fun c_163 => ?_) (fun c_163 => ?_)
                      · have hbf := bfs_n (A := (fun p => pf d p 2)) (lim := avail d q) (R := (rl d (nI q) (dN d 1))) (s := u) (fun h => absurd h.1 (Int32.not_le.mpr c_163))
                        rw [← hbf] at hl
                        refine lv_iload hx hb dX5_bestFit_181 (lv_at hl 7 rfl) ?_
                        refine lv_iload_n hx hb dX5_bestFit_183 rfl (lv_at hl 2 rfl) ?_
                        refine lv_isub hx hb dX5_bestFit_184 ?_
                        refine lv_iload_n hx hb dX5_bestFit_185 rfl (lv_at hl 2 rfl) ?_
                        refine lv_iand hx hb dX5_bestFit_186 ?_
                        refine w_topi (y := nI (qd 0 (rl d (nI q) (dN d 1)) ((u + 1) % 2 ^ (rl d (nI q) (dN d 1)).length))) (nxt_I (asc_mono hasc (by decide)) hu) ?_
                        refine lv_istore (lv' := [(7, .int (nI (qd 0 (rl d (nI q) (dN d 1)) ((u + 1) % 2 ^ (rl d (nI q) (dN d 1)).length)))), (0, .ref o), (1, .int (nI q)), (2, .int (nI (mkR 0 (rl d (nI q) (dN d 1))))), (3, .int (nI (rl d (nI q) (dN d 1)).length)), (4, .int (nI (qd 0 (rl d (nI q) (dN d 1)) (bfs (fun p => pf d p 2) (avail d q) (rl d (nI q) (dN d 1)) (u + 1)).1))), (5, .int ((bfs (fun p => pf d p 2) (avail d q) (rl d (nI q) (dN d 1)) (u + 1)).2)), (6, .int (avail d q)), (8, .int (smS (fun p => pf d p 2) (rl d (nI q) (dN d 1)) u)), (9, .int (nI j2))]) hx hb dX5_bestFit_187 hl (by decide) rfl (fun ls hl => ?_)
                        refine lv_iload hx hb dX5_bestFit_189 (lv_at hl 0 rfl) ?_
                        refine lv_if_ne (tgt := 104) hx hb dX5_bestFit_191 (by decide) (fun c_191 => ?_) (fun c_191 => ?_)
                        · have hs1 : u + 1 < 2 ^ (rl d (nI q) (dN d 1)).length := by rcases Nat.lt_or_ge (u + 1) (2 ^ (rl d (nI q) (dN d 1)).length) with z | z; exact z; rw [show u + 1 = 2 ^ (rl d (nI q) (dN d 1)).length by omega, Nat.mod_self, qd_0] at c_191; exact absurd rfl c_191
                          rw [Nat.mod_eq_of_lt hs1] at hl
                          exact ih_104 (u + 1) (by omega) (by omega) ls (lv_sub hl [1, 2, 3, 4, 5, 6, 7, 0] rfl)
                        · have hs1 : u + 1 = 2 ^ (rl d (nI q) (dN d 1)).length := by have h0 := qd_z (b := 0) (R := (rl d (nI q) (dN d 1))) (Nat.mod_lt (u + 1) (Nat.two_pow_pos _)) (nI_eq' (b := 0) c_191 (Nat.lt_trans (qd_lt hasc) (by decide)) (by decide)); rcases Nat.lt_or_ge (u + 1) (2 ^ (rl d (nI q) (dN d 1)).length) with z | z; (rw [Nat.mod_eq_of_lt z] at h0; omega); omega
                          refine lv_iload hx hb dX5_bestFit_194 (lv_at hl 5 rfl) ?_
                          exact w_iret C (by rw [pick_t (Classical.not_not.mp b_10)]; unfold fitV; rw [ci_n (by omega), ← hs1]) (by rw [pick_f b_10]; exact hP) hS dX5_bestFit_196
                      · refine lv_iload hx hb dX5_bestFit_166 (lv_at hl 8 rfl) ?_
                        refine lv_iload hx hb dX5_bestFit_168 (lv_at hl 5 rfl) ?_
                        refine lv_icmp_le (tgt := 181) hx hb dX5_bestFit_170 (by decide) (fun c_170 => ?_) (fun c_170 => ?_)
                        · have hbf := bfs_n (A := (fun p => pf d p 2)) (lim := avail d q) (R := (rl d (nI q) (dN d 1))) (s := u) (fun h => absurd h.2 (Int32.not_lt.mpr c_170))
                          rw [← hbf] at hl
                          refine lv_iload hx hb dX5_bestFit_181 (lv_at hl 7 rfl) ?_
                          refine lv_iload_n hx hb dX5_bestFit_183 rfl (lv_at hl 2 rfl) ?_
                          refine lv_isub hx hb dX5_bestFit_184 ?_
                          refine lv_iload_n hx hb dX5_bestFit_185 rfl (lv_at hl 2 rfl) ?_
                          refine lv_iand hx hb dX5_bestFit_186 ?_
                          refine w_topi (y := nI (qd 0 (rl d (nI q) (dN d 1)) ((u + 1) % 2 ^ (rl d (nI q) (dN d 1)).length))) (nxt_I (asc_mono hasc (by decide)) hu) ?_
                          refine lv_istore (lv' := [(7, .int (nI (qd 0 (rl d (nI q) (dN d 1)) ((u + 1) % 2 ^ (rl d (nI q) (dN d 1)).length)))), (0, .ref o), (1, .int (nI q)), (2, .int (nI (mkR 0 (rl d (nI q) (dN d 1))))), (3, .int (nI (rl d (nI q) (dN d 1)).length)), (4, .int (nI (qd 0 (rl d (nI q) (dN d 1)) (bfs (fun p => pf d p 2) (avail d q) (rl d (nI q) (dN d 1)) (u + 1)).1))), (5, .int ((bfs (fun p => pf d p 2) (avail d q) (rl d (nI q) (dN d 1)) (u + 1)).2)), (6, .int (avail d q)), (8, .int (smS (fun p => pf d p 2) (rl d (nI q) (dN d 1)) u)), (9, .int (nI j2))]) hx hb dX5_bestFit_187 hl (by decide) rfl (fun ls hl => ?_)
                          refine lv_iload hx hb dX5_bestFit_189 (lv_at hl 0 rfl) ?_
                          refine lv_if_ne (tgt := 104) hx hb dX5_bestFit_191 (by decide) (fun c_191 => ?_) (fun c_191 => ?_)
                          · have hs1 : u + 1 < 2 ^ (rl d (nI q) (dN d 1)).length := by rcases Nat.lt_or_ge (u + 1) (2 ^ (rl d (nI q) (dN d 1)).length) with z | z; exact z; rw [show u + 1 = 2 ^ (rl d (nI q) (dN d 1)).length by omega, Nat.mod_self, qd_0] at c_191; exact absurd rfl c_191
                            rw [Nat.mod_eq_of_lt hs1] at hl
                            exact ih_104 (u + 1) (by omega) (by omega) ls (lv_sub hl [1, 2, 3, 4, 5, 6, 7, 0] rfl)
                          · have hs1 : u + 1 = 2 ^ (rl d (nI q) (dN d 1)).length := by have h0 := qd_z (b := 0) (R := (rl d (nI q) (dN d 1))) (Nat.mod_lt (u + 1) (Nat.two_pow_pos _)) (nI_eq' (b := 0) c_191 (Nat.lt_trans (qd_lt hasc) (by decide)) (by decide)); rcases Nat.lt_or_ge (u + 1) (2 ^ (rl d (nI q) (dN d 1)).length) with z | z; (rw [Nat.mod_eq_of_lt z] at h0; omega); omega
                            refine lv_iload hx hb dX5_bestFit_194 (lv_at hl 5 rfl) ?_
                            exact w_iret C (by rw [pick_t (Classical.not_not.mp b_10)]; unfold fitV; rw [ci_n (by omega), ← hs1]) (by rw [pick_f b_10]; exact hP) hS dX5_bestFit_196
                        · refine lv_iload hx hb dX5_bestFit_173 (lv_at hl 7 rfl) ?_
                          refine w_topi (y := nI (qd 0 (rl d (nI q) (dN d 1)) (bfs (fun p => pf d p 2) (avail d q) (rl d (nI q) (dN d 1)) (u + 1)).1)) (by rw [bfs_y (Int32.not_lt.mp c_163) (Int32.not_le.mp c_170)]) ?_
                          refine lv_istore (lv' := [(4, .int (nI (qd 0 (rl d (nI q) (dN d 1)) (bfs (fun p => pf d p 2) (avail d q) (rl d (nI q) (dN d 1)) (u + 1)).1))), (0, .ref o), (1, .int (nI q)), (2, .int (nI (mkR 0 (rl d (nI q) (dN d 1))))), (3, .int (nI (rl d (nI q) (dN d 1)).length)), (5, .int ((bfs (fun p => pf d p 2) (avail d q) (rl d (nI q) (dN d 1)) u).2)), (6, .int (avail d q)), (7, .int (nI (qd 0 (rl d (nI q) (dN d 1)) u))), (8, .int (smS (fun p => pf d p 2) (rl d (nI q) (dN d 1)) u)), (9, .int (nI j2))]) hx hb dX5_bestFit_175 hl (by decide) rfl (fun ls hl => ?_)
                          refine lv_iload hx hb dX5_bestFit_177 (lv_at hl 8 rfl) ?_
                          refine w_topi (y := (bfs (fun p => pf d p 2) (avail d q) (rl d (nI q) (dN d 1)) (u + 1)).2) (by rw [bfs_y (Int32.not_lt.mp c_163) (Int32.not_le.mp c_170)]) ?_
                          refine lv_istore (lv' := [(5, .int ((bfs (fun p => pf d p 2) (avail d q) (rl d (nI q) (dN d 1)) (u + 1)).2)), (4, .int (nI (qd 0 (rl d (nI q) (dN d 1)) (bfs (fun p => pf d p 2) (avail d q) (rl d (nI q) (dN d 1)) (u + 1)).1))), (0, .ref o), (1, .int (nI q)), (2, .int (nI (mkR 0 (rl d (nI q) (dN d 1))))), (3, .int (nI (rl d (nI q) (dN d 1)).length)), (6, .int (avail d q)), (7, .int (nI (qd 0 (rl d (nI q) (dN d 1)) u))), (8, .int (smS (fun p => pf d p 2) (rl d (nI q) (dN d 1)) u)), (9, .int (nI j2))]) hx hb dX5_bestFit_179 hl (by decide) rfl (fun ls hl => ?_)
                          refine lv_iload hx hb dX5_bestFit_181 (lv_at hl 7 rfl) ?_
                          refine lv_iload_n hx hb dX5_bestFit_183 rfl (lv_at hl 4 rfl) ?_
                          refine lv_isub hx hb dX5_bestFit_184 ?_
                          refine lv_iload_n hx hb dX5_bestFit_185 rfl (lv_at hl 4 rfl) ?_
                          refine lv_iand hx hb dX5_bestFit_186 ?_
                          refine w_topi (y := nI (qd 0 (rl d (nI q) (dN d 1)) ((u + 1) % 2 ^ (rl d (nI q) (dN d 1)).length))) (nxt_I (asc_mono hasc (by decide)) hu) ?_
                          refine lv_istore (lv' := [(7, .int (nI (qd 0 (rl d (nI q) (dN d 1)) ((u + 1) % 2 ^ (rl d (nI q) (dN d 1)).length)))), (5, .int ((bfs (fun p => pf d p 2) (avail d q) (rl d (nI q) (dN d 1)) (u + 1)).2)), (4, .int (nI (qd 0 (rl d (nI q) (dN d 1)) (bfs (fun p => pf d p 2) (avail d q) (rl d (nI q) (dN d 1)) (u + 1)).1))), (0, .ref o), (1, .int (nI q)), (2, .int (nI (mkR 0 (rl d (nI q) (dN d 1))))), (3, .int (nI (rl d (nI q) (dN d 1)).length)), (6, .int (avail d q)), (8, .int (smS (fun p => pf d p 2) (rl d (nI q) (dN d 1)) u)), (9, .int (nI j2))]) hx hb dX5_bestFit_187 hl (by decide) rfl (fun ls hl => ?_)
                          refine lv_iload hx hb dX5_bestFit_189 (lv_at hl 0 rfl) ?_
                          refine lv_if_ne (tgt := 104) hx hb dX5_bestFit_191 (by decide) (fun c_191 => ?_) (fun c_191 => ?_)
                          · have hs1 : u + 1 < 2 ^ (rl d (nI q) (dN d 1)).length := by rcases Nat.lt_or_ge (u + 1) (2 ^ (rl d (nI q) (dN d 1)).length) with z | z; exact z; rw [show u + 1 = 2 ^ (rl d (nI q) (dN d 1)).length by omega, Nat.mod_self, qd_0] at c_191; exact absurd rfl c_191
                            rw [Nat.mod_eq_of_lt hs1] at hl
                            exact ih_104 (u + 1) (by omega) (by omega) ls (lv_sub hl [3, 4, 5, 6, 2, 1, 7, 0] rfl)
                          · have hs1 : u + 1 = 2 ^ (rl d (nI q) (dN d 1)).length := by have h0 := qd_z (b := 0) (R := (rl d (nI q) (dN d 1))) (Nat.mod_lt (u + 1) (Nat.two_pow_pos _)) (nI_eq' (b := 0) c_191 (Nat.lt_trans (qd_lt hasc) (by decide)) (by decide)); rcases Nat.lt_or_ge (u + 1) (2 ^ (rl d (nI q) (dN d 1)).length) with z | z; (rw [Nat.mod_eq_of_lt z] at h0; omega); omega
                            refine lv_iload hx hb dX5_bestFit_194 (lv_at hl 2 rfl) ?_
                            exact w_iret C (by rw [pick_t (Classical.not_not.mp b_10)]; unfold fitV; rw [ci_n (by omega), ← hs1]) (by rw [pick_f b_10]; exact hP) hS dX5_bestFit_196
                    · have g_118 := nI_nle' c_118 (by omega) (by omega)
                      refine lv_iload hx hb dX5_bestFit_121 (lv_at hl 8 rfl) ?_
                      refine lv_iload hx hb dX5_bestFit_123 (lv_at hl 7 rfl) ?_
                      refine lv_iload hx hb dX5_bestFit_125 (lv_at hl 9 rfl) ?_
                      refine lv_ishr hx hb dX5_bestFit_127 ?_
                      refine lv_iconst (v := 1) hx hb dX5_bestFit_128 rfl ?_
                      refine lv_iand hx hb dX5_bestFit_129 ?_
                      refine w_topi (y := nI (qd 0 (rl d (nI q) (dN d 1)) u / 2 ^ j2 % 2)) (bit_I (Nat.lt_trans (qd_lt hasc) (by decide)) (by omega)) ?_
                      refine lv_iconst (v := 1) hx hb dX5_bestFit_130 rfl ?_
                      have J_150 : ∀ (z : Int32), (z = if qd 0 (rl d (nI q) (dN d 1)) u / 2 ^ j2 % 2 = 1 then pf d (0 + j2) 2 else 0) → ∀ (ls : Array Slot), lv_has ls 10 [(0, .ref o), (1, .int (nI q)), (2, .int (nI (mkR 0 (rl d (nI q) (dN d 1))))), (3, .int (nI (rl d (nI q) (dN d 1)).length)), (4, .int (nI (qd 0 (rl d (nI q) (dN d 1)) (bfs (fun p => pf d p 2) (avail d q) (rl d (nI q) (dN d 1)) u).1))), (5, .int ((bfs (fun p => pf d p 2) (avail d q) (rl d (nI q) (dN d 1)) u).2)), (6, .int (avail d q)), (7, .int (nI (qd 0 (rl d (nI q) (dN d 1)) u))), (8, .int (sumI (fun j => if qd 0 (rl d (nI q) (dN d 1)) u / 2 ^ j % 2 = 1 then pf d (0 + j) 2 else 0) j2)), (9, .int (nI j2))] → W p l e (Rm 4 86 0 0) s m ([.ref o, .int (nI q)] : List Value).toArray below meth c H locs 0 0 (MQ below (wQ D (some (.int (pick (hasC d (nI q)) (fitV d (nI q))))) ((o, .inr (0, [.int (pick (¬ hasC d (nI q)) 1), .ref a1, .int bl, .int tl, .int ps, .int er, .int ea, .int eo, .ref a8, .ref a9, .ref a10, .int ud, .int ns, .int ne, .int se, .ref a15])) :: (a8, .inl (k 0, 1798, .inl d)) :: wr) A) ([.ref o, .int (nI q)] : List Value).toArray s 0 0 A) (F0 m 150 ls [.int z, .int (sumI (fun j => if qd 0 (rl d (nI q) (dN d 1)) u / 2 ^ j % 2 = 1 then pf d (0 + j) 2 else 0) j2)]) := by
                        intro z h_z ls hl
                        refine lv_iadd hx hb dX5_bestFit_150 ?_
                        refine w_topi (y := sumI (fun j => if qd 0 (rl d (nI q) (dN d 1)) u / 2 ^ j % 2 = 1 then pf d (0 + j) 2 else 0) (j2 + 1)) (by rw [h_z]; rfl) ?_
                        refine lv_istore (lv' := [(8, .int (sumI (fun j => if qd 0 (rl d (nI q) (dN d 1)) u / 2 ^ j % 2 = 1 then pf d (0 + j) 2 else 0) (j2 + 1))), (0, .ref o), (1, .int (nI q)), (2, .int (nI (mkR 0 (rl d (nI q) (dN d 1))))), (3, .int (nI (rl d (nI q) (dN d 1)).length)), (4, .int (nI (qd 0 (rl d (nI q) (dN d 1)) (bfs (fun p => pf d p 2) (avail d q) (rl d (nI q) (dN d 1)) u).1))), (5, .int ((bfs (fun p => pf d p 2) (avail d q) (rl d (nI q) (dN d 1)) u).2)), (6, .int (avail d q)), (7, .int (nI (qd 0 (rl d (nI q) (dN d 1)) u))), (9, .int (nI j2))]) hx hb dX5_bestFit_151 hl (by decide) rfl (fun ls hl => ?_)
                        refine lv_iinc (v := nI (j2 + 1)) (lv' := [(9, .int (nI (j2 + 1))), (8, .int (sumI (fun j => if qd 0 (rl d (nI q) (dN d 1)) u / 2 ^ j % 2 = 1 then pf d (0 + j) 2 else 0) (j2 + 1))), (0, .ref o), (1, .int (nI q)), (2, .int (nI (mkR 0 (rl d (nI q) (dN d 1))))), (3, .int (nI (rl d (nI q) (dN d 1)).length)), (4, .int (nI (qd 0 (rl d (nI q) (dN d 1)) (bfs (fun p => pf d p 2) (avail d q) (rl d (nI q) (dN d 1)) u).1))), (5, .int ((bfs (fun p => pf d p 2) (avail d q) (rl d (nI q) (dN d 1)) u).2)), (6, .int (avail d q)), (7, .int (nI (qd 0 (rl d (nI q) (dN d 1)) u)))]) hx hb dX5_bestFit_153 hl (k := 9) rfl (nI_1 j2) (by decide) rfl (fun ls hl => ?_)
                        refine lv_goto (tgt := 110) hx hb dX5_bestFit_156 (by decide) ?_
                        exact ih_110 (j2 + 1) (by omega) (by omega) ls (lv_sub hl [2, 3, 4, 5, 6, 7, 8, 9, 1, 0] rfl)
                      refine lv_icmp_ne (tgt := 149) hx hb dX5_bestFit_131 (by decide) (fun c_131 => ?_) (fun c_131 => ?_)
                      · refine lv_iconst (v := 0) hx hb dX5_bestFit_149 rfl ?_
                        exact J_150 0 (by first | exact (if_pos (nI_eq' (b := 1) c_131 (by omega) (by decide))).symm | exact (if_neg (fun h => c_131 (by rw [h]; rfl))).symm) ls hl
                      · refine lv_aload_n hx hb dX5_bestFit_134 rfl (lv_at hl 0 rfl) ?_
                        refine va_get hx hb hts in_X5 hown hK hP 0 rfl rfl 8 (by decide) (hts _ q1670) (fun _ h => h) rfl dX5_bestFit_135 ?_
                        refine lv_iload hx hb dX5_bestFit_138 (lv_at hl 9 rfl) ?_
                        refine r_callS (As := [.int (nI j2)]) (rest := [.ref a8, .int (sumI (fun j => if qd 0 (rl d (nI q) (dN d 1)) u / 2 ^ j % 2 = 1 then pf d (0 + j) 2 else 0) j2)]) C (m_presentationN l D k j2) (va_cwS 1 hts (lw_S q1917 q1918 q76 q1919) rfl rfl rfl (by decide +kernel) ⟨Nat.le_of_ble_eq_true rfl, Nat.le_of_ble_eq_true rfl⟩) hK trivial rfl hl.1 rfl (Nat.le_of_ble_eq_true rfl) dX5_bestFit_140 ⟨Nat.le_of_ble_eq_true rfl, Nat.le_of_ble_eq_true rfl⟩ ?_
                        refine lv_iconst (v := 2) hx hb dX5_bestFit_143 rfl ?_
                        refine lv_iadd hx hb dX5_bestFit_144 ?_
                        refine w_topi (y := nI ((154 + 6 * j2) + 2)) (nI_add (154 + 6 * j2) 2) ?_
                        refine w_iald hx hb hK hP 1 rfl ((154 + 6 * j2) + 2) rfl (by omega) (Nat.le_of_ble_eq_true rfl) dX5_bestFit_145 ?_
                        refine w_topi (y := pf d (0 + j2) 2) (by rw [Nat.zero_add]; rfl) ?_
                        refine lv_goto (tgt := 150) hx hb dX5_bestFit_146 (by decide) ?_
                        exact J_150 (pf d (0 + j2) 2) (by first | exact (if_pos (nI_eq' (b := 1) c_131 (by omega) (by decide))).symm | exact (if_neg (fun h => c_131 (by rw [h]; rfl))).symm) ls hl
                exact loop_110 (dN d 1 + 1) 0 (Nat.zero_le _) (by omega) ls (lv_sub hl [2, 3, 4, 5, 6, 7, 8, 9, 1, 0] rfl)
            exact loop_104 (2 ^ (rl d (nI q) (dN d 1)).length + 1) 0 (Nat.two_pow_pos _) (by omega) ls (lv_sub hl [1, 2, 3, 4, 5, 6, 7, 0] rfl)
          · have g_49 := nI_nle' (a := 12) c_49 (by decide) (by omega)
            refine lv_aload_n hx hb dX5_bestFit_52 rfl (lv_at hl 0 rfl) ?_
            refine va_get hx hb hts in_X5 hown hK hP 0 rfl rfl 8 (by decide) (hts _ q1670) (fun _ h => h) rfl dX5_bestFit_53 ?_
            refine lv_iload hx hb dX5_bestFit_56 (lv_at hl 7 rfl) ?_
            refine r_callS (As := [.int (nI j)]) (rest := [.ref a8]) C (m_presentationN l D k j) (va_cwS 1 hts (lw_S q1917 q1918 q76 q1919) rfl rfl rfl (by decide +kernel) ⟨Nat.le_of_ble_eq_true rfl, Nat.le_of_ble_eq_true rfl⟩) hK trivial rfl hl.1 rfl (Nat.le_of_ble_eq_true rfl) dX5_bestFit_58 ⟨Nat.le_of_ble_eq_true rfl, Nat.le_of_ble_eq_true rfl⟩ ?_
            refine w_iald hx hb hK hP 1 rfl (154 + 6 * j) rfl (by omega) (Nat.le_of_ble_eq_true rfl) dX5_bestFit_61 ?_
            refine w_topi (y := pf d j 0) rfl ?_
            refine lv_iload_n hx hb dX5_bestFit_62 rfl (lv_at hl 1 rfl) ?_
            refine lv_icmp_ne (tgt := 95) hx hb dX5_bestFit_63 (by decide) (fun c_63 => ?_) (fun c_63 => ?_)
            · refine lv_iinc (v := nI (j + 1)) (lv' := [(7, .int (nI (j + 1))), (0, .ref o), (1, .int (nI q)), (2, .int (nI (mkR 0 (rl d (nI q) j)))), (3, .int (nI (rl d (nI q) j).length)), (4, .int (nI (qd 0 (rl d (nI q) (dN d 1)) (bfs (fun p => pf d p 2) (avail d q) (rl d (nI q) (dN d 1)) 0).1))), (5, .int ((bfs (fun p => pf d p 2) (avail d q) (rl d (nI q) (dN d 1)) 0).2)), (6, .int (avail d q))]) hx hb dX5_bestFit_95 hl (k := 7) rfl (nI_1 j) (by decide) rfl (fun ls hl => ?_)
              refine lv_goto (tgt := 35) hx hb dX5_bestFit_98 (by decide) ?_
              have hsk : rl d (nI q) (j + 1) = rl d (nI q) j := rl_skip (fun h => c_63 h.1)
              rw [← hsk] at hl
              exact ih_35 (j + 1) (by omega) (by omega) ls (lv_sub hl [1, 2, 3, 4, 5, 6, 7, 0] rfl)
            · refine lv_aload_n hx hb dX5_bestFit_66 rfl (lv_at hl 0 rfl) ?_
              refine va_get hx hb hts in_X5 hown hK hP 0 rfl rfl 8 (by decide) (hts _ q1670) (fun _ h => h) rfl dX5_bestFit_67 ?_
              refine lv_iload hx hb dX5_bestFit_70 (lv_at hl 7 rfl) ?_
              refine r_callS (As := [.int (nI j)]) (rest := [.ref a8]) C (m_presentationN l D k j) (va_cwS 1 hts (lw_S q1917 q1918 q76 q1919) rfl rfl rfl (by decide +kernel) ⟨Nat.le_of_ble_eq_true rfl, Nat.le_of_ble_eq_true rfl⟩) hK trivial rfl hl.1 rfl (Nat.le_of_ble_eq_true rfl) dX5_bestFit_72 ⟨Nat.le_of_ble_eq_true rfl, Nat.le_of_ble_eq_true rfl⟩ ?_
              refine lv_iconst (v := 4) hx hb dX5_bestFit_75 rfl ?_
              refine lv_iadd hx hb dX5_bestFit_76 ?_
              refine w_topi (y := nI ((154 + 6 * j) + 4)) (nI_add (154 + 6 * j) 4) ?_
              refine w_iald hx hb hK hP 1 rfl ((154 + 6 * j) + 4) rfl (by omega) (Nat.le_of_ble_eq_true rfl) dX5_bestFit_77 ?_
              refine w_topi (y := pf d j 4) rfl ?_
              refine lv_iconst (v := 3) hx hb dX5_bestFit_78 rfl ?_
              refine lv_icmp_eq (tgt := 85) hx hb dX5_bestFit_79 (by decide) (fun c_79 => ?_) (fun c_79 => ?_)
              · refine lv_iload_n hx hb dX5_bestFit_85 rfl (lv_at hl 2 rfl) ?_
                refine lv_iconst (v := 1) hx hb dX5_bestFit_86 rfl ?_
                refine lv_iload hx hb dX5_bestFit_87 (lv_at hl 7 rfl) ?_
                refine lv_ishl hx hb dX5_bestFit_89 ?_
                refine lv_ior hx hb dX5_bestFit_90 ?_
                refine w_topi (y := nI (mkR 0 (rl d (nI q) (j + 1)))) (by rw [rl_take g_49 c_63 c_79]; exact or_push (rl_asc j) (by omega)) ?_
                refine lv_istore_n (lv' := [(2, .int (nI (mkR 0 (rl d (nI q) (j + 1))))), (0, .ref o), (1, .int (nI q)), (3, .int (nI (rl d (nI q) j).length)), (4, .int (nI (qd 0 (rl d (nI q) (dN d 1)) (bfs (fun p => pf d p 2) (avail d q) (rl d (nI q) (dN d 1)) 0).1))), (5, .int ((bfs (fun p => pf d p 2) (avail d q) (rl d (nI q) (dN d 1)) 0).2)), (6, .int (avail d q)), (7, .int (nI j))]) hx hb dX5_bestFit_91 rfl hl (by decide) rfl (fun ls hl => ?_)
                refine lv_iinc (v := nI (rl d (nI q) (j + 1)).length) (lv' := [(3, .int (nI (rl d (nI q) (j + 1)).length)), (2, .int (nI (mkR 0 (rl d (nI q) (j + 1))))), (0, .ref o), (1, .int (nI q)), (4, .int (nI (qd 0 (rl d (nI q) (dN d 1)) (bfs (fun p => pf d p 2) (avail d q) (rl d (nI q) (dN d 1)) 0).1))), (5, .int ((bfs (fun p => pf d p 2) (avail d q) (rl d (nI q) (dN d 1)) 0).2)), (6, .int (avail d q)), (7, .int (nI j))]) hx hb dX5_bestFit_92 hl (k := 3) rfl (by rw [rl_take g_49 c_63 c_79, List.length_append]; exact nI_1 _) (by decide) rfl (fun ls hl => ?_)
                refine lv_iinc (v := nI (j + 1)) (lv' := [(7, .int (nI (j + 1))), (3, .int (nI (rl d (nI q) (j + 1)).length)), (2, .int (nI (mkR 0 (rl d (nI q) (j + 1))))), (0, .ref o), (1, .int (nI q)), (4, .int (nI (qd 0 (rl d (nI q) (dN d 1)) (bfs (fun p => pf d p 2) (avail d q) (rl d (nI q) (dN d 1)) 0).1))), (5, .int ((bfs (fun p => pf d p 2) (avail d q) (rl d (nI q) (dN d 1)) 0).2)), (6, .int (avail d q))]) hx hb dX5_bestFit_95 hl (k := 7) rfl (nI_1 j) (by decide) rfl (fun ls hl => ?_)
                refine lv_goto (tgt := 35) hx hb dX5_bestFit_98 (by decide) ?_
                exact ih_35 (j + 1) (by omega) (by omega) ls (lv_sub hl [3, 4, 2, 1, 5, 6, 7, 0] rfl)
              · refine lv_goto (tgt := 95) hx hb dX5_bestFit_82 (by decide) ?_
                refine lv_iinc (v := nI (j + 1)) (lv' := [(7, .int (nI (j + 1))), (0, .ref o), (1, .int (nI q)), (2, .int (nI (mkR 0 (rl d (nI q) j)))), (3, .int (nI (rl d (nI q) j).length)), (4, .int (nI (qd 0 (rl d (nI q) (dN d 1)) (bfs (fun p => pf d p 2) (avail d q) (rl d (nI q) (dN d 1)) 0).1))), (5, .int ((bfs (fun p => pf d p 2) (avail d q) (rl d (nI q) (dN d 1)) 0).2)), (6, .int (avail d q))]) hx hb dX5_bestFit_95 hl (k := 7) rfl (nI_1 j) (by decide) rfl (fun ls hl => ?_)
                refine lv_goto (tgt := 35) hx hb dX5_bestFit_98 (by decide) ?_
                have hsk : rl d (nI q) (j + 1) = rl d (nI q) j := rl_skip (fun h => c_79 h.2)
                rw [← hsk] at hl
                exact ih_35 (j + 1) (by omega) (by omega) ls (lv_sub hl [1, 2, 3, 4, 5, 6, 7, 0] rfl)
    exact loop_35 (dN d 1 + 1) 0 (Nat.zero_le _) (by omega) ls (lv_sub hl [6, 7, 5, 4, 3, 2, 1, 0] rfl)
  · have b_10 := bI_nz c_10
    rw [pick_t b_10] at hP
    refine lv_iconst (v := 0) hx hb dX5_bestFit_13 rfl ?_
    exact w_iret C (pick_f b_10).symm (by rw [pick_t b_10]; exact hP) hS dX5_bestFit_14
