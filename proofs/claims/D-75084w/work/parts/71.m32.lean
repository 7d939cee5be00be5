/-! the component: bestFit (printed by gen/m32.py) -/
set_option maxRecDepth 100000
set_option maxHeartbeats 4000000 in
theorem c_bestFit (l : Launch) (D : va_G) (k : Nat → ClassId) (g : Nat → Nat) (z : Nat → Nat) (hf d : Nat → Int32) (hz : dkN g z hf d) (x : Nat) (hx0 : x < dN d 0) : gM l D k yX2_bestFit cX2_bestFit 10 (some .int) 6 130 1 12 [.ref (z 0), .int (nI x)] (hKX (fun HH => dk D k z hf d HH) g) (some (.int (fitV d (nI x)))) := by
  refine gM_of (by decide) (Nat.le_of_ble_eq_true rfl) ?_
  intro p e s m below meth c ls C hK ⟨hdk, hX⟩ hS hl
  have hP : va_P D clA [] s.heap := va_nil
  have hD : va_D (fun q => s.heap.size ≤ q) [] := va_D_nod.mpr ⟨List.nodup_nil, fun q h => by cases h⟩
  have hA : ∀ q, s.heap.size ≤ q → s.heap.size ≤ q := fun _ h => h
  have hAN : ∀ q, s.heap.size ≤ q → g 0 ≤ q := fun q h => Nat.le_trans hX.le h
  have hN : NW s := hX.nw
  obtain ⟨hx, hb, hr, hml, hown, hts, hlk⟩ := id C
  have hl : lv_has ls 10 [(0, .ref (z 0)), (1, .int (nI x))] := hl
  have hF : va_P D clA [(z 0, .inr (2, [.ref (z 1), .ref (z 3), .ref (z 6), .ref (z 9), .int (d 3)])), (z 1, .inr (3, [.ref (z 2), .int (d 2)])), (z 2, .inl (k 0, 16, .inl hf)), (z 3, .inr (4, [.ref (z 4), .int 12])), (z 4, .inr (12, [.int (nI (z 12)), .ref (z 5), .int (nI (dN d 0))])), (z 6, .inr (4, [.ref (z 7), .int 24])), (z 7, .inr (12, [.int (nI (z 13)), .ref (z 8), .int (nI (dN d 1))]))] s.heap := hdk.1
  have hd := hz.1
  have hh := hz.2.1
  have h10 := hz.2.2
  obtain ⟨h10, h10b, h11, h11b, -⟩ := h10
  have hd0 := hd.1.1.2
  have hd1 := hd.1.2.1.2
  refine lv_bipush (v := 12) hx hb dX2_bestFit_0 rfl ?_
  refine n_newa (atype := .int) (a0 := (12, .inl (fun _ => 0))) hx hb (hts _ q152) hK hP (va_D_of hD rfl) hS hA 0 rfl (fun _ => rfl) (by decide) rfl (Nat.le_of_ble_eq_true rfl) (by first | exact Nat.le_of_ble_eq_true rfl | omega | (dsimp only [Rm]; omega)) (by first | exact Nat.le_of_ble_eq_true rfl | omega | (dsimp only [Rm]; omega)) dX2_bestFit_2 (fun ra H _ hP hD hS => ?_)
  refine lv_astore_n (lv' := [(2, .ref ra), (0, .ref (z 0)), (1, .int (nI x))]) hx hb dX2_bestFit_4 rfl hl (by decide) rfl (fun ls hl => ?_)
  refine lv_iconst (v := 0) hx hb dX2_bestFit_5 rfl ?_
  refine lv_istore_n (lv' := [(3, .int 0), (2, .ref ra), (0, .ref (z 0)), (1, .int (nI x))]) hx hb dX2_bestFit_6 rfl hl (by decide) rfl (fun ls hl => ?_)
  have hl12 := rl_len (d := d) (x := nI x)
  refine lv_iconst (v := 0) hx hb dX2_bestFit_7 rfl ?_
  refine lv_istore (lv' := [(4, .int 0), (3, .int 0), (2, .ref ra), (0, .ref (z 0)), (1, .int (nI x))]) hx hb dX2_bestFit_8 hl (by decide) rfl (fun ls hl => ?_)
  have loop_10 : ∀ (n9 : Nat) (p9 : Nat) (rf : Nat → Int32), (p9 ≤ dN d 1) → (∀ k, k < (rl d (nI x) p9).length → rf k = nI ((rl d (nI x) p9).getD k 0)) → (dN d 1 + 1 ≤ p9 + n9) → ∀ (H : Heap) (locs : List Loc), va_P D clA [(ra, .inl (k 0, 12, .inl rf))] H → va_D (fun q => s.heap.size ≤ q) [(ra, .inl (k 0, 12, .inl rf))] → va_S (fun q => s.heap.size ≤ q) s.heap H locs → ∀ (ls : Array Slot), lv_has ls 10 [(0, .ref (z 0)), (1, .int (nI x)), (2, .ref ra), (3, .int (nI (rl d (nI x) p9).length)), (4, .int (nI p9))] → W p l e (Rm 6 130 1 12) s m ([.ref (z 0), .int (nI x)] : List Value).toArray below meth c H locs 1 12 (MQ below (gQ (some (.int (fitV d (nI x))))) ([.ref (z 0), .int (nI x)] : List Value).toArray s 1 12 (fun _ => False)) (F0 m 10 ls []) := by
    intro n9
    induction n9 with
    | zero =>
      intro p9 rf hp hrf hm
      exact absurd hm (by omega)
    | succ n9 ih_10 =>
      intro p9 rf hp hrf hm H locs hP hD hS ls hl
      have hl12p := rl_len (d := d) (x := nI x) p9
      refine lv_iload hx hb dX2_bestFit_10 (lv_at hl 4 rfl) ?_
      refine lv_aload_n hx hb dX2_bestFit_12 rfl (lv_at hl 0 rfl) ?_
      refine va_get hx hb hts in_X2 hown hK (frzF hF hS) 0 rfl rfl 2 (by decide) (hts _ q201) (fun _ h => h) rfl dX2_bestFit_13 ?_
      refine r_after (va_runV (As := []) (rest := [.int (nI p9)]) (g := F0 m 16 ls [.ref (z 6), .int (nI p9)]) C.fix (c_bookSize l D k g (z 6) (z 7) (z 8) (nI (z 13)) 24 (nI (dN d 1))) (cwV 0 hts (lw_V q346 q252 q253 q73 q254) rfl rfl rfl (by decide +kernel) ⟨Nat.le_of_ble_eq_true rfl, Nat.le_of_ble_eq_true rfl⟩) (preV mv2_hKX hK (va_recv hK (frzF hF hS) (ci := 4) (q0 := 5) rfl rfl) (fun U hU hW => (hKX_at hX hS hAN (va_cons ((frzF hF hS) 5 _ rfl) (va_cons ((frzF hF hS) 6 _ rfl) va_nil)) hU hW))) rfl rfl hl.1 rfl (lv_room (Nat.le_of_ble_eq_true rfl)) dX2_bestFit_16 ⟨(by first | exact Nat.le_of_ble_eq_true rfl | omega | (dsimp only [Rm]; omega)), (by first | exact Nat.le_of_ble_eq_true rfl | omega | (dsimp only [Rm]; omega))⟩) ?_
      refine lv_icmp_ge (tgt := 83) hx hb dX2_bestFit_19 (by decide) (fun c_19 => ?_) (fun c_19 => ?_)
      · have g_19 := nI_le' c_19 (by omega) (by omega)
        have e_R : rl d (nI x) p9 = rl d (nI x) (dN d 1) := by rw [show p9 = dN d 1 by omega]
        obtain ⟨R, hR⟩ : ∃ R, R = rl d (nI x) (dN d 1) := ⟨_, rfl⟩
        rw [e_R, ← hR] at hl hrf
        have hasc := rl_asc (d := d) (x := nI x) (dN d 1)
        have hRl := rl_len (d := d) (x := nI x) (dN d 1)
        rw [← hR] at hasc hRl
        have hpw : 2 ^ R.length ≤ 4096 := Nat.pow_le_pow_right (n := 2) (by decide) hRl
        have hpw0 : 1 ≤ 2 ^ R.length := Nat.two_pow_pos _
        refine lv_aload_n hx hb dX2_bestFit_83 rfl (lv_at hl 0 rfl) ?_
        refine lv_iload_n hx hb dX2_bestFit_84 rfl (lv_at hl 1 rfl) ?_
        refine r_after (va_runV (As := [.int (nI x)]) (rest := []) (g := F0 m 85 ls [.int (nI x), .ref (z 0)]) C.fix (c_available l D k g z hf d hz x (by omega)) (cwV 1 hts (lw_V q1480 q358 q359 q71 q360) rfl rfl rfl (by decide +kernel) ⟨Nat.le_of_ble_eq_true rfl, Nat.le_of_ble_eq_true rfl⟩) (preV mv2_hKX hK (va_recv hK (frzF hF hS) (ci := 2) (q0 := 0) rfl rfl) (fun U hU hW => (hKX_at hX hS hAN (dk_frF hdk hS) hU hW))) rfl rfl hl.1 rfl (lv_room (Nat.le_of_ble_eq_true rfl)) dX2_bestFit_85 ⟨(by first | exact Nat.le_of_ble_eq_true rfl | omega | (dsimp only [Rm]; omega)), (by first | exact Nat.le_of_ble_eq_true rfl | omega | (dsimp only [Rm]; omega))⟩) ?_
        refine lv_istore (lv' := [(4, .int (avail d x)), (0, .ref (z 0)), (1, .int (nI x)), (2, .ref ra), (3, .int (nI R.length))]) hx hb dX2_bestFit_88 hl (by decide) rfl (fun ls hl => ?_)
        refine lv_iconst (v := 0) hx hb dX2_bestFit_90 rfl ?_
        refine lv_istore (lv' := [(5, .int 0), (4, .int (avail d x)), (0, .ref (z 0)), (1, .int (nI x)), (2, .ref ra), (3, .int (nI R.length))]) hx hb dX2_bestFit_91 hl (by decide) rfl (fun ls hl => ?_)
        refine lv_iconst (v := 0) hx hb dX2_bestFit_93 rfl ?_
        refine lv_istore (lv' := [(6, .int 0), (5, .int 0), (4, .int (avail d x)), (0, .ref (z 0)), (1, .int (nI x)), (2, .ref ra), (3, .int (nI R.length))]) hx hb dX2_bestFit_94 hl (by decide) rfl (fun ls hl => ?_)
        refine lv_iconst (v := 1) hx hb dX2_bestFit_96 rfl ?_
        refine lv_istore (lv' := [(7, .int 1), (6, .int 0), (5, .int 0), (4, .int (avail d x)), (0, .ref (z 0)), (1, .int (nI x)), (2, .ref ra), (3, .int (nI R.length))]) hx hb dX2_bestFit_97 hl (by decide) rfl (fun ls hl => ?_)
        have hl : lv_has ls 10 [(7, .int (nI 1)), (6, .int ((bfs (fun u => pf d u 2) (avail d x) R 1).2)), (5, .int (nI (bfs (fun u => pf d u 2) (avail d x) R 1).1)), (4, .int (avail d x)), (0, .ref (z 0)), (1, .int (nI x)), (2, .ref ra), (3, .int (nI R.length))] := by rw [bfs_1]; exact hl
        have loop_99 : ∀ (n8 : Nat) (s9 : Nat), (1 ≤ s9) → (s9 ≤ 2 ^ R.length) → (2 ^ R.length + 1 ≤ s9 + n8) → ∀ (H : Heap) (locs : List Loc), va_P D clA [(ra, .inl (k 0, 12, .inl rf))] H → va_D (fun q => s.heap.size ≤ q) [(ra, .inl (k 0, 12, .inl rf))] → va_S (fun q => s.heap.size ≤ q) s.heap H locs → ∀ (ls : Array Slot), lv_has ls 10 [(0, .ref (z 0)), (1, .int (nI x)), (2, .ref ra), (3, .int (nI R.length)), (4, .int (avail d x)), (5, .int (nI (bfs (fun u => pf d u 2) (avail d x) R s9).1)), (6, .int ((bfs (fun u => pf d u 2) (avail d x) R s9).2)), (7, .int (nI s9))] → W p l e (Rm 6 130 1 12) s m ([.ref (z 0), .int (nI x)] : List Value).toArray below meth c H locs 1 12 (MQ below (gQ (some (.int (fitV d (nI x))))) ([.ref (z 0), .int (nI x)] : List Value).toArray s 1 12 (fun _ => False)) (F0 m 99 ls []) := by
          intro n8
          induction n8 with
          | zero =>
            intro s9 hs1 hs2 hm
            exact absurd hm (by omega)
          | succ n8 ih_99 =>
            intro s9 hs1 hs2 hm H locs hP hD hS ls hl
            refine lv_iload hx hb dX2_bestFit_99 (lv_at hl 7 rfl) ?_
            refine lv_iconst (v := 1) hx hb dX2_bestFit_101 rfl ?_
            refine lv_iload_n hx hb dX2_bestFit_102 rfl (lv_at hl 3 rfl) ?_
            refine lv_ishl hx hb dX2_bestFit_103 ?_
            refine w_topi (y := nI (2 ^ R.length)) (nI_bit R.length (by omega)) ?_
            refine lv_icmp_ge (tgt := 193) hx hb dX2_bestFit_104 (by decide) (fun c_104 => ?_) (fun c_104 => ?_)
            · have g_104 := nI_le' c_104 (by omega) (by omega)
              obtain rfl : s9 = 2 ^ R.length := by omega
              have hBl := bfs_lt (A := (fun u => pf d u 2)) (lim := avail d x) (R := R) (2 ^ R.length) (by omega)
              obtain ⟨B, hB⟩ : ∃ B, B = (bfs (fun u => pf d u 2) (avail d x) R (2 ^ R.length)).1 := ⟨_, rfl⟩
              rw [← hB] at hl hBl
              refine lv_iconst (v := 0) hx hb dX2_bestFit_193 rfl ?_
              refine lv_istore (lv' := [(7, .int 0), (0, .ref (z 0)), (1, .int (nI x)), (2, .ref ra), (3, .int (nI R.length)), (4, .int (avail d x)), (5, .int (nI B)), (6, .int ((bfs (fun u => pf d u 2) (avail d x) R (2 ^ R.length)).2))]) hx hb dX2_bestFit_194 hl (by decide) rfl (fun ls hl => ?_)
              refine lv_iconst (v := 0) hx hb dX2_bestFit_196 rfl ?_
              refine lv_istore (lv' := [(8, .int 0), (7, .int 0), (0, .ref (z 0)), (1, .int (nI x)), (2, .ref ra), (3, .int (nI R.length)), (4, .int (avail d x)), (5, .int (nI B)), (6, .int ((bfs (fun u => pf d u 2) (avail d x) R (2 ^ R.length)).2))]) hx hb dX2_bestFit_197 hl (by decide) rfl (fun ls hl => ?_)
              have loop_199 : ∀ (n7 : Nat) (k9 : Nat), (k9 ≤ R.length) → (R.length + 1 ≤ k9 + n7) → ∀ (H : Heap) (locs : List Loc), va_P D clA [(ra, .inl (k 0, 12, .inl rf))] H → va_D (fun q => s.heap.size ≤ q) [(ra, .inl (k 0, 12, .inl rf))] → va_S (fun q => s.heap.size ≤ q) s.heap H locs → ∀ (ls : Array Slot), lv_has ls 10 [(0, .ref (z 0)), (1, .int (nI x)), (2, .ref ra), (3, .int (nI R.length)), (4, .int (avail d x)), (5, .int (nI B)), (6, .int ((bfs (fun u => pf d u 2) (avail d x) R (2 ^ R.length)).2)), (7, .int (nI (qsm 0 R B k9))), (8, .int (nI k9))] → W p l e (Rm 6 130 1 12) s m ([.ref (z 0), .int (nI x)] : List Value).toArray below meth c H locs 1 12 (MQ below (gQ (some (.int (fitV d (nI x))))) ([.ref (z 0), .int (nI x)] : List Value).toArray s 1 12 (fun _ => False)) (F0 m 199 ls []) := by
                intro n7
                induction n7 with
                | zero =>
                  intro k9 hk hm7
                  exact absurd hm7 (by omega)
                | succ n7 ih_199 =>
                  intro k9 hk hm7 H locs hP hD hS ls hl
                  refine lv_iload hx hb dX2_bestFit_199 (lv_at hl 8 rfl) ?_
                  refine lv_iload_n hx hb dX2_bestFit_201 rfl (lv_at hl 3 rfl) ?_
                  refine lv_icmp_ge (tgt := 228) hx hb dX2_bestFit_202 (by decide) (fun c_202 => ?_) (fun c_202 => ?_)
                  · have g_202 := nI_le' c_202 (by omega) (by omega)
                    refine lv_iload hx hb dX2_bestFit_228 (lv_at hl 7 rfl) ?_
                    exact g_iret C (by rw [show k9 = R.length by omega, qsm_qd hasc, hB, hR]; unfold fitV; rw [ci_n (by omega)]) hS (by first | exact Nat.le_of_ble_eq_true rfl | omega | (dsimp only [Rm]; omega)) (by first | exact Nat.le_of_ble_eq_true rfl | omega | (dsimp only [Rm]; omega)) dX2_bestFit_230
                  · have g_202 := nI_nle' c_202 (by omega) (by omega)
                    refine lv_iload hx hb dX2_bestFit_205 (lv_at hl 7 rfl) ?_
                    refine lv_iload hx hb dX2_bestFit_207 (lv_at hl 5 rfl) ?_
                    refine lv_iload hx hb dX2_bestFit_209 (lv_at hl 8 rfl) ?_
                    refine lv_ishr hx hb dX2_bestFit_211 ?_
                    refine lv_iconst (v := 1) hx hb dX2_bestFit_212 rfl ?_
                    refine lv_iand hx hb dX2_bestFit_213 ?_
                    refine w_topi (y := nI (B / 2 ^ k9 % 2)) (bit_I (by omega) (by omega)) ?_
                    refine lv_aload_n hx hb dX2_bestFit_214 rfl (lv_at hl 2 rfl) ?_
                    refine lv_iload hx hb dX2_bestFit_215 (lv_at hl 8 rfl) ?_
                    refine w_iald hx hb hK hP 0 rfl k9 rfl (by omega) (Nat.le_of_ble_eq_true rfl) dX2_bestFit_217 ?_
                    refine w_topi (y := nI (R.getD k9 0)) (hrf k9 (by omega)) ?_
                    refine lv_ishl hx hb dX2_bestFit_218 ?_
                    refine lv_ior hx hb dX2_bestFit_219 ?_
                    refine w_topi (y := nI (qsm 0 R B (k9 + 1))) (qsm_step hasc hd1 (by omega)) ?_
                    refine lv_istore (lv' := [(7, .int (nI (qsm 0 R B (k9 + 1)))), (0, .ref (z 0)), (1, .int (nI x)), (2, .ref ra), (3, .int (nI R.length)), (4, .int (avail d x)), (5, .int (nI B)), (6, .int ((bfs (fun u => pf d u 2) (avail d x) R (2 ^ R.length)).2)), (8, .int (nI k9))]) hx hb dX2_bestFit_220 hl (by decide) rfl (fun ls hl => ?_)
                    refine lv_iinc (v := nI (k9 + 1)) (lv' := [(8, .int (nI (k9 + 1))), (7, .int (nI (qsm 0 R B (k9 + 1)))), (0, .ref (z 0)), (1, .int (nI x)), (2, .ref ra), (3, .int (nI R.length)), (4, .int (avail d x)), (5, .int (nI B)), (6, .int ((bfs (fun u => pf d u 2) (avail d x) R (2 ^ R.length)).2))]) hx hb dX2_bestFit_222 hl (k := 8) rfl (nI_1 k9) (by decide) rfl (fun ls hl => ?_)
                    refine lv_goto (tgt := 199) hx hb dX2_bestFit_225 (by decide) ?_
                    exact W_more (by first | exact Nat.le_of_ble_eq_true rfl | omega | (dsimp only [Rm]; omega)) (by first | exact Nat.le_of_ble_eq_true rfl | omega | (dsimp only [Rm]; omega)) (ih_199 (k9 + 1) (by omega) (by omega) _ _ hP (va_D_of hD rfl) hS ls (lv_sub hl [2, 3, 4, 5, 6, 7, 8, 1, 0] rfl))
              exact W_more (by first | exact Nat.le_of_ble_eq_true rfl | omega | (dsimp only [Rm]; omega)) (by first | exact Nat.le_of_ble_eq_true rfl | omega | (dsimp only [Rm]; omega)) (loop_199 (R.length + 1) 0 (Nat.zero_le _) (by omega) _ _ hP (va_D_of hD rfl) hS ls (lv_sub hl [2, 3, 4, 5, 6, 7, 8, 1, 0] rfl))
            · have g_104 := nI_nle' c_104 (by omega) (by omega)
              refine lv_iconst (v := 0) hx hb dX2_bestFit_107 rfl ?_
              refine lv_istore (lv' := [(8, .int 0), (0, .ref (z 0)), (1, .int (nI x)), (2, .ref ra), (3, .int (nI R.length)), (4, .int (avail d x)), (5, .int (nI (bfs (fun u => pf d u 2) (avail d x) R s9).1)), (6, .int ((bfs (fun u => pf d u 2) (avail d x) R s9).2)), (7, .int (nI s9))]) hx hb dX2_bestFit_108 hl (by decide) rfl (fun ls hl => ?_)
              refine lv_iconst (v := 0) hx hb dX2_bestFit_110 rfl ?_
              refine lv_istore (lv' := [(9, .int 0), (8, .int 0), (0, .ref (z 0)), (1, .int (nI x)), (2, .ref ra), (3, .int (nI R.length)), (4, .int (avail d x)), (5, .int (nI (bfs (fun u => pf d u 2) (avail d x) R s9).1)), (6, .int ((bfs (fun u => pf d u 2) (avail d x) R s9).2)), (7, .int (nI s9))]) hx hb dX2_bestFit_111 hl (by decide) rfl (fun ls hl => ?_)
              have loop_113 : ∀ (n7 : Nat) (k9 : Nat), (k9 ≤ R.length) → (R.length + 1 ≤ k9 + n7) → ∀ (H : Heap) (locs : List Loc), va_P D clA [(ra, .inl (k 0, 12, .inl rf))] H → va_D (fun q => s.heap.size ≤ q) [(ra, .inl (k 0, 12, .inl rf))] → va_S (fun q => s.heap.size ≤ q) s.heap H locs → ∀ (ls : Array Slot), lv_has ls 10 [(0, .ref (z 0)), (1, .int (nI x)), (2, .ref ra), (3, .int (nI R.length)), (4, .int (avail d x)), (5, .int (nI (bfs (fun u => pf d u 2) (avail d x) R s9).1)), (6, .int ((bfs (fun u => pf d u 2) (avail d x) R s9).2)), (7, .int (nI s9)), (8, .int (sumI (fun k => if s9 / 2 ^ k % 2 = 1 then pf d (R.getD k 0) 2 else 0) k9)), (9, .int (nI k9))] → W p l e (Rm 6 130 1 12) s m ([.ref (z 0), .int (nI x)] : List Value).toArray below meth c H locs 1 12 (MQ below (gQ (some (.int (fitV d (nI x))))) ([.ref (z 0), .int (nI x)] : List Value).toArray s 1 12 (fun _ => False)) (F0 m 113 ls []) := by
                intro n7
                induction n7 with
                | zero =>
                  intro k9 hk hm7
                  exact absurd hm7 (by omega)
                | succ n7 ih_113 =>
                  intro k9 hk hm7 H locs hP hD hS ls hl
                  refine lv_iload hx hb dX2_bestFit_113 (lv_at hl 9 rfl) ?_
                  refine lv_iload_n hx hb dX2_bestFit_115 rfl (lv_at hl 3 rfl) ?_
                  refine lv_icmp_ge (tgt := 162) hx hb dX2_bestFit_116 (by decide) (fun c_116 => ?_) (fun c_116 => ?_)
                  · have g_116 := nI_le' c_116 (by omega) (by omega)
                    obtain rfl : k9 = R.length := by omega
                    have hl : lv_has ls 10 [(0, .ref (z 0)), (1, .int (nI x)), (2, .ref ra), (3, .int (nI R.length)), (4, .int (avail d x)), (5, .int (nI (bfs (fun u => pf d u 2) (avail d x) R s9).1)), (6, .int ((bfs (fun u => pf d u 2) (avail d x) R s9).2)), (7, .int (nI s9)), (8, .int (smS (fun u => pf d u 2) R s9)), (9, .int (nI R.length))] := hl
                    refine lv_iload hx hb dX2_bestFit_162 (lv_at hl 8 rfl) ?_
                    refine lv_iload hx hb dX2_bestFit_164 (lv_at hl 4 rfl) ?_
                    refine lv_icmp_gt (tgt := 187) hx hb dX2_bestFit_166 (by decide) (fun c_166 => ?_) (fun c_166 => ?_)
                    · have e_b : bfs (fun u => pf d u 2) (avail d x) R (s9 + 1) = bfs (fun u => pf d u 2) (avail d x) R s9 := if_neg (fun h => absurd h.1 (Int32.not_le.mpr c_166))
                      refine lv_iinc (v := nI (s9 + 1)) (lv' := [(7, .int (nI (s9 + 1))), (0, .ref (z 0)), (1, .int (nI x)), (2, .ref ra), (3, .int (nI R.length)), (4, .int (avail d x)), (5, .int (nI (bfs (fun u => pf d u 2) (avail d x) R s9).1)), (6, .int ((bfs (fun u => pf d u 2) (avail d x) R s9).2)), (8, .int (smS (fun u => pf d u 2) R s9)), (9, .int (nI R.length))]) hx hb dX2_bestFit_187 hl (k := 7) rfl (nI_1 s9) (by decide) rfl (fun ls hl => ?_)
                      refine lv_goto (tgt := 99) hx hb dX2_bestFit_190 (by decide) ?_
                      have hl : lv_has ls 10 [(7, .int (nI (s9 + 1))), (0, .ref (z 0)), (1, .int (nI x)), (2, .ref ra), (3, .int (nI R.length)), (4, .int (avail d x)), (5, .int (nI (bfs (fun u => pf d u 2) (avail d x) R (s9 + 1)).1)), (6, .int ((bfs (fun u => pf d u 2) (avail d x) R (s9 + 1)).2)), (8, .int (smS (fun u => pf d u 2) R s9)), (9, .int (nI R.length))] := by rw [e_b]; exact hl
                      exact W_more (by first | exact Nat.le_of_ble_eq_true rfl | omega | (dsimp only [Rm]; omega)) (by first | exact Nat.le_of_ble_eq_true rfl | omega | (dsimp only [Rm]; omega)) (ih_99 (s9 + 1) (by omega) (by omega) (by omega) _ _ hP (va_D_of hD rfl) hS ls (lv_sub hl [1, 2, 3, 4, 5, 6, 7, 0] rfl))
                    · refine lv_iload hx hb dX2_bestFit_169 (lv_at hl 8 rfl) ?_
                      refine lv_iload hx hb dX2_bestFit_171 (lv_at hl 6 rfl) ?_
                      refine lv_icmp_gt (tgt := 179) hx hb dX2_bestFit_173 (by decide) (fun c_173 => ?_) (fun c_173 => ?_)
                      · have e_b : bfs (fun u => pf d u 2) (avail d x) R (s9 + 1) = (s9, smS (fun u => pf d u 2) R s9) := if_pos ⟨Int32.not_lt.mp c_166, c_173⟩
                        refine lv_iload hx hb dX2_bestFit_179 (lv_at hl 7 rfl) ?_
                        refine lv_istore (lv' := [(5, .int (nI s9)), (0, .ref (z 0)), (1, .int (nI x)), (2, .ref ra), (3, .int (nI R.length)), (4, .int (avail d x)), (6, .int ((bfs (fun u => pf d u 2) (avail d x) R s9).2)), (7, .int (nI s9)), (8, .int (smS (fun u => pf d u 2) R s9)), (9, .int (nI R.length))]) hx hb dX2_bestFit_181 hl (by decide) rfl (fun ls hl => ?_)
                        refine lv_iload hx hb dX2_bestFit_183 (lv_at hl 8 rfl) ?_
                        refine lv_istore (lv' := [(6, .int (smS (fun u => pf d u 2) R s9)), (5, .int (nI s9)), (0, .ref (z 0)), (1, .int (nI x)), (2, .ref ra), (3, .int (nI R.length)), (4, .int (avail d x)), (7, .int (nI s9)), (8, .int (smS (fun u => pf d u 2) R s9)), (9, .int (nI R.length))]) hx hb dX2_bestFit_185 hl (by decide) rfl (fun ls hl => ?_)
                        refine lv_iinc (v := nI (s9 + 1)) (lv' := [(7, .int (nI (s9 + 1))), (6, .int (smS (fun u => pf d u 2) R s9)), (5, .int (nI s9)), (0, .ref (z 0)), (1, .int (nI x)), (2, .ref ra), (3, .int (nI R.length)), (4, .int (avail d x)), (8, .int (smS (fun u => pf d u 2) R s9)), (9, .int (nI R.length))]) hx hb dX2_bestFit_187 hl (k := 7) rfl (nI_1 s9) (by decide) rfl (fun ls hl => ?_)
                        refine lv_goto (tgt := 99) hx hb dX2_bestFit_190 (by decide) ?_
                        have hl : lv_has ls 10 [(7, .int (nI (s9 + 1))), (6, .int ((bfs (fun u => pf d u 2) (avail d x) R (s9 + 1)).2)), (5, .int (nI (bfs (fun u => pf d u 2) (avail d x) R (s9 + 1)).1)), (0, .ref (z 0)), (1, .int (nI x)), (2, .ref ra), (3, .int (nI R.length)), (4, .int (avail d x)), (8, .int (smS (fun u => pf d u 2) R s9)), (9, .int (nI R.length))] := by rw [e_b]; exact hl
                        exact W_more (by first | exact Nat.le_of_ble_eq_true rfl | omega | (dsimp only [Rm]; omega)) (by first | exact Nat.le_of_ble_eq_true rfl | omega | (dsimp only [Rm]; omega)) (ih_99 (s9 + 1) (by omega) (by omega) (by omega) _ _ hP (va_D_of hD rfl) hS ls (lv_sub hl [3, 4, 5, 6, 7, 2, 1, 0] rfl))
                      · have e_b : bfs (fun u => pf d u 2) (avail d x) R (s9 + 1) = bfs (fun u => pf d u 2) (avail d x) R s9 := if_neg (fun h => c_173 h.2)
                        refine lv_goto (tgt := 187) hx hb dX2_bestFit_176 (by decide) ?_
                        refine lv_iinc (v := nI (s9 + 1)) (lv' := [(7, .int (nI (s9 + 1))), (0, .ref (z 0)), (1, .int (nI x)), (2, .ref ra), (3, .int (nI R.length)), (4, .int (avail d x)), (5, .int (nI (bfs (fun u => pf d u 2) (avail d x) R s9).1)), (6, .int ((bfs (fun u => pf d u 2) (avail d x) R s9).2)), (8, .int (smS (fun u => pf d u 2) R s9)), (9, .int (nI R.length))]) hx hb dX2_bestFit_187 hl (k := 7) rfl (nI_1 s9) (by decide) rfl (fun ls hl => ?_)
                        refine lv_goto (tgt := 99) hx hb dX2_bestFit_190 (by decide) ?_
                        have hl : lv_has ls 10 [(7, .int (nI (s9 + 1))), (0, .ref (z 0)), (1, .int (nI x)), (2, .ref ra), (3, .int (nI R.length)), (4, .int (avail d x)), (5, .int (nI (bfs (fun u => pf d u 2) (avail d x) R (s9 + 1)).1)), (6, .int ((bfs (fun u => pf d u 2) (avail d x) R (s9 + 1)).2)), (8, .int (smS (fun u => pf d u 2) R s9)), (9, .int (nI R.length))] := by rw [e_b]; exact hl
                        exact W_more (by first | exact Nat.le_of_ble_eq_true rfl | omega | (dsimp only [Rm]; omega)) (by first | exact Nat.le_of_ble_eq_true rfl | omega | (dsimp only [Rm]; omega)) (ih_99 (s9 + 1) (by omega) (by omega) (by omega) _ _ hP (va_D_of hD rfl) hS ls (lv_sub hl [1, 2, 3, 4, 5, 6, 7, 0] rfl))
                  · have g_116 := nI_nle' c_116 (by omega) (by omega)
                    refine lv_iload hx hb dX2_bestFit_119 (lv_at hl 8 rfl) ?_
                    refine lv_iload hx hb dX2_bestFit_121 (lv_at hl 7 rfl) ?_
                    refine lv_iload hx hb dX2_bestFit_123 (lv_at hl 9 rfl) ?_
                    refine lv_ishr hx hb dX2_bestFit_125 ?_
                    refine lv_iconst (v := 1) hx hb dX2_bestFit_126 rfl ?_
                    refine lv_iand hx hb dX2_bestFit_127 ?_
                    refine w_topi (y := nI (s9 / 2 ^ k9 % 2)) (bit_I (by omega) (by omega)) ?_
                    refine lv_iconst (v := 1) hx hb dX2_bestFit_128 rfl ?_
                    have J_153 : ∀ (zz : Int32), (zz = if s9 / 2 ^ k9 % 2 = 1 then pf d (R.getD k9 0) 2 else 0) → ∀ (ls : Array Slot), lv_has ls 10 [(0, .ref (z 0)), (1, .int (nI x)), (2, .ref ra), (3, .int (nI R.length)), (4, .int (avail d x)), (5, .int (nI (bfs (fun u => pf d u 2) (avail d x) R s9).1)), (6, .int ((bfs (fun u => pf d u 2) (avail d x) R s9).2)), (7, .int (nI s9)), (8, .int (sumI (fun k => if s9 / 2 ^ k % 2 = 1 then pf d (R.getD k 0) 2 else 0) k9)), (9, .int (nI k9))] → W p l e (Rm 6 130 1 12) s m ([.ref (z 0), .int (nI x)] : List Value).toArray below meth c H locs 1 12 (MQ below (gQ (some (.int (fitV d (nI x))))) ([.ref (z 0), .int (nI x)] : List Value).toArray s 1 12 (fun _ => False)) (F0 m 153 ls [.int zz, .int (sumI (fun k => if s9 / 2 ^ k % 2 = 1 then pf d (R.getD k 0) 2 else 0) k9)]) := by
                      intro zz h_zz ls hl
                      refine lv_iadd hx hb dX2_bestFit_153 ?_
                      refine w_topi (y := sumI (fun k => if s9 / 2 ^ k % 2 = 1 then pf d (R.getD k 0) 2 else 0) (k9 + 1)) (by rw [h_zz]; rfl) ?_
                      refine lv_istore (lv' := [(8, .int (sumI (fun k => if s9 / 2 ^ k % 2 = 1 then pf d (R.getD k 0) 2 else 0) (k9 + 1))), (0, .ref (z 0)), (1, .int (nI x)), (2, .ref ra), (3, .int (nI R.length)), (4, .int (avail d x)), (5, .int (nI (bfs (fun u => pf d u 2) (avail d x) R s9).1)), (6, .int ((bfs (fun u => pf d u 2) (avail d x) R s9).2)), (7, .int (nI s9)), (9, .int (nI k9))]) hx hb dX2_bestFit_154 hl (by decide) rfl (fun ls hl => ?_)
                      refine lv_iinc (v := nI (k9 + 1)) (lv' := [(9, .int (nI (k9 + 1))), (8, .int (sumI (fun k => if s9 / 2 ^ k % 2 = 1 then pf d (R.getD k 0) 2 else 0) (k9 + 1))), (0, .ref (z 0)), (1, .int (nI x)), (2, .ref ra), (3, .int (nI R.length)), (4, .int (avail d x)), (5, .int (nI (bfs (fun u => pf d u 2) (avail d x) R s9).1)), (6, .int ((bfs (fun u => pf d u 2) (avail d x) R s9).2)), (7, .int (nI s9))]) hx hb dX2_bestFit_156 hl (k := 9) rfl (nI_1 k9) (by decide) rfl (fun ls hl => ?_)
                      refine lv_goto (tgt := 113) hx hb dX2_bestFit_159 (by decide) ?_
                      exact W_more (by first | exact Nat.le_of_ble_eq_true rfl | omega | (dsimp only [Rm]; omega)) (by first | exact Nat.le_of_ble_eq_true rfl | omega | (dsimp only [Rm]; omega)) (ih_113 (k9 + 1) (by omega) (by omega) _ _ hP (va_D_of hD rfl) hS ls (lv_sub hl [2, 3, 4, 5, 6, 7, 8, 9, 1, 0] rfl))
                    refine lv_icmp_ne (tgt := 152) hx hb dX2_bestFit_129 (by decide) (fun c_129 => ?_) (fun c_129 => ?_)
                    · refine lv_iconst (v := 0) hx hb dX2_bestFit_152 rfl ?_
                      exact J_153 0 (by first | exact (if_neg (fun h => c_129 (congrArg nI h))).symm | exact (if_pos (nI_eq' (b := 1) c_129 (by omega) (by decide))).symm) ls hl
                    · have hgd : R.getD k9 0 < dN d 1 := (asc_get hasc (by omega)).2
                      refine lv_aload_n hx hb dX2_bestFit_132 rfl (lv_at hl 0 rfl) ?_
                      refine va_get hx hb hts in_X2 hown hK (frzF hF hS) 0 rfl rfl 2 (by decide) (hts _ q201) (fun _ h => h) rfl dX2_bestFit_133 ?_
                      refine lv_aload_n hx hb dX2_bestFit_136 rfl (lv_at hl 2 rfl) ?_
                      refine lv_iload hx hb dX2_bestFit_137 (lv_at hl 9 rfl) ?_
                      refine w_iald hx hb hK hP 0 rfl k9 rfl (by omega) (Nat.le_of_ble_eq_true rfl) dX2_bestFit_139 ?_
                      refine w_topi (y := nI (R.getD k9 0)) (hrf k9 (by omega)) ?_
                      refine r_after (va_runV (As := [.int (nI (R.getD k9 0))]) (rest := [.int (sumI (fun k => if s9 / 2 ^ k % 2 = 1 then pf d (R.getD k 0) 2 else 0) k9)]) (g := F0 m 140 ls [.int (nI (R.getD k9 0)), .ref (z 6), .int (sumI (fun k => if s9 / 2 ^ k % 2 = 1 then pf d (R.getD k 0) 2 else 0) k9)]) C.fix (c_bookGet l D k g (z 6) 24 (z 7) (z 8) (nI (z 13)) (dN d 1) (z 11) (R.getD k9 0) (z (32 + (R.getD k9 0))) _ (by omega) (by omega) (by omega) (rfs_at (by omega))) (cwV 1 hts (lw_V q347 q278 q279 q73 q280) rfl rfl rfl (by decide +kernel) ⟨Nat.le_of_ble_eq_true rfl, Nat.le_of_ble_eq_true rfl⟩) (preV mv2_hKX hK (va_recv hK (frzF hF hS) (ci := 4) (q0 := 5) rfl rfl) (fun U hU hW => (hKX_at hX hS hAN (va_cons ((frzF hF hS) 5 _ rfl) (va_cons ((frzF hF hS) 6 _ rfl) (va_cons ((frzF (hdk.2.2.1 (by omega)) hS) 0 _ rfl) va_nil))) hU hW))) rfl rfl hl.1 rfl (lv_room (Nat.le_of_ble_eq_true rfl)) dX2_bestFit_140 ⟨(by first | exact Nat.le_of_ble_eq_true rfl | omega | (dsimp only [Rm]; omega)), (by first | exact Nat.le_of_ble_eq_true rfl | omega | (dsimp only [Rm]; omega))⟩) ?_
                      refine va_castY hx hb hown (hts _ q348) (cast_self (hK.1 10 _ rfl)) (va_recv hK (frzF (hdk.2.2.2.2 (R.getD k9 0) (by omega)) hS) (ci := 10) (q0 := 0) rfl rfl) dX2_bestFit_143 ?_
                      refine va_getN hx hb hts in_X12 hown hK (frzF (hdk.2.2.2.2 (R.getD k9 0) (by omega)) hS) 0 rfl rfl 2 (by decide) ((hN _ q1549 rfl).use rfl) (fun _ h => h) rfl dX2_bestFit_146 ?_
                      refine lv_goto (tgt := 153) hx hb dX2_bestFit_149 (by decide) ?_
                      exact J_153 (pf d (R.getD k9 0) 2) (by first | exact (if_neg (fun h => c_129 (congrArg nI h))).symm | exact (if_pos (nI_eq' (b := 1) c_129 (by omega) (by decide))).symm) ls hl
              exact W_more (by first | exact Nat.le_of_ble_eq_true rfl | omega | (dsimp only [Rm]; omega)) (by first | exact Nat.le_of_ble_eq_true rfl | omega | (dsimp only [Rm]; omega)) (loop_113 (R.length + 1) 0 (Nat.zero_le _) (by omega) _ _ hP (va_D_of hD rfl) hS ls (lv_sub hl [2, 3, 4, 5, 6, 7, 8, 9, 1, 0] rfl))
        exact W_more (by first | exact Nat.le_of_ble_eq_true rfl | omega | (dsimp only [Rm]; omega)) (by first | exact Nat.le_of_ble_eq_true rfl | omega | (dsimp only [Rm]; omega)) (loop_99 (2 ^ R.length + 1) 1 (by omega) (by omega) (by omega) _ _ hP (va_D_of hD rfl) hS ls (lv_sub hl [4, 5, 6, 7, 3, 2, 1, 0] rfl))
      · have g_19 := nI_nle' c_19 (by omega) (by omega)
        refine lv_iload_n hx hb dX2_bestFit_22 rfl (lv_at hl 3 rfl) ?_
        refine lv_bipush (v := 12) hx hb dX2_bestFit_23 rfl ?_
        refine lv_icmp_ge (tgt := 83) hx hb dX2_bestFit_25 (by decide) (fun c_25 => ?_) (fun c_25 => ?_)
        · have g_25 := nI_le' (a := 12) c_25 (by decide) (by omega)
          have e_R : rl d (nI x) p9 = rl d (nI x) (dN d 1) := by
            have h := rl_full (d := d) (x := nI x) (p := p9) (by omega) (dN d 1 - p9)
            rw [show p9 + (dN d 1 - p9) = dN d 1 by omega] at h
            exact h.symm
          obtain ⟨R, hR⟩ : ∃ R, R = rl d (nI x) (dN d 1) := ⟨_, rfl⟩
          rw [e_R, ← hR] at hl hrf
          have hasc := rl_asc (d := d) (x := nI x) (dN d 1)
          have hRl := rl_len (d := d) (x := nI x) (dN d 1)
          rw [← hR] at hasc hRl
          have hpw : 2 ^ R.length ≤ 4096 := Nat.pow_le_pow_right (n := 2) (by decide) hRl
          have hpw0 : 1 ≤ 2 ^ R.length := Nat.two_pow_pos _
          refine lv_aload_n hx hb dX2_bestFit_83 rfl (lv_at hl 0 rfl) ?_
          refine lv_iload_n hx hb dX2_bestFit_84 rfl (lv_at hl 1 rfl) ?_
          refine r_after (va_runV (As := [.int (nI x)]) (rest := []) (g := F0 m 85 ls [.int (nI x), .ref (z 0)]) C.fix (c_available l D k g z hf d hz x (by omega)) (cwV 1 hts (lw_V q1480 q358 q359 q71 q360) rfl rfl rfl (by decide +kernel) ⟨Nat.le_of_ble_eq_true rfl, Nat.le_of_ble_eq_true rfl⟩) (preV mv2_hKX hK (va_recv hK (frzF hF hS) (ci := 2) (q0 := 0) rfl rfl) (fun U hU hW => (hKX_at hX hS hAN (dk_frF hdk hS) hU hW))) rfl rfl hl.1 rfl (lv_room (Nat.le_of_ble_eq_true rfl)) dX2_bestFit_85 ⟨(by first | exact Nat.le_of_ble_eq_true rfl | omega | (dsimp only [Rm]; omega)), (by first | exact Nat.le_of_ble_eq_true rfl | omega | (dsimp only [Rm]; omega))⟩) ?_
          refine lv_istore (lv' := [(4, .int (avail d x)), (0, .ref (z 0)), (1, .int (nI x)), (2, .ref ra), (3, .int (nI R.length))]) hx hb dX2_bestFit_88 hl (by decide) rfl (fun ls hl => ?_)
          refine lv_iconst (v := 0) hx hb dX2_bestFit_90 rfl ?_
          refine lv_istore (lv' := [(5, .int 0), (4, .int (avail d x)), (0, .ref (z 0)), (1, .int (nI x)), (2, .ref ra), (3, .int (nI R.length))]) hx hb dX2_bestFit_91 hl (by decide) rfl (fun ls hl => ?_)
          refine lv_iconst (v := 0) hx hb dX2_bestFit_93 rfl ?_
          refine lv_istore (lv' := [(6, .int 0), (5, .int 0), (4, .int (avail d x)), (0, .ref (z 0)), (1, .int (nI x)), (2, .ref ra), (3, .int (nI R.length))]) hx hb dX2_bestFit_94 hl (by decide) rfl (fun ls hl => ?_)
          refine lv_iconst (v := 1) hx hb dX2_bestFit_96 rfl ?_
          refine lv_istore (lv' := [(7, .int 1), (6, .int 0), (5, .int 0), (4, .int (avail d x)), (0, .ref (z 0)), (1, .int (nI x)), (2, .ref ra), (3, .int (nI R.length))]) hx hb dX2_bestFit_97 hl (by decide) rfl (fun ls hl => ?_)
          have hl : lv_has ls 10 [(7, .int (nI 1)), (6, .int ((bfs (fun u => pf d u 2) (avail d x) R 1).2)), (5, .int (nI (bfs (fun u => pf d u 2) (avail d x) R 1).1)), (4, .int (avail d x)), (0, .ref (z 0)), (1, .int (nI x)), (2, .ref ra), (3, .int (nI R.length))] := by rw [bfs_1]; exact hl
          have loop_99 : ∀ (n8 : Nat) (s9 : Nat), (1 ≤ s9) → (s9 ≤ 2 ^ R.length) → (2 ^ R.length + 1 ≤ s9 + n8) → ∀ (H : Heap) (locs : List Loc), va_P D clA [(ra, .inl (k 0, 12, .inl rf))] H → va_D (fun q => s.heap.size ≤ q) [(ra, .inl (k 0, 12, .inl rf))] → va_S (fun q => s.heap.size ≤ q) s.heap H locs → ∀ (ls : Array Slot), lv_has ls 10 [(0, .ref (z 0)), (1, .int (nI x)), (2, .ref ra), (3, .int (nI R.length)), (4, .int (avail d x)), (5, .int (nI (bfs (fun u => pf d u 2) (avail d x) R s9).1)), (6, .int ((bfs (fun u => pf d u 2) (avail d x) R s9).2)), (7, .int (nI s9))] → W p l e (Rm 6 130 1 12) s m ([.ref (z 0), .int (nI x)] : List Value).toArray below meth c H locs 1 12 (MQ below (gQ (some (.int (fitV d (nI x))))) ([.ref (z 0), .int (nI x)] : List Value).toArray s 1 12 (fun _ => False)) (F0 m 99 ls []) := by
            intro n8
            induction n8 with
            | zero =>
              intro s9 hs1 hs2 hm
              exact absurd hm (by omega)
            | succ n8 ih_99 =>
              intro s9 hs1 hs2 hm H locs hP hD hS ls hl
              refine lv_iload hx hb dX2_bestFit_99 (lv_at hl 7 rfl) ?_
              refine lv_iconst (v := 1) hx hb dX2_bestFit_101 rfl ?_
              refine lv_iload_n hx hb dX2_bestFit_102 rfl (lv_at hl 3 rfl) ?_
              refine lv_ishl hx hb dX2_bestFit_103 ?_
              refine w_topi (y := nI (2 ^ R.length)) (nI_bit R.length (by omega)) ?_
              refine lv_icmp_ge (tgt := 193) hx hb dX2_bestFit_104 (by decide) (fun c_104 => ?_) (fun c_104 => ?_)
              · have g_104 := nI_le' c_104 (by omega) (by omega)
                obtain rfl : s9 = 2 ^ R.length := by omega
                have hBl := bfs_lt (A := (fun u => pf d u 2)) (lim := avail d x) (R := R) (2 ^ R.length) (by omega)
                obtain ⟨B, hB⟩ : ∃ B, B = (bfs (fun u => pf d u 2) (avail d x) R (2 ^ R.length)).1 := ⟨_, rfl⟩
                rw [← hB] at hl hBl
                refine lv_iconst (v := 0) hx hb dX2_bestFit_193 rfl ?_
                refine lv_istore (lv' := [(7, .int 0), (0, .ref (z 0)), (1, .int (nI x)), (2, .ref ra), (3, .int (nI R.length)), (4, .int (avail d x)), (5, .int (nI B)), (6, .int ((bfs (fun u => pf d u 2) (avail d x) R (2 ^ R.length)).2))]) hx hb dX2_bestFit_194 hl (by decide) rfl (fun ls hl => ?_)
                refine lv_iconst (v := 0) hx hb dX2_bestFit_196 rfl ?_
                refine lv_istore (lv' := [(8, .int 0), (7, .int 0), (0, .ref (z 0)), (1, .int (nI x)), (2, .ref ra), (3, .int (nI R.length)), (4, .int (avail d x)), (5, .int (nI B)), (6, .int ((bfs (fun u => pf d u 2) (avail d x) R (2 ^ R.length)).2))]) hx hb dX2_bestFit_197 hl (by decide) rfl (fun ls hl => ?_)
                have loop_199 : ∀ (n7 : Nat) (k9 : Nat), (k9 ≤ R.length) → (R.length + 1 ≤ k9 + n7) → ∀ (H : Heap) (locs : List Loc), va_P D clA [(ra, .inl (k 0, 12, .inl rf))] H → va_D (fun q => s.heap.size ≤ q) [(ra, .inl (k 0, 12, .inl rf))] → va_S (fun q => s.heap.size ≤ q) s.heap H locs → ∀ (ls : Array Slot), lv_has ls 10 [(0, .ref (z 0)), (1, .int (nI x)), (2, .ref ra), (3, .int (nI R.length)), (4, .int (avail d x)), (5, .int (nI B)), (6, .int ((bfs (fun u => pf d u 2) (avail d x) R (2 ^ R.length)).2)), (7, .int (nI (qsm 0 R B k9))), (8, .int (nI k9))] → W p l e (Rm 6 130 1 12) s m ([.ref (z 0), .int (nI x)] : List Value).toArray below meth c H locs 1 12 (MQ below (gQ (some (.int (fitV d (nI x))))) ([.ref (z 0), .int (nI x)] : List Value).toArray s 1 12 (fun _ => False)) (F0 m 199 ls []) := by
                  intro n7
                  induction n7 with
                  | zero =>
                    intro k9 hk hm7
                    exact absurd hm7 (by omega)
                  | succ n7 ih_199 =>
                    intro k9 hk hm7 H locs hP hD hS ls hl
                    refine lv_iload hx hb dX2_bestFit_199 (lv_at hl 8 rfl) ?_
                    refine lv_iload_n hx hb dX2_bestFit_201 rfl (lv_at hl 3 rfl) ?_
                    refine lv_icmp_ge (tgt := 228) hx hb dX2_bestFit_202 (by decide) (fun c_202 => ?_) (fun c_202 => ?_)
                    · have g_202 := nI_le' c_202 (by omega) (by omega)
                      refine lv_iload hx hb dX2_bestFit_228 (lv_at hl 7 rfl) ?_
                      exact g_iret C (by rw [show k9 = R.length by omega, qsm_qd hasc, hB, hR]; unfold fitV; rw [ci_n (by omega)]) hS (by first | exact Nat.le_of_ble_eq_true rfl | omega | (dsimp only [Rm]; omega)) (by first | exact Nat.le_of_ble_eq_true rfl | omega | (dsimp only [Rm]; omega)) dX2_bestFit_230
                    · have g_202 := nI_nle' c_202 (by omega) (by omega)
                      refine lv_iload hx hb dX2_bestFit_205 (lv_at hl 7 rfl) ?_
                      refine lv_iload hx hb dX2_bestFit_207 (lv_at hl 5 rfl) ?_
                      refine lv_iload hx hb dX2_bestFit_209 (lv_at hl 8 rfl) ?_
                      refine lv_ishr hx hb dX2_bestFit_211 ?_
                      refine lv_iconst (v := 1) hx hb dX2_bestFit_212 rfl ?_
                      refine lv_iand hx hb dX2_bestFit_213 ?_
                      refine w_topi (y := nI (B / 2 ^ k9 % 2)) (bit_I (by omega) (by omega)) ?_
                      refine lv_aload_n hx hb dX2_bestFit_214 rfl (lv_at hl 2 rfl) ?_
                      refine lv_iload hx hb dX2_bestFit_215 (lv_at hl 8 rfl) ?_
                      refine w_iald hx hb hK hP 0 rfl k9 rfl (by omega) (Nat.le_of_ble_eq_true rfl) dX2_bestFit_217 ?_
                      refine w_topi (y := nI (R.getD k9 0)) (hrf k9 (by omega)) ?_
                      refine lv_ishl hx hb dX2_bestFit_218 ?_
                      refine lv_ior hx hb dX2_bestFit_219 ?_
                      refine w_topi (y := nI (qsm 0 R B (k9 + 1))) (qsm_step hasc hd1 (by omega)) ?_
                      refine lv_istore (lv' := [(7, .int (nI (qsm 0 R B (k9 + 1)))), (0, .ref (z 0)), (1, .int (nI x)), (2, .ref ra), (3, .int (nI R.length)), (4, .int (avail d x)), (5, .int (nI B)), (6, .int ((bfs (fun u => pf d u 2) (avail d x) R (2 ^ R.length)).2)), (8, .int (nI k9))]) hx hb dX2_bestFit_220 hl (by decide) rfl (fun ls hl => ?_)
                      refine lv_iinc (v := nI (k9 + 1)) (lv' := [(8, .int (nI (k9 + 1))), (7, .int (nI (qsm 0 R B (k9 + 1)))), (0, .ref (z 0)), (1, .int (nI x)), (2, .ref ra), (3, .int (nI R.length)), (4, .int (avail d x)), (5, .int (nI B)), (6, .int ((bfs (fun u => pf d u 2) (avail d x) R (2 ^ R.length)).2))]) hx hb dX2_bestFit_222 hl (k := 8) rfl (nI_1 k9) (by decide) rfl (fun ls hl => ?_)
                      refine lv_goto (tgt := 199) hx hb dX2_bestFit_225 (by decide) ?_
                      exact W_more (by first | exact Nat.le_of_ble_eq_true rfl | omega | (dsimp only [Rm]; omega)) (by first | exact Nat.le_of_ble_eq_true rfl | omega | (dsimp only [Rm]; omega)) (ih_199 (k9 + 1) (by omega) (by omega) _ _ hP (va_D_of hD rfl) hS ls (lv_sub hl [2, 3, 4, 5, 6, 7, 8, 1, 0] rfl))
                exact W_more (by first | exact Nat.le_of_ble_eq_true rfl | omega | (dsimp only [Rm]; omega)) (by first | exact Nat.le_of_ble_eq_true rfl | omega | (dsimp only [Rm]; omega)) (loop_199 (R.length + 1) 0 (Nat.zero_le _) (by omega) _ _ hP (va_D_of hD rfl) hS ls (lv_sub hl [2, 3, 4, 5, 6, 7, 8, 1, 0] rfl))
              · have g_104 := nI_nle' c_104 (by omega) (by omega)
                refine lv_iconst (v := 0) hx hb dX2_bestFit_107 rfl ?_
                refine lv_istore (lv' := [(8, .int 0), (0, .ref (z 0)), (1, .int (nI x)), (2, .ref ra), (3, .int (nI R.length)), (4, .int (avail d x)), (5, .int (nI (bfs (fun u => pf d u 2) (avail d x) R s9).1)), (6, .int ((bfs (fun u => pf d u 2) (avail d x) R s9).2)), (7, .int (nI s9))]) hx hb dX2_bestFit_108 hl (by decide) rfl (fun ls hl => ?_)
                refine lv_iconst (v := 0) hx hb dX2_bestFit_110 rfl ?_
                refine lv_istore (lv' := [(9, .int 0), (8, .int 0), (0, .ref (z 0)), (1, .int (nI x)), (2, .ref ra), (3, .int (nI R.length)), (4, .int (avail d x)), (5, .int (nI (bfs (fun u => pf d u 2) (avail d x) R s9).1)), (6, .int ((bfs (fun u => pf d u 2) (avail d x) R s9).2)), (7, .int (nI s9))]) hx hb dX2_bestFit_111 hl (by decide) rfl (fun ls hl => ?_)
                have loop_113 : ∀ (n7 : Nat) (k9 : Nat), (k9 ≤ R.length) → (R.length + 1 ≤ k9 + n7) → ∀ (H : Heap) (locs : List Loc), va_P D clA [(ra, .inl (k 0, 12, .inl rf))] H → va_D (fun q => s.heap.size ≤ q) [(ra, .inl (k 0, 12, .inl rf))] → va_S (fun q => s.heap.size ≤ q) s.heap H locs → ∀ (ls : Array Slot), lv_has ls 10 [(0, .ref (z 0)), (1, .int (nI x)), (2, .ref ra), (3, .int (nI R.length)), (4, .int (avail d x)), (5, .int (nI (bfs (fun u => pf d u 2) (avail d x) R s9).1)), (6, .int ((bfs (fun u => pf d u 2) (avail d x) R s9).2)), (7, .int (nI s9)), (8, .int (sumI (fun k => if s9 / 2 ^ k % 2 = 1 then pf d (R.getD k 0) 2 else 0) k9)), (9, .int (nI k9))] → W p l e (Rm 6 130 1 12) s m ([.ref (z 0), .int (nI x)] : List Value).toArray below meth c H locs 1 12 (MQ below (gQ (some (.int (fitV d (nI x))))) ([.ref (z 0), .int (nI x)] : List Value).toArray s 1 12 (fun _ => False)) (F0 m 113 ls []) := by
                  intro n7
                  induction n7 with
                  | zero =>
                    intro k9 hk hm7
                    exact absurd hm7 (by omega)
                  | succ n7 ih_113 =>
                    intro k9 hk hm7 H locs hP hD hS ls hl
                    refine lv_iload hx hb dX2_bestFit_113 (lv_at hl 9 rfl) ?_
                    refine lv_iload_n hx hb dX2_bestFit_115 rfl (lv_at hl 3 rfl) ?_
                    refine lv_icmp_ge (tgt := 162) hx hb dX2_bestFit_116 (by decide) (fun c_116 => ?_) (fun c_116 => ?_)
                    · have g_116 := nI_le' c_116 (by omega) (by omega)
                      obtain rfl : k9 = R.length := by omega
                      have hl : lv_has ls 10 [(0, .ref (z 0)), (1, .int (nI x)), (2, .ref ra), (3, .int (nI R.length)), (4, .int (avail d x)), (5, .int (nI (bfs (fun u => pf d u 2) (avail d x) R s9).1)), (6, .int ((bfs (fun u => pf d u 2) (avail d x) R s9).2)), (7, .int (nI s9)), (8, .int (smS (fun u => pf d u 2) R s9)), (9, .int (nI R.length))] := hl
                      refine lv_iload hx hb dX2_bestFit_162 (lv_at hl 8 rfl) ?_
                      refine lv_iload hx hb dX2_bestFit_164 (lv_at hl 4 rfl) ?_
                      refine lv_icmp_gt (tgt := 187) hx hb dX2_bestFit_166 (by decide) (fun c_166 => ?_) (fun c_166 => ?_)
                      · have e_b : bfs (fun u => pf d u 2) (avail d x) R (s9 + 1) = bfs (fun u => pf d u 2) (avail d x) R s9 := if_neg (fun h => absurd h.1 (Int32.not_le.mpr c_166))
                        refine lv_iinc (v := nI (s9 + 1)) (lv' := [(7, .int (nI (s9 + 1))), (0, .ref (z 0)), (1, .int (nI x)), (2, .ref ra), (3, .int (nI R.length)), (4, .int (avail d x)), (5, .int (nI (bfs (fun u => pf d u 2) (avail d x) R s9).1)), (6, .int ((bfs (fun u => pf d u 2) (avail d x) R s9).2)), (8, .int (smS (fun u => pf d u 2) R s9)), (9, .int (nI R.length))]) hx hb dX2_bestFit_187 hl (k := 7) rfl (nI_1 s9) (by decide) rfl (fun ls hl => ?_)
                        refine lv_goto (tgt := 99) hx hb dX2_bestFit_190 (by decide) ?_
                        have hl : lv_has ls 10 [(7, .int (nI (s9 + 1))), (0, .ref (z 0)), (1, .int (nI x)), (2, .ref ra), (3, .int (nI R.length)), (4, .int (avail d x)), (5, .int (nI (bfs (fun u => pf d u 2) (avail d x) R (s9 + 1)).1)), (6, .int ((bfs (fun u => pf d u 2) (avail d x) R (s9 + 1)).2)), (8, .int (smS (fun u => pf d u 2) R s9)), (9, .int (nI R.length))] := by rw [e_b]; exact hl
                        exact W_more (by first | exact Nat.le_of_ble_eq_true rfl | omega | (dsimp only [Rm]; omega)) (by first | exact Nat.le_of_ble_eq_true rfl | omega | (dsimp only [Rm]; omega)) (ih_99 (s9 + 1) (by omega) (by omega) (by omega) _ _ hP (va_D_of hD rfl) hS ls (lv_sub hl [1, 2, 3, 4, 5, 6, 7, 0] rfl))
                      · refine lv_iload hx hb dX2_bestFit_169 (lv_at hl 8 rfl) ?_
                        refine lv_iload hx hb dX2_bestFit_171 (lv_at hl 6 rfl) ?_
                        refine lv_icmp_gt (tgt := 179) hx hb dX2_bestFit_173 (by decide) (fun c_173 => ?_) (fun c_173 => ?_)
                        · have e_b : bfs (fun u => pf d u 2) (avail d x) R (s9 + 1) = (s9, smS (fun u => pf d u 2) R s9) := if_pos ⟨Int32.not_lt.mp c_166, c_173⟩
                          refine lv_iload hx hb dX2_bestFit_179 (lv_at hl 7 rfl) ?_
                          refine lv_istore (lv' := [(5, .int (nI s9)), (0, .ref (z 0)), (1, .int (nI x)), (2, .ref ra), (3, .int (nI R.length)), (4, .int (avail d x)), (6, .int ((bfs (fun u => pf d u 2) (avail d x) R s9).2)), (7, .int (nI s9)), (8, .int (smS (fun u => pf d u 2) R s9)), (9, .int (nI R.length))]) hx hb dX2_bestFit_181 hl (by decide) rfl (fun ls hl => ?_)
                          refine lv_iload hx hb dX2_bestFit_183 (lv_at hl 8 rfl) ?_
                          refine lv_istore (lv' := [(6, .int (smS (fun u => pf d u 2) R s9)), (5, .int (nI s9)), (0, .ref (z 0)), (1, .int (nI x)), (2, .ref ra), (3, .int (nI R.length)), (4, .int (avail d x)), (7, .int (nI s9)), (8, .int (smS (fun u => pf d u 2) R s9)), (9, .int (nI R.length))]) hx hb dX2_bestFit_185 hl (by decide) rfl (fun ls hl => ?_)
                          refine lv_iinc (v := nI (s9 + 1)) (lv' := [(7, .int (nI (s9 + 1))), (6, .int (smS (fun u => pf d u 2) R s9)), (5, .int (nI s9)), (0, .ref (z 0)), (1, .int (nI x)), (2, .ref ra), (3, .int (nI R.length)), (4, .int (avail d x)), (8, .int (smS (fun u => pf d u 2) R s9)), (9, .int (nI R.length))]) hx hb dX2_bestFit_187 hl (k := 7) rfl (nI_1 s9) (by decide) rfl (fun ls hl => ?_)
                          refine lv_goto (tgt := 99) hx hb dX2_bestFit_190 (by decide) ?_
                          have hl : lv_has ls 10 [(7, .int (nI (s9 + 1))), (6, .int ((bfs (fun u => pf d u 2) (avail d x) R (s9 + 1)).2)), (5, .int (nI (bfs (fun u => pf d u 2) (avail d x) R (s9 + 1)).1)), (0, .ref (z 0)), (1, .int (nI x)), (2, .ref ra), (3, .int (nI R.length)), (4, .int (avail d x)), (8, .int (smS (fun u => pf d u 2) R s9)), (9, .int (nI R.length))] := by rw [e_b]; exact hl
                          exact W_more (by first | exact Nat.le_of_ble_eq_true rfl | omega | (dsimp only [Rm]; omega)) (by first | exact Nat.le_of_ble_eq_true rfl | omega | (dsimp only [Rm]; omega)) (ih_99 (s9 + 1) (by omega) (by omega) (by omega) _ _ hP (va_D_of hD rfl) hS ls (lv_sub hl [3, 4, 5, 6, 7, 2, 1, 0] rfl))
                        · have e_b : bfs (fun u => pf d u 2) (avail d x) R (s9 + 1) = bfs (fun u => pf d u 2) (avail d x) R s9 := if_neg (fun h => c_173 h.2)
                          refine lv_goto (tgt := 187) hx hb dX2_bestFit_176 (by decide) ?_
                          refine lv_iinc (v := nI (s9 + 1)) (lv' := [(7, .int (nI (s9 + 1))), (0, .ref (z 0)), (1, .int (nI x)), (2, .ref ra), (3, .int (nI R.length)), (4, .int (avail d x)), (5, .int (nI (bfs (fun u => pf d u 2) (avail d x) R s9).1)), (6, .int ((bfs (fun u => pf d u 2) (avail d x) R s9).2)), (8, .int (smS (fun u => pf d u 2) R s9)), (9, .int (nI R.length))]) hx hb dX2_bestFit_187 hl (k := 7) rfl (nI_1 s9) (by decide) rfl (fun ls hl => ?_)
                          refine lv_goto (tgt := 99) hx hb dX2_bestFit_190 (by decide) ?_
                          have hl : lv_has ls 10 [(7, .int (nI (s9 + 1))), (0, .ref (z 0)), (1, .int (nI x)), (2, .ref ra), (3, .int (nI R.length)), (4, .int (avail d x)), (5, .int (nI (bfs (fun u => pf d u 2) (avail d x) R (s9 + 1)).1)), (6, .int ((bfs (fun u => pf d u 2) (avail d x) R (s9 + 1)).2)), (8, .int (smS (fun u => pf d u 2) R s9)), (9, .int (nI R.length))] := by rw [e_b]; exact hl
                          exact W_more (by first | exact Nat.le_of_ble_eq_true rfl | omega | (dsimp only [Rm]; omega)) (by first | exact Nat.le_of_ble_eq_true rfl | omega | (dsimp only [Rm]; omega)) (ih_99 (s9 + 1) (by omega) (by omega) (by omega) _ _ hP (va_D_of hD rfl) hS ls (lv_sub hl [1, 2, 3, 4, 5, 6, 7, 0] rfl))
                    · have g_116 := nI_nle' c_116 (by omega) (by omega)
                      refine lv_iload hx hb dX2_bestFit_119 (lv_at hl 8 rfl) ?_
                      refine lv_iload hx hb dX2_bestFit_121 (lv_at hl 7 rfl) ?_
                      refine lv_iload hx hb dX2_bestFit_123 (lv_at hl 9 rfl) ?_
                      refine lv_ishr hx hb dX2_bestFit_125 ?_
                      refine lv_iconst (v := 1) hx hb dX2_bestFit_126 rfl ?_
                      refine lv_iand hx hb dX2_bestFit_127 ?_
                      refine w_topi (y := nI (s9 / 2 ^ k9 % 2)) (bit_I (by omega) (by omega)) ?_
                      refine lv_iconst (v := 1) hx hb dX2_bestFit_128 rfl ?_
                      have J_153 : ∀ (zz : Int32), (zz = if s9 / 2 ^ k9 % 2 = 1 then pf d (R.getD k9 0) 2 else 0) → ∀ (ls : Array Slot), lv_has ls 10 [(0, .ref (z 0)), (1, .int (nI x)), (2, .ref ra), (3, .int (nI R.length)), (4, .int (avail d x)), (5, .int (nI (bfs (fun u => pf d u 2) (avail d x) R s9).1)), (6, .int ((bfs (fun u => pf d u 2) (avail d x) R s9).2)), (7, .int (nI s9)), (8, .int (sumI (fun k => if s9 / 2 ^ k % 2 = 1 then pf d (R.getD k 0) 2 else 0) k9)), (9, .int (nI k9))] → W p l e (Rm 6 130 1 12) s m ([.ref (z 0), .int (nI x)] : List Value).toArray below meth c H locs 1 12 (MQ below (gQ (some (.int (fitV d (nI x))))) ([.ref (z 0), .int (nI x)] : List Value).toArray s 1 12 (fun _ => False)) (F0 m 153 ls [.int zz, .int (sumI (fun k => if s9 / 2 ^ k % 2 = 1 then pf d (R.getD k 0) 2 else 0) k9)]) := by
                        intro zz h_zz ls hl
                        refine lv_iadd hx hb dX2_bestFit_153 ?_
                        refine w_topi (y := sumI (fun k => if s9 / 2 ^ k % 2 = 1 then pf d (R.getD k 0) 2 else 0) (k9 + 1)) (by rw [h_zz]; rfl) ?_
                        refine lv_istore (lv' := [(8, .int (sumI (fun k => if s9 / 2 ^ k % 2 = 1 then pf d (R.getD k 0) 2 else 0) (k9 + 1))), (0, .ref (z 0)), (1, .int (nI x)), (2, .ref ra), (3, .int (nI R.length)), (4, .int (avail d x)), (5, .int (nI (bfs (fun u => pf d u 2) (avail d x) R s9).1)), (6, .int ((bfs (fun u => pf d u 2) (avail d x) R s9).2)), (7, .int (nI s9)), (9, .int (nI k9))]) hx hb dX2_bestFit_154 hl (by decide) rfl (fun ls hl => ?_)
                        refine lv_iinc (v := nI (k9 + 1)) (lv' := [(9, .int (nI (k9 + 1))), (8, .int (sumI (fun k => if s9 / 2 ^ k % 2 = 1 then pf d (R.getD k 0) 2 else 0) (k9 + 1))), (0, .ref (z 0)), (1, .int (nI x)), (2, .ref ra), (3, .int (nI R.length)), (4, .int (avail d x)), (5, .int (nI (bfs (fun u => pf d u 2) (avail d x) R s9).1)), (6, .int ((bfs (fun u => pf d u 2) (avail d x) R s9).2)), (7, .int (nI s9))]) hx hb dX2_bestFit_156 hl (k := 9) rfl (nI_1 k9) (by decide) rfl (fun ls hl => ?_)
                        refine lv_goto (tgt := 113) hx hb dX2_bestFit_159 (by decide) ?_
                        exact W_more (by first | exact Nat.le_of_ble_eq_true rfl | omega | (dsimp only [Rm]; omega)) (by first | exact Nat.le_of_ble_eq_true rfl | omega | (dsimp only [Rm]; omega)) (ih_113 (k9 + 1) (by omega) (by omega) _ _ hP (va_D_of hD rfl) hS ls (lv_sub hl [2, 3, 4, 5, 6, 7, 8, 9, 1, 0] rfl))
                      refine lv_icmp_ne (tgt := 152) hx hb dX2_bestFit_129 (by decide) (fun c_129 => ?_) (fun c_129 => ?_)
                      · refine lv_iconst (v := 0) hx hb dX2_bestFit_152 rfl ?_
                        exact J_153 0 (by first | exact (if_neg (fun h => c_129 (congrArg nI h))).symm | exact (if_pos (nI_eq' (b := 1) c_129 (by omega) (by decide))).symm) ls hl
                      · have hgd : R.getD k9 0 < dN d 1 := (asc_get hasc (by omega)).2
                        refine lv_aload_n hx hb dX2_bestFit_132 rfl (lv_at hl 0 rfl) ?_
                        refine va_get hx hb hts in_X2 hown hK (frzF hF hS) 0 rfl rfl 2 (by decide) (hts _ q201) (fun _ h => h) rfl dX2_bestFit_133 ?_
                        refine lv_aload_n hx hb dX2_bestFit_136 rfl (lv_at hl 2 rfl) ?_
                        refine lv_iload hx hb dX2_bestFit_137 (lv_at hl 9 rfl) ?_
                        refine w_iald hx hb hK hP 0 rfl k9 rfl (by omega) (Nat.le_of_ble_eq_true rfl) dX2_bestFit_139 ?_
                        refine w_topi (y := nI (R.getD k9 0)) (hrf k9 (by omega)) ?_
                        refine r_after (va_runV (As := [.int (nI (R.getD k9 0))]) (rest := [.int (sumI (fun k => if s9 / 2 ^ k % 2 = 1 then pf d (R.getD k 0) 2 else 0) k9)]) (g := F0 m 140 ls [.int (nI (R.getD k9 0)), .ref (z 6), .int (sumI (fun k => if s9 / 2 ^ k % 2 = 1 then pf d (R.getD k 0) 2 else 0) k9)]) C.fix (c_bookGet l D k g (z 6) 24 (z 7) (z 8) (nI (z 13)) (dN d 1) (z 11) (R.getD k9 0) (z (32 + (R.getD k9 0))) _ (by omega) (by omega) (by omega) (rfs_at (by omega))) (cwV 1 hts (lw_V q347 q278 q279 q73 q280) rfl rfl rfl (by decide +kernel) ⟨Nat.le_of_ble_eq_true rfl, Nat.le_of_ble_eq_true rfl⟩) (preV mv2_hKX hK (va_recv hK (frzF hF hS) (ci := 4) (q0 := 5) rfl rfl) (fun U hU hW => (hKX_at hX hS hAN (va_cons ((frzF hF hS) 5 _ rfl) (va_cons ((frzF hF hS) 6 _ rfl) (va_cons ((frzF (hdk.2.2.1 (by omega)) hS) 0 _ rfl) va_nil))) hU hW))) rfl rfl hl.1 rfl (lv_room (Nat.le_of_ble_eq_true rfl)) dX2_bestFit_140 ⟨(by first | exact Nat.le_of_ble_eq_true rfl | omega | (dsimp only [Rm]; omega)), (by first | exact Nat.le_of_ble_eq_true rfl | omega | (dsimp only [Rm]; omega))⟩) ?_
                        refine va_castY hx hb hown (hts _ q348) (cast_self (hK.1 10 _ rfl)) (va_recv hK (frzF (hdk.2.2.2.2 (R.getD k9 0) (by omega)) hS) (ci := 10) (q0 := 0) rfl rfl) dX2_bestFit_143 ?_
                        refine va_getN hx hb hts in_X12 hown hK (frzF (hdk.2.2.2.2 (R.getD k9 0) (by omega)) hS) 0 rfl rfl 2 (by decide) ((hN _ q1549 rfl).use rfl) (fun _ h => h) rfl dX2_bestFit_146 ?_
                        refine lv_goto (tgt := 153) hx hb dX2_bestFit_149 (by decide) ?_
                        exact J_153 (pf d (R.getD k9 0) 2) (by first | exact (if_neg (fun h => c_129 (congrArg nI h))).symm | exact (if_pos (nI_eq' (b := 1) c_129 (by omega) (by decide))).symm) ls hl
                exact W_more (by first | exact Nat.le_of_ble_eq_true rfl | omega | (dsimp only [Rm]; omega)) (by first | exact Nat.le_of_ble_eq_true rfl | omega | (dsimp only [Rm]; omega)) (loop_113 (R.length + 1) 0 (Nat.zero_le _) (by omega) _ _ hP (va_D_of hD rfl) hS ls (lv_sub hl [2, 3, 4, 5, 6, 7, 8, 9, 1, 0] rfl))
          exact W_more (by first | exact Nat.le_of_ble_eq_true rfl | omega | (dsimp only [Rm]; omega)) (by first | exact Nat.le_of_ble_eq_true rfl | omega | (dsimp only [Rm]; omega)) (loop_99 (2 ^ R.length + 1) 1 (by omega) (by omega) (by omega) _ _ hP (va_D_of hD rfl) hS ls (lv_sub hl [4, 5, 6, 7, 3, 2, 1, 0] rfl))
        · have g_25 := nI_nle' (a := 12) c_25 (by decide) (by omega)
          refine lv_aload_n hx hb dX2_bestFit_28 rfl (lv_at hl 0 rfl) ?_
          refine va_get hx hb hts in_X2 hown hK (frzF hF hS) 0 rfl rfl 2 (by decide) (hts _ q201) (fun _ h => h) rfl dX2_bestFit_29 ?_
          refine lv_iload hx hb dX2_bestFit_32 (lv_at hl 4 rfl) ?_
          refine r_after (va_runV (As := [.int (nI p9)]) (rest := []) (g := F0 m 34 ls [.int (nI p9), .ref (z 6)]) C.fix (c_bookGet l D k g (z 6) 24 (z 7) (z 8) (nI (z 13)) (dN d 1) (z 11) p9 (z (32 + p9)) _ (by omega) (by omega) (by omega) (rfs_at (by omega))) (cwV 1 hts (lw_V q347 q278 q279 q73 q280) rfl rfl rfl (by decide +kernel) ⟨Nat.le_of_ble_eq_true rfl, Nat.le_of_ble_eq_true rfl⟩) (preV mv2_hKX hK (va_recv hK (frzF hF hS) (ci := 4) (q0 := 5) rfl rfl) (fun U hU hW => (hKX_at hX hS hAN (va_cons ((frzF hF hS) 5 _ rfl) (va_cons ((frzF hF hS) 6 _ rfl) (va_cons ((frzF (hdk.2.2.1 (by omega)) hS) 0 _ rfl) va_nil))) hU hW))) rfl rfl hl.1 rfl (lv_room (Nat.le_of_ble_eq_true rfl)) dX2_bestFit_34 ⟨(by first | exact Nat.le_of_ble_eq_true rfl | omega | (dsimp only [Rm]; omega)), (by first | exact Nat.le_of_ble_eq_true rfl | omega | (dsimp only [Rm]; omega))⟩) ?_
          refine va_castY hx hb hown (hts _ q348) (cast_self (hK.1 10 _ rfl)) (va_recv hK (frzF (hdk.2.2.2.2 p9 (by omega)) hS) (ci := 10) (q0 := 0) rfl rfl) dX2_bestFit_37 ?_
          refine va_getN hx hb hts in_X12 hown hK (frzF (hdk.2.2.2.2 p9 (by omega)) hS) 0 rfl rfl 0 (by decide) ((hN _ q1544 rfl).use rfl) (fun _ h => h) rfl dX2_bestFit_40 ?_
          refine lv_iload_n hx hb dX2_bestFit_43 rfl (lv_at hl 1 rfl) ?_
          refine lv_icmp_ne (tgt := 77) hx hb dX2_bestFit_44 (by decide) (fun c_44 => ?_) (fun c_44 => ?_)
          · have e_rl : rl d (nI x) (p9 + 1) = rl d (nI x) p9 := if_neg (fun h => c_44 h.2.1)
            have hl : lv_has ls 10 [(0, .ref (z 0)), (1, .int (nI x)), (2, .ref ra), (3, .int (nI (rl d (nI x) (p9 + 1)).length)), (4, .int (nI p9))] := by rw [e_rl]; exact hl
            refine lv_iinc (v := nI (p9 + 1)) (lv' := [(4, .int (nI (p9 + 1))), (0, .ref (z 0)), (1, .int (nI x)), (2, .ref ra), (3, .int (nI (rl d (nI x) (p9 + 1)).length))]) hx hb dX2_bestFit_77 hl (k := 4) rfl (nI_1 p9) (by decide) rfl (fun ls hl => ?_)
            refine lv_goto (tgt := 10) hx hb dX2_bestFit_80 (by decide) ?_
            exact W_more (by first | exact Nat.le_of_ble_eq_true rfl | omega | (dsimp only [Rm]; omega)) (by first | exact Nat.le_of_ble_eq_true rfl | omega | (dsimp only [Rm]; omega)) (ih_10 (p9 + 1) _ (by omega) (by rw [e_rl]; exact hrf) (by omega) _ _ hP (va_D_of hD rfl) hS ls (lv_sub hl [1, 2, 3, 4, 0] rfl))
          · refine lv_aload_n hx hb dX2_bestFit_47 rfl (lv_at hl 0 rfl) ?_
            refine va_get hx hb hts in_X2 hown hK (frzF hF hS) 0 rfl rfl 2 (by decide) (hts _ q201) (fun _ h => h) rfl dX2_bestFit_48 ?_
            refine lv_iload hx hb dX2_bestFit_51 (lv_at hl 4 rfl) ?_
            refine r_after (va_runV (As := [.int (nI p9)]) (rest := []) (g := F0 m 53 ls [.int (nI p9), .ref (z 6)]) C.fix (c_bookGet l D k g (z 6) 24 (z 7) (z 8) (nI (z 13)) (dN d 1) (z 11) p9 (z (32 + p9)) _ (by omega) (by omega) (by omega) (rfs_at (by omega))) (cwV 1 hts (lw_V q347 q278 q279 q73 q280) rfl rfl rfl (by decide +kernel) ⟨Nat.le_of_ble_eq_true rfl, Nat.le_of_ble_eq_true rfl⟩) (preV mv2_hKX hK (va_recv hK (frzF hF hS) (ci := 4) (q0 := 5) rfl rfl) (fun U hU hW => (hKX_at hX hS hAN (va_cons ((frzF hF hS) 5 _ rfl) (va_cons ((frzF hF hS) 6 _ rfl) (va_cons ((frzF (hdk.2.2.1 (by omega)) hS) 0 _ rfl) va_nil))) hU hW))) rfl rfl hl.1 rfl (lv_room (Nat.le_of_ble_eq_true rfl)) dX2_bestFit_53 ⟨(by first | exact Nat.le_of_ble_eq_true rfl | omega | (dsimp only [Rm]; omega)), (by first | exact Nat.le_of_ble_eq_true rfl | omega | (dsimp only [Rm]; omega))⟩) ?_
            refine va_castY hx hb hown (hts _ q348) (cast_self (hK.1 10 _ rfl)) (va_recv hK (frzF (hdk.2.2.2.2 p9 (by omega)) hS) (ci := 10) (q0 := 0) rfl rfl) dX2_bestFit_56 ?_
            refine va_getN hx hb hts in_X12 hown hK (frzF (hdk.2.2.2.2 p9 (by omega)) hS) 0 rfl rfl 4 (by decide) ((hN _ q1555 rfl).use rfl) (fun _ h => h) rfl dX2_bestFit_59 ?_
            refine lv_iconst (v := 3) hx hb dX2_bestFit_62 rfl ?_
            refine lv_icmp_eq (tgt := 69) hx hb dX2_bestFit_63 (by decide) (fun c_63 => ?_) (fun c_63 => ?_)
            · have e_app : rl d (nI x) (p9 + 1) = rl d (nI x) p9 ++ [p9] := if_pos ⟨g_25, c_44, c_63⟩
              refine lv_aload_n hx hb dX2_bestFit_69 rfl (lv_at hl 2 rfl) ?_
              refine lv_iload_n hx hb dX2_bestFit_70 rfl (lv_at hl 3 rfl) ?_
              refine lv_iload hx hb dX2_bestFit_71 (lv_at hl 4 rfl) ?_
              refine w_iast hx hb hK hP (va_D_of hD rfl) hS 0 rfl ((rl d (nI x) p9).length) rfl (by omega) (Nat.le_of_ble_eq_true rfl) dX2_bestFit_73 (fun H locs hP _ hS => ?_)
              have hP : va_P D clA [(ra, .inl (k 0, 12, .inl (upd rf ((rl d (nI x) p9).length) (nI p9))))] H := hP
              have hrf2 : ∀ k, k < (rl d (nI x) (p9 + 1)).length → upd rf (rl d (nI x) p9).length (nI p9) k = nI ((rl d (nI x) (p9 + 1)).getD k 0) := by
                intro k hk
                rw [e_app, List.length_append] at hk
                rw [e_app]
                by_cases e : k = (rl d (nI x) p9).length
                · rw [e, pk_us, get_last]
                · have hk2 : k < (rl d (nI x) p9).length := by have : [p9].length = 1 := rfl; omega
                  rw [pk_un e, get_app hk2]
                  exact hrf k hk2
              refine lv_iinc (v := nI (rl d (nI x) (p9 + 1)).length) (lv' := [(3, .int (nI (rl d (nI x) (p9 + 1)).length)), (0, .ref (z 0)), (1, .int (nI x)), (2, .ref ra), (4, .int (nI p9))]) hx hb dX2_bestFit_74 hl (k := 3) rfl (by rw [e_app, List.length_append]; exact nI_1 _) (by decide) rfl (fun ls hl => ?_)
              refine lv_iinc (v := nI (p9 + 1)) (lv' := [(4, .int (nI (p9 + 1))), (3, .int (nI (rl d (nI x) (p9 + 1)).length)), (0, .ref (z 0)), (1, .int (nI x)), (2, .ref ra)]) hx hb dX2_bestFit_77 hl (k := 4) rfl (nI_1 p9) (by decide) rfl (fun ls hl => ?_)
              refine lv_goto (tgt := 10) hx hb dX2_bestFit_80 (by decide) ?_
              exact W_more (by first | exact Nat.le_of_ble_eq_true rfl | omega | (dsimp only [Rm]; omega)) (by first | exact Nat.le_of_ble_eq_true rfl | omega | (dsimp only [Rm]; omega)) (ih_10 (p9 + 1) _ (by omega) hrf2 (by omega) _ _ hP (va_D_of hD rfl) hS ls (lv_sub hl [2, 3, 4, 1, 0] rfl))
            · have e_rl : rl d (nI x) (p9 + 1) = rl d (nI x) p9 := if_neg (fun h => c_63 h.2.2)
              have hl : lv_has ls 10 [(0, .ref (z 0)), (1, .int (nI x)), (2, .ref ra), (3, .int (nI (rl d (nI x) (p9 + 1)).length)), (4, .int (nI p9))] := by rw [e_rl]; exact hl
              refine lv_goto (tgt := 77) hx hb dX2_bestFit_66 (by decide) ?_
              refine lv_iinc (v := nI (p9 + 1)) (lv' := [(4, .int (nI (p9 + 1))), (0, .ref (z 0)), (1, .int (nI x)), (2, .ref ra), (3, .int (nI (rl d (nI x) (p9 + 1)).length))]) hx hb dX2_bestFit_77 hl (k := 4) rfl (nI_1 p9) (by decide) rfl (fun ls hl => ?_)
              refine lv_goto (tgt := 10) hx hb dX2_bestFit_80 (by decide) ?_
              exact W_more (by first | exact Nat.le_of_ble_eq_true rfl | omega | (dsimp only [Rm]; omega)) (by first | exact Nat.le_of_ble_eq_true rfl | omega | (dsimp only [Rm]; omega)) (ih_10 (p9 + 1) _ (by omega) (by rw [e_rl]; exact hrf) (by omega) _ _ hP (va_D_of hD rfl) hS ls (lv_sub hl [1, 2, 3, 4, 0] rfl))
  exact W_more (by first | exact Nat.le_of_ble_eq_true rfl | omega | (dsimp only [Rm]; omega)) (by first | exact Nat.le_of_ble_eq_true rfl | omega | (dsimp only [Rm]; omega)) (loop_10 (dN d 1 + 1) 0 _ (Nat.zero_le _) (fun k hk => absurd hk (by simp [rl])) (by omega) _ _ hP (va_D_of hD rfl) hS ls (lv_sub hl [3, 4, 2, 1, 0] rfl))
set_option maxHeartbeats 4000000 in
theorem c_PbestFit (l : Launch) (D : va_G) (k : Nat → ClassId) (g : Nat → Nat) (o bb dq : Nat) (bl eo : Int32) (z : Nat → Nat) (hf d : Nat → Int32) (hz : dkN g z hf d) (x : Int32) (htr : l.stackTraces = false) : oM l D k yX1_bestFit cX1_bestFit 2 (some .int) 8 159 2 18 [.ref o, .int x] (hKX (fun HH => va_P D clA [(o, .inr (1, [.ref bb, .ref dq, .ref (z 0), .int bl, .int eo]))] HH ∧ dk D k z hf d HH) g) (hasC d x) (some (.int (fitV d x))) (fun E => ¬ hasC d x ∧ E = "java/lang/IndexOutOfBoundsException") := by
  refine oM_of (by decide) (Nat.le_of_ble_eq_true rfl) ?_
  intro p e s m below meth c ls C hnt hK ⟨⟨hO, hdk⟩, hX⟩ hS hl
  have hP : va_P D clA [] s.heap := va_nil
  have hD : va_D (fun q => s.heap.size ≤ q) [] := va_D_nod.mpr ⟨List.nodup_nil, fun q h => by cases h⟩
  have hA : ∀ q, s.heap.size ≤ q → s.heap.size ≤ q := fun _ h => h
  have hAN : ∀ q, s.heap.size ≤ q → g 0 ≤ q := fun q h => Nat.le_trans hX.le h
  have hN : NW s := hX.nw
  obtain ⟨hx, hb, hr, hml, hown, hts, hlk⟩ := id C
  have hl : lv_has ls 2 [(0, .ref o), (1, .int x)] := hl
  have hF : va_P D clA [(o, .inr (1, [.ref bb, .ref dq, .ref (z 0), .int bl, .int eo])), (z 0, .inr (2, [.ref (z 1), .ref (z 3), .ref (z 6), .ref (z 9), .int (d 3)])), (z 1, .inr (3, [.ref (z 2), .int (d 2)])), (z 2, .inl (k 0, 16, .inl hf)), (z 3, .inr (4, [.ref (z 4), .int 12])), (z 4, .inr (12, [.int (nI (z 12)), .ref (z 5), .int (nI (dN d 0))])), (z 6, .inr (4, [.ref (z 7), .int 24])), (z 7, .inr (12, [.int (nI (z 13)), .ref (z 8), .int (nI (dN d 1))]))] s.heap := va_cons (hO 0 _ rfl) hdk.1
  have hd := hz.1
  have hh := hz.2.1
  have h10 := hz.2.2
  obtain ⟨h10, h10b, h11, h11b, -⟩ := h10
  have hd0 := hd.1.1.2
  have hd1 := hd.1.2.1.2
  refine lv_aload_n hx hb dX1_bestFit_0 rfl (lv_at hl 0 rfl) ?_
  refine lv_iload_n hx hb dX1_bestFit_1 rfl (lv_at hl 1 rfl) ?_
  refine o_after (vy_runV (As := [.int x]) (rest := []) (g := F0 m 2 ls [.int x, .ref o]) C.fix (c_reqCredit l D k g o bb dq bl eo z hf d hz x htr) (cwV 1 hts (lw_V q1325 q1327 qs25 q68 q1328) rfl rfl rfl (by decide +kernel) ⟨Nat.le_of_ble_eq_true rfl, Nat.le_of_ble_eq_true rfl⟩) (preV mv2_hKX hK (va_recv hK (frzF hF hS) (ci := 1) (q0 := 0) rfl rfl) (fun U hU hW => (hKX_at hX hS hAN (⟨(frzF hO hS), (dk_frF hdk hS)⟩) hU hW))) rfl rfl hl.1 rfl (lv_room (Nat.le_of_ble_eq_true rfl)) dX1_bestFit_2 ⟨(by first | exact Nat.le_of_ble_eq_true rfl | omega | (dsimp only [Rm]; omega)), (by first | exact Nat.le_of_ble_eq_true rfl | omega | (dsimp only [Rm]; omega))⟩) hS (fun E ce q9 H hth hS hk hce hcv hcl => o_out hnt hlk (hth) hS hce hcv hcl (by first | exact Nat.le_of_ble_eq_true rfl | omega | (dsimp only [Rm]; omega)) (by first | exact Nat.le_of_ble_eq_true rfl | omega | (dsimp only [Rm]; omega))) (fun H hp2 hS hsz hk => ?_)
  have hP : va_P D clA [] H := hP.kept (fun i q hi => hk q.1 ((hP i q hi).lt))
  have hD : va_D (fun q => s.heap.size ≤ q) [] := hD
  refine lv_aload_n hx hb dX1_bestFit_5 rfl (lv_at hl 0 rfl) ?_
  refine va_get hx hb hts in_X1 hown hK (frzF hF hS) 0 rfl rfl 2 (by decide) (hts _ q221) (fun _ h => h) rfl dX1_bestFit_6 ?_
  refine lv_iload_n hx hb dX1_bestFit_9 rfl (lv_at hl 1 rfl) ?_
  obtain ⟨hcx, ecx⟩ := hasC_ci hd hp2
  refine w_topi (y := nI (ci x)) ecx ?_
  refine g_after (va_runV (As := [.int (nI (ci x))]) (rest := []) (g := F0 m 10 ls [.int (nI (ci x)), .ref (z 0)]) C.fix (c_bestFit l D k g z hf d hz (ci x) (by omega)) (cwV 1 hts (lw_V q1501 q1502 q1503 q71 q1504) rfl rfl rfl (by decide +kernel) ⟨Nat.le_of_ble_eq_true rfl, Nat.le_of_ble_eq_true rfl⟩) (preV mv2_hKX hK (va_recv hK (frzF hF hS) (ci := 2) (q0 := 1) rfl rfl) (fun U hU hW => (hKX_at hX hS hAN (dk_frF hdk hS) hU hW))) rfl rfl hl.1 rfl (lv_room (Nat.le_of_ble_eq_true rfl)) dX1_bestFit_10 ⟨(by first | exact Nat.le_of_ble_eq_true rfl | omega | (dsimp only [Rm]; omega)), (by first | exact Nat.le_of_ble_eq_true rfl | omega | (dsimp only [Rm]; omega))⟩) hS (fun H hS hsz hk => ?_)
  have hP : va_P D clA [] H := hP.kept (fun i q hi => hk q.1 ((hP i q hi).lt))
  have hD : va_D (fun q => s.heap.size ≤ q) [] := hD
  exact o_iret C hp2 (by rw [← ecx]) hS (by first | exact Nat.le_of_ble_eq_true rfl | omega | (dsimp only [Rm]; omega)) (by first | exact Nat.le_of_ble_eq_true rfl | omega | (dsimp only [Rm]; omega)) dX1_bestFit_13
