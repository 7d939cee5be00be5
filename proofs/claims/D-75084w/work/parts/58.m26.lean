/-! ArrayList, Arrays.copyOf (printed by gen/m26.py) -/
set_option maxRecDepth 100000
theorem mn_le {a b : Nat} (h : a ≤ b) (hb : b < 2 ^ 31) : mn (nI a) (nI b) = nI a := by
  unfold mn
  by_cases z : nI a < nI b
  · rw [if_pos z]
  · rw [if_neg z, show a = b by have := nI_nlt' z (by omega) hb; omega]
theorem obDs_at {D : va_G} {p : Program} {l : Launch} {e : Env} {R : Room} {s : State} {m : MethodId} {args : Array Value} {below : List Frame} {meth : Method} {c : Code} {H : Heap} {locs : List Loc} {cells slots : Nat} {Q : State → Prop} {g : JFrame} {J : Type} {f : J → Prop} {ad : J → Nat} (h : ∀ j, f j → obD D (ad j) s.heap) (kk : (∀ j, f j → obD D (ad j) H) → W p l e R s m args below meth c H locs cells slots Q g) : W p l e R s m args below meth c H locs cells slots Q g :=
  fun T hT X => kk (fun j hj => by have := obD_now X (h j hj); rwa [hT] at this) T hT X
set_option maxHeartbeats 4000000 in
theorem j_ACinit (l : Launch) (D : va_G) (k : Nat → ClassId) (g : Nat → Nat) (q : Nat) : jM l D k yJ0_init cJ0_init 1 none 1 20 0 0 [.ref q] g [] (fun HH => True) (fun _ : Unit => none) (fun _ _ => True) (fun _ : Unit => []) := by
  refine jM_of (by decide) (Nat.le_of_ble_eq_true rfl) ?_
  intro p e s m below meth c ls A hAe C hnm hmn hK hP hD hA hAN _ hX hS hl
  have hN : NW s := hX.nw
  obtain ⟨hx, hb, hr, hml, hown, hts, hlk⟩ := id C
  have hl : lv_has ls 1 [(0, .ref q)] := hl
  refine lv_aload_n hx hb dJ0_init_0 rfl (lv_at hl 0 rfl) ?_
  refine W.objInit hx hb hown (hts _ q122) (hts _ q112) (hts _ q113) rfl (by rw [hml]; exact hl.1) rfl dJ0_init_1 (Nat.le_of_ble_eq_true rfl) (Nat.le_of_ble_eq_true rfl) ?_
  exact j_vret hAe C () rfl trivial hP (va_D_of hD rfl) hS (by first | exact Nat.le_of_ble_eq_true rfl | omega | (dsimp only [Rm]; omega)) (by first | exact Nat.le_of_ble_eq_true rfl | omega | (dsimp only [Rm]; omega)) dJ0_init_4
set_option maxHeartbeats 4000000 in
theorem j_ALinit0 (l : Launch) (D : va_G) (k : Nat → ClassId) (g : Nat → Nat) (q : Nat) : jM l D k yJ2_init cJ2_init 1 none 2 40 0 0 [.ref q] g [(q, .inr (12, [.int 0, .null, .int 0]))] (fun HH => True) (fun _ : Unit => none) (fun _ _ => True) (fun _ : Unit => [(q, .inr (12, [.int (nI 0), .null, .int 0]))]) := by
  refine jM_of (by decide) (Nat.le_of_ble_eq_true rfl) ?_
  intro p e s m below meth c ls A hAe C hnm hmn hK hP hD hA hAN _ hX hS hl
  have hN : NW s := hX.nw
  obtain ⟨hx, hb, hr, hml, hown, hts, hlk⟩ := id C
  have hl : lv_has ls 1 [(0, .ref q)] := hl
  refine lv_aload_n hx hb dJ2_init_0 rfl (lv_at hl 0 rfl) ?_
  refine j_after (w1 := []) (w2 := [(q, .inr (12, [.int 0, .null, .int 0]))]) (va_runI (As := []) (rest := []) (g := F0 m 1 ls [.ref q]) C.fix (j_ACinit l D k g q) (cwC 0 hts q171 q120 q69 q121 rfl rfl rfl (by decide +kernel) ⟨Nat.le_of_ble_eq_true rfl, Nat.le_of_ble_eq_true rfl⟩) (preS mv2_jPre hK (fun U hU hW => jPre_at (w1 := []) (w2 := [(q, .inr (12, [.int 0, .null, .int 0]))]) hP (va_D_of hD rfl) hAN hX hS trivial hU hW)) rfl rfl hl.1 rfl (lv_room (Nat.le_of_ble_eq_true rfl)) dJ2_init_1 ⟨(by first | exact Nat.le_of_ble_eq_true rfl | omega | (dsimp only [Rm]; omega)), (by first | exact Nat.le_of_ble_eq_true rfl | omega | (dsimp only [Rm]; omega))⟩) hP (va_D_of hD rfl) hS hA (fun xx H locs hB hP hD hS hsz hk => ?_)
  have hP : va_P D clA [(q, .inr (12, [.int 0, .null, .int 0]))] H := hP
  have hD : va_D A [(q, .inr (12, [.int 0, .null, .int 0]))] := hD
  refine lv_aload_n hx hb dJ2_init_4 rfl (lv_at hl 0 rfl) ?_
  refine lv_iconst (v := 0) hx hb dJ2_init_5 rfl ?_
  refine w_topi (y := nI 0) rfl ?_
  refine va_put hx hb hts in_J3 tyJ3 tyJ3_ok nmJ3 hown hK hP (va_D_of hD rfl) hS 0 rfl rfl 0 (by decide) (hts _ q176) (fun _ h => h) rfl rfl rfl rfl (Nat.le_of_ble_eq_true rfl) dJ2_init_6 (fun H locs hP _ hS => ?_)
  have hP : va_P D clA [(q, .inr (12, [.int (nI 0), .null, .int 0]))] H := hP
  exact j_vret hAe C () rfl trivial hP (va_D_of hD rfl) hS (by first | exact Nat.le_of_ble_eq_true rfl | omega | (dsimp only [Rm]; omega)) (by first | exact Nat.le_of_ble_eq_true rfl | omega | (dsimp only [Rm]; omega)) dJ2_init_9
set_option maxHeartbeats 4000000 in
theorem j_ALinit (l : Launch) (D : va_G) (k : Nat → ClassId) (g : Nat → Nat) (q : Nat) : jM l D k yJ3_init cJ3_init 1 none 3 60 0 0 [.ref q] g [(q, .inr (12, [.int 0, .null, .int 0]))] (fun HH => True) (fun _ : Unit => none) (fun _ _ => True) (fun _ : Unit => [(q, .inr (12, [.int (nI 0), .ref (g 1), .int 0]))]) := by
  refine jM_of (by decide) (Nat.le_of_ble_eq_true rfl) ?_
  intro p e s m below meth c ls A hAe C hnm hmn hK hP hD hA hAN _ hX hS hl
  have hN : NW s := hX.nw
  obtain ⟨hx, hb, hr, hml, hown, hts, hlk⟩ := id C
  have hl : lv_has ls 1 [(0, .ref q)] := hl
  refine lv_aload_n hx hb dJ3_init_0 rfl (lv_at hl 0 rfl) ?_
  refine j_after (w1 := [(q, .inr (12, [.int 0, .null, .int 0]))]) (w2 := []) (va_runI (As := []) (rest := []) (g := F0 m 1 ls [.ref q]) C.fix (j_ALinit0 l D k g q) (cwC 0 hts q168 q169 q74 q170 rfl rfl rfl (by decide +kernel) ⟨Nat.le_of_ble_eq_true rfl, Nat.le_of_ble_eq_true rfl⟩) (preS mv2_jPre hK (fun U hU hW => jPre_at (w1 := [(q, .inr (12, [.int 0, .null, .int 0]))]) (w2 := []) hP (va_D_of hD rfl) hAN hX hS trivial hU hW)) rfl rfl hl.1 rfl (lv_room (Nat.le_of_ble_eq_true rfl)) dJ3_init_1 ⟨(by first | exact Nat.le_of_ble_eq_true rfl | omega | (dsimp only [Rm]; omega)), (by first | exact Nat.le_of_ble_eq_true rfl | omega | (dsimp only [Rm]; omega))⟩) hP (va_D_of hD rfl) hS hA (fun xx H locs hB hP hD hS hsz hk => ?_)
  have hP : va_P D clA [(q, .inr (12, [.int (nI 0), .null, .int 0]))] H := hP
  have hD : va_D A [(q, .inr (12, [.int (nI 0), .null, .int 0]))] := hD
  refine lv_aload_n hx hb dJ3_init_4 rfl (lv_at hl 0 rfl) ?_
  refine va_gets (v := .ref (g 1)) hx hb hX.kl.1 (S_wide hS hAN) hown (hts _ q172) (fun _ h => h) dJ3_init_5 ?_
  refine va_put hx hb hts in_J3 tyJ3 tyJ3_ok nmJ3 hown hK hP (va_D_of hD rfl) hS 0 rfl rfl 1 (by decide) (hts _ q174) (fun _ h => h) rfl rfl rfl rfl (Nat.le_of_ble_eq_true rfl) dJ3_init_8 (fun H locs hP _ hS => ?_)
  have hP : va_P D clA [(q, .inr (12, [.int (nI 0), .ref (g 1), .int 0]))] H := hP
  exact j_vret hAe C () rfl trivial hP (va_D_of hD rfl) hS (by first | exact Nat.le_of_ble_eq_true rfl | omega | (dsimp only [Rm]; omega)) (by first | exact Nat.le_of_ble_eq_true rfl | omega | (dsimp only [Rm]; omega)) dJ3_init_11
set_option maxHeartbeats 4000000 in
theorem j_newLength (l : Launch) (D : va_G) (k : Nat → ClassId) (g : Nat → Nat) (n b : Nat) (hn : n ≤ 100) (hb0 : b < 64) : sM l D k yJ12_newLength cJ12_newLength 4 (some .int) 1 23 [.int (nI n), .int 1, .int (nI b)] (hKX (fun HH => True) g) (some (.int (nI (n + (1 + (b - 1)))))) := by
  refine sM_of (by decide) (Nat.le_of_ble_eq_true rfl) ?_
  intro p e s m below meth c ls C hK ⟨_, hX⟩ hl
  have hS : va_S (G0 g) s.heap s.heap [] := va_S.rf
  have hAN : ∀ q, G0 g q → g 0 ≤ q := fun _ h => h
  have hN : NW s := hX.nw
  obtain ⟨hx, hb, hr, hml, hown, hts, hlk⟩ := id C
  have hl : lv_has ls 4 [(0, .int (nI n)), (1, .int 1), (2, .int (nI b))] := hl
  refine lv_iload_n hx hb dJ12_newLength_0 rfl (lv_at hl 0 rfl) ?_
  refine lv_iload_n hx hb dJ12_newLength_1 rfl (lv_at hl 1 rfl) ?_
  refine lv_iload_n hx hb dJ12_newLength_2 rfl (lv_at hl 2 rfl) ?_
  refine va_mmax hx hb (hml.trans hl.1.symm) hown (hts _ q559) (hts _ q560) (hts _ q87) (hts _ q561) (Nat.le_of_ble_eq_true rfl) (Nat.le_of_ble_eq_true rfl) (by first | exact Nat.le_of_ble_eq_true rfl | omega | (dsimp only [Rm]; omega)) (by first | exact Nat.le_of_ble_eq_true rfl | omega | (dsimp only [Rm]; omega)) dJ12_newLength_3 ?_
  refine w_topi (y := mx 1 (nI b)) rfl ?_
  refine lv_iadd hx hb dJ12_newLength_6 ?_
  refine w_topi (y := nI (n + (1 + (b - 1)))) (by rw [mx1 b hb0, nI_add]) ?_
  refine lv_istore_n (lv' := [(3, .int (nI (n + (1 + (b - 1))))), (0, .int (nI n)), (1, .int 1), (2, .int (nI b))]) hx hb dJ12_newLength_7 rfl hl (by decide) rfl (fun ls hl => ?_)
  refine lv_iconst (v := 0) hx hb dJ12_newLength_8 rfl ?_
  refine lv_iload_n hx hb dJ12_newLength_9 rfl (lv_at hl 0 rfl) ?_
  refine lv_icmp_ge (tgt := 21) hx hb dJ12_newLength_10 (by decide) (fun c_10 => ?_) (fun c_10 => ?_)
  · exact absurd (nI_le' (b := 0) c_10 (by omega) (by decide)) (by omega)
  · refine lv_iload_n hx hb dJ12_newLength_13 rfl (lv_at hl 0 rfl) ?_
    refine lv_ldc (v := 2147483639) hx hb hown (hts _ q562) dJ12_newLength_14 ?_
    refine lv_icmp_gt (tgt := 21) hx hb dJ12_newLength_16 (by decide) (fun c_16 => ?_) (fun c_16 => ?_)
    · exact absurd (nI_lt' (a := 2147483639) c_16 (by decide) (by omega)) (by omega)
    · refine lv_iload_n hx hb dJ12_newLength_19 rfl (lv_at hl 0 rfl) ?_
      exact r_iret C rfl dJ12_newLength_20
set_option maxHeartbeats 4000000 in
theorem j_copyOf3 (l : Launch) (D : va_G) (k : Nat → ClassId) (g : Nat → Nat) (el n n2 c0 : Nat) (ad : Nat → Nat) (hcn : c0 ≤ n) (h2 : n ≤ n2) (hn2 : n2 ≤ 1000) : jM l D k yJ14_copyOf_3 cJ14_copyOf_3 4 (some (.array (.object "java/lang/Object"))) 1 40 1 n2 [.ref el, .int (nI n2), .ref (g 2)] g [(el, .inl (k 3, n, .inr (.inr (.inr (.inr (rfs c0 ad))))))] (fun HH => (∀ j, j < c0 → obD D (ad j) HH)) (fun xx : Nat => some (.ref xx)) (fun _ _ => True) (fun xx : Nat => [(el, .inl (k 3, n, .inr (.inr (.inr (.inr (rfs c0 ad)))))), (xx, .inl (k 3, n2, .inr (.inr (.inr (.inr (rfs c0 ad))))))]) := by
  refine jM_of (by decide) (Nat.le_of_ble_eq_true rfl) ?_
  intro p e s m below meth c ls A hAe C hnm hmn hK hP hD hA hAN hob hX hS hl
  have hN : NW s := hX.nw
  obtain ⟨hx, hb, hr, hml, hown, hts, hlk⟩ := id C
  have hl : lv_has ls 4 [(0, .ref el), (1, .int (nI n2)), (2, .ref (g 2))] := hl
  refine lv_aload_n hx hb dJ14_copyOf_3_0 rfl (lv_at hl 2 rfl) ?_
  refine va_ldcM hx hb hown (hts _ q1066) hX.mi dJ14_copyOf_3_1 ?_
  refine lv_acmp_ne (rx := some (g 2)) (ry := some (g 2)) (tgt := 13) hx hb dJ14_copyOf_3_3 (by decide) (fun c_3 => ?_) (fun c_3 => ?_)
  · exact absurd rfl c_3
  · refine lv_iload_n hx hb dJ14_copyOf_3_6 rfl (lv_at hl 1 rfl) ?_
    refine n_newr (N' := n2) hx hb hown (hts _ q1067) hX.ao hK hP (va_D_of hD rfl) hS hA (by omega) (by first | exact Nat.le_of_ble_eq_true rfl | omega | (dsimp only [Rm]; omega)) (by first | exact Nat.le_of_ble_eq_true rfl | omega | (dsimp only [Rm]; omega)) dJ14_copyOf_3_7 (fun x H hP hD hS => ?_)
    have hP : va_P D clA [(el, .inl (k 3, n, .inr (.inr (.inr (.inr (rfs c0 ad)))))), (x, .inl (k 3, n2, .inr (.inr (.inr (.inr (rfs 0 (fun _ => 0)))))))] H := P_mid 1 hP
    have hD : va_D A [(el, .inl (k 3, n, .inr (.inr (.inr (.inr (rfs c0 ad)))))), (x, .inl (k 3, n2, .inr (.inr (.inr (.inr (rfs 0 (fun _ => 0)))))))] := D_mid 1 hD
    refine lv_goto (tgt := 24) hx hb dJ14_copyOf_3_10 (by decide) ?_
    refine lv_astore_n (lv' := [(3, .ref x), (0, .ref el), (1, .int (nI n2)), (2, .ref (g 2))]) hx hb dJ14_copyOf_3_24 rfl hl (by decide) rfl (fun ls hl => ?_)
    refine lv_aload_n hx hb dJ14_copyOf_3_25 rfl (lv_at hl 1 rfl) ?_
    refine lv_iconst (v := 0) hx hb dJ14_copyOf_3_26 rfl ?_
    refine lv_aload_n hx hb dJ14_copyOf_3_27 rfl (lv_at hl 0 rfl) ?_
    refine lv_iconst (v := 0) hx hb dJ14_copyOf_3_28 rfl ?_
    refine lv_aload_n hx hb dJ14_copyOf_3_29 rfl (lv_at hl 1 rfl) ?_
    refine va_alen (v := nI n) hx hb hK hP 0 3 rfl rfl rfl dJ14_copyOf_3_30 ?_
    refine lv_iload_n hx hb dJ14_copyOf_3_31 rfl (lv_at hl 2 rfl) ?_
    refine va_mmin hx hb (hml.trans hl.1.symm) hown (hts _ q577) (hts _ q578) (hts _ q87) (hts _ q579) (Nat.le_of_ble_eq_true rfl) (Nat.le_of_ble_eq_true rfl) (by first | exact Nat.le_of_ble_eq_true rfl | omega | (dsimp only [Rm]; omega)) (by first | exact Nat.le_of_ble_eq_true rfl | omega | (dsimp only [Rm]; omega)) dJ14_copyOf_3_32 ?_
    refine w_topi (y := mn (nI n) (nI n2)) (mn_if _ _) ?_
    refine w_topi (y := nI n) (mn_le h2 (by omega)) ?_
    refine o_copy hx hb (hml.trans hl.1.symm) hown (hts _ q580) (hts _ q582) (hts _ q581) (hts _ q89) hK hN hP (va_D_of hD rfl) hS 0 1 rfl rfl (by omega) (by omega) (by omega) hob (by first | exact Nat.le_of_ble_eq_true rfl | omega | (dsimp only [Rm]; omega)) (by first | decide | exact Nat.le_of_ble_eq_true rfl) dJ14_copyOf_3_35 (fun H locs hP _ hS => ?_)
    have hP : va_P D clA [(el, .inl (k 3, n, .inr (.inr (.inr (.inr (rfs c0 ad)))))), (x, .inl (k 3, n2, .inr (.inr (.inr (.inr (rfs c0 ad))))))] H := hP
    refine lv_aload_n hx hb dJ14_copyOf_3_38 rfl (lv_at hl 0 rfl) ?_
    exact j_aret hAe C (Or.inr ⟨_, rfl⟩) x rfl trivial hP (va_D_of hD rfl) hS (by first | exact Nat.le_of_ble_eq_true rfl | omega | (dsimp only [Rm]; omega)) (by first | exact Nat.le_of_ble_eq_true rfl | omega | (dsimp only [Rm]; omega)) dJ14_copyOf_3_39
set_option maxHeartbeats 4000000 in
theorem j_copyOf2 (l : Launch) (D : va_G) (k : Nat → ClassId) (g : Nat → Nat) (el n n2 c0 : Nat) (ad : Nat → Nat) (hcn : c0 ≤ n) (h2 : n ≤ n2) (hn2 : n2 ≤ 1000) : jM l D k yJ14_copyOf_2 cJ14_copyOf_2 2 (some (.array (.object "java/lang/Object"))) 2 63 1 n2 [.ref el, .int (nI n2)] g [(el, .inl (k 3, n, .inr (.inr (.inr (.inr (rfs c0 ad))))))] (fun HH => (∀ j, j < c0 → obD D (ad j) HH)) (fun xx : Nat => some (.ref xx)) (fun _ _ => True) (fun xx : Nat => [(el, .inl (k 3, n, .inr (.inr (.inr (.inr (rfs c0 ad)))))), (xx, .inl (k 3, n2, .inr (.inr (.inr (.inr (rfs c0 ad))))))]) := by
  refine jM_of (by decide) (Nat.le_of_ble_eq_true rfl) ?_
  intro p e s m below meth c ls A hAe C hnm hmn hK hP hD hA hAN hob hX hS hl
  have hN : NW s := hX.nw
  obtain ⟨hx, hb, hr, hml, hown, hts, hlk⟩ := id C
  have hl : lv_has ls 2 [(0, .ref el), (1, .int (nI n2))] := hl
  refine lv_aload_n hx hb dJ14_copyOf_2_0 rfl (lv_at hl 0 rfl) ?_
  refine lv_iload_n hx hb dJ14_copyOf_2_1 rfl (lv_at hl 1 rfl) ?_
  refine lv_aload_n hx hb dJ14_copyOf_2_2 rfl (lv_at hl 0 rfl) ?_
  refine va_getC (C := "[Ljava/lang/Object;") hx hb (hml.trans hl.1.symm) hown (hts _ q1037) (hN.at q2087 rfl rfl) (hts _ q2086) (hts _ q1038) (hts _ q1062) hX.mi (arr_cls hK hP 0 rfl) (by first | exact Nat.le_of_ble_eq_true rfl | omega | (dsimp only [Rm]; omega)) (by first | decide | exact Nat.le_of_ble_eq_true rfl) dJ14_copyOf_2_3 ?_
  refine obDs_at hob ?_
  intro hob1
  refine j_after (w1 := [(el, .inl (k 3, n, .inr (.inr (.inr (.inr (rfs c0 ad))))))]) (w2 := []) (va_runS (As := [.ref el, .int (nI n2), .ref (g 2)]) (rest := []) (g := F0 m 6 ls [.ref (g 2), .int (nI n2), .ref el]) C.fix (j_copyOf3 l D k g el n n2 c0 ad (by omega) (by omega) (by omega)) (va_cwS 3 hts (lw_S q1063 q1064 q88 q1065) rfl rfl rfl (by decide +kernel) ⟨Nat.le_of_ble_eq_true rfl, Nat.le_of_ble_eq_true rfl⟩) (preS mv2_jPre hK (fun U hU hW => jPre_at (w1 := [(el, .inl (k 3, n, .inr (.inr (.inr (.inr (rfs c0 ad))))))]) (w2 := []) hP (va_D_of hD rfl) hAN hX hS hob1 hU hW)) rfl rfl hl.1 rfl (lv_room (Nat.le_of_ble_eq_true rfl)) dJ14_copyOf_2_6 ⟨(by first | exact Nat.le_of_ble_eq_true rfl | omega | (dsimp only [Rm]; omega)), (by first | exact Nat.le_of_ble_eq_true rfl | omega | (dsimp only [Rm]; omega))⟩) hP (va_D_of hD rfl) hS hA (fun x H locs hB hP hD hS hsz hk => ?_)
  have hP : va_P D clA [(el, .inl (k 3, n, .inr (.inr (.inr (.inr (rfs c0 ad)))))), (x, .inl (k 3, n2, .inr (.inr (.inr (.inr (rfs c0 ad))))))] H := hP
  have hD : va_D A [(el, .inl (k 3, n, .inr (.inr (.inr (.inr (rfs c0 ad)))))), (x, .inl (k 3, n2, .inr (.inr (.inr (.inr (rfs c0 ad))))))] := hD
  exact j_aret hAe C (Or.inr ⟨_, rfl⟩) x rfl trivial hP (va_D_of hD rfl) hS (by first | exact Nat.le_of_ble_eq_true rfl | omega | (dsimp only [Rm]; omega)) (by first | exact Nat.le_of_ble_eq_true rfl | omega | (dsimp only [Rm]; omega)) dJ14_copyOf_2_9
set_option maxHeartbeats 4000000 in
theorem j_grow2_0 (l : Launch) (D : va_G) (k : Nat → ClassId) (g : Nat → Nat) (li mm : Nat) : jM l D k yJ3_grow_2 cJ3_grow_2 4 (some (.array (.object "java/lang/Object"))) 1 23 1 10 [.ref li, .int (nI 1)] g [(li, .inr (12, [.int (nI mm), .ref (g 1), .int 0]))] (fun HH => True) (fun xx : Nat => some (.ref xx)) (fun _ _ => True) (fun xx : Nat => [(li, .inr (12, [.int (nI mm), .ref xx, .int 0])), (xx, .inl (k 3, 10, .inr (.inr (.inr (.inr (rfs 0 (fun _ => 0)))))))]) := by
  refine jM_of (by decide) (Nat.le_of_ble_eq_true rfl) ?_
  intro p e s m below meth c ls A hAe C hnm hmn hK hP hD hA hAN _ hX hS hl
  have hN : NW s := hX.nw
  obtain ⟨hx, hb, hr, hml, hown, hts, hlk⟩ := id C
  have hl : lv_has ls 4 [(0, .ref li), (1, .int (nI 1))] := hl
  refine lv_aload_n hx hb dJ3_grow_2_0 rfl (lv_at hl 0 rfl) ?_
  refine va_get hx hb hts in_J3 hown hK hP 0 rfl rfl 1 (by decide) (hts _ q174) (fun _ h => h) rfl dJ3_grow_2_1 ?_
  refine va_tlen (v := nI 0) hx hb hX.kl.2 (S_wide hS hAN) rfl dJ3_grow_2_4 ?_
  refine lv_istore_n (lv' := [(2, .int (nI 0)), (0, .ref li), (1, .int (nI 1))]) hx hb dJ3_grow_2_5 rfl hl (by decide) rfl (fun ls hl => ?_)
  refine lv_iload_n hx hb dJ3_grow_2_6 rfl (lv_at hl 0 rfl) ?_
  refine lv_if_gt (tgt := 20) hx hb dJ3_grow_2_7 (by decide) (fun c_7 => ?_) (fun c_7 => ?_)
  · exact absurd c_7 (by decide)
  · refine lv_aload_n hx hb dJ3_grow_2_10 rfl (lv_at hl 1 rfl) ?_
    refine va_get hx hb hts in_J3 hown hK hP 0 rfl rfl 1 (by decide) (hts _ q174) (fun _ h => h) rfl dJ3_grow_2_11 ?_
    refine va_gets (v := .ref (g 1)) hx hb hX.kl.1 (S_wide hS hAN) hown (hts _ q172) (fun _ h => h) dJ3_grow_2_14 ?_
    refine lv_acmp_eq (rx := some (g 1)) (ry := some (g 1)) (tgt := 45) hx hb dJ3_grow_2_17 (by decide) (fun c_17 => ?_) (fun c_17 => ?_)
    · refine lv_aload_n hx hb dJ3_grow_2_45 rfl (lv_at hl 1 rfl) ?_
      refine lv_bipush (v := 10) hx hb dJ3_grow_2_46 rfl ?_
      refine lv_iload_n hx hb dJ3_grow_2_48 rfl (lv_at hl 2 rfl) ?_
      refine va_mmax hx hb (hml.trans hl.1.symm) hown (hts _ q1068) (hts _ q560) (hts _ q87) (hts _ q561) (Nat.le_of_ble_eq_true rfl) (Nat.le_of_ble_eq_true rfl) (by first | exact Nat.le_of_ble_eq_true rfl | omega | (dsimp only [Rm]; omega)) (by first | exact Nat.le_of_ble_eq_true rfl | omega | (dsimp only [Rm]; omega)) dJ3_grow_2_49 ?_
      refine w_topi (y := mx 10 (nI 1)) rfl ?_
      refine w_topi (y := 10) (by decide) ?_
      refine n_newr (N' := 10) hx hb hown (hts _ q1069) hX.ao hK hP (va_D_of hD rfl) hS hA (Nat.le_of_ble_eq_true rfl) (by first | exact Nat.le_of_ble_eq_true rfl | omega | (dsimp only [Rm]; omega)) (by first | exact Nat.le_of_ble_eq_true rfl | omega | (dsimp only [Rm]; omega)) dJ3_grow_2_52 (fun el H hP hD hS => ?_)
      have hP : va_P D clA [(li, .inr (12, [.int (nI mm), .ref (g 1), .int 0])), (el, .inl (k 3, 10, .inr (.inr (.inr (.inr (rfs 0 (fun _ => 0)))))))] H := P_mid 1 hP
      have hD : va_D A [(li, .inr (12, [.int (nI mm), .ref (g 1), .int 0])), (el, .inl (k 3, 10, .inr (.inr (.inr (.inr (rfs 0 (fun _ => 0)))))))] := D_mid 1 hD
      refine lv_dup_x1 hx hb dJ3_grow_2_55 rfl rfl ?_
      refine va_put hx hb hts in_J3 tyJ3 tyJ3_ok nmJ3 hown hK hP (va_D_of hD rfl) hS 0 rfl rfl 1 (by decide) (hts _ q174) (fun _ h => h) rfl rfl rfl rfl (Nat.le_of_ble_eq_true rfl) dJ3_grow_2_56 (fun H locs hP _ hS => ?_)
      have hP : va_P D clA [(li, .inr (12, [.int (nI mm), .ref el, .int 0])), (el, .inl (k 3, 10, .inr (.inr (.inr (.inr (rfs 0 (fun _ => 0)))))))] H := hP
      exact j_aret hAe C (Or.inr ⟨_, rfl⟩) el rfl trivial hP (va_D_of hD rfl) hS (by first | exact Nat.le_of_ble_eq_true rfl | omega | (dsimp only [Rm]; omega)) (by first | exact Nat.le_of_ble_eq_true rfl | omega | (dsimp only [Rm]; omega)) dJ3_grow_2_59
    · exact absurd rfl c_17
set_option maxHeartbeats 4000000 in
theorem j_grow_0 (l : Launch) (D : va_G) (k : Nat → ClassId) (g : Nat → Nat) (li mm : Nat) : jM l D k yJ3_grow cJ3_grow 1 (some (.array (.object "java/lang/Object"))) 2 46 1 10 [.ref li] g [(li, .inr (12, [.int (nI mm), .ref (g 1), .int 0]))] (fun HH => True) (fun xx : Nat => some (.ref xx)) (fun _ _ => True) (fun xx : Nat => [(li, .inr (12, [.int (nI mm), .ref xx, .int 0])), (xx, .inl (k 3, 10, .inr (.inr (.inr (.inr (rfs 0 (fun _ => 0)))))))]) := by
  refine jM_of (by decide) (Nat.le_of_ble_eq_true rfl) ?_
  intro p e s m below meth c ls A hAe C hnm hmn hK hP hD hA hAN _ hX hS hl
  have hN : NW s := hX.nw
  obtain ⟨hx, hb, hr, hml, hown, hts, hlk⟩ := id C
  have hl : lv_has ls 1 [(0, .ref li)] := hl
  refine lv_aload_n hx hb dJ3_grow_0 rfl (lv_at hl 0 rfl) ?_
  refine lv_aload_n hx hb dJ3_grow_1 rfl (lv_at hl 0 rfl) ?_
  refine va_get hx hb hts in_J3 hown hK hP 0 rfl rfl 2 (by decide) (hts _ q175) (fun _ h => h) rfl dJ3_grow_2 ?_
  refine lv_iconst (v := 1) hx hb dJ3_grow_5 rfl ?_
  refine lv_iadd hx hb dJ3_grow_6 ?_
  refine w_topi (y := 1) (by decide) ?_
  refine w_topi (y := nI 1) rfl ?_
  refine j_after (w1 := [(li, .inr (12, [.int (nI mm), .ref (g 1), .int 0]))]) (w2 := []) (va_runV (As := [.int (nI 1)]) (rest := []) (g := F0 m 7 ls [.int (nI 1), .ref li]) C.fix (j_grow2_0 l D k g li mm) (cwV 1 hts (lw_V q1029 q1031 qs16 q75 q1032) rfl rfl rfl (by decide +kernel) ⟨Nat.le_of_ble_eq_true rfl, Nat.le_of_ble_eq_true rfl⟩) (preV mv2_jPre hK (va_recv hK hP (ci := 12) (q0 := 0) rfl rfl) (fun U hU hW => jPre_at (w1 := [(li, .inr (12, [.int (nI mm), .ref (g 1), .int 0]))]) (w2 := []) hP (va_D_of hD rfl) hAN hX hS trivial hU hW)) rfl rfl hl.1 rfl (lv_room (Nat.le_of_ble_eq_true rfl)) dJ3_grow_7 ⟨(by first | exact Nat.le_of_ble_eq_true rfl | omega | (dsimp only [Rm]; omega)), (by first | exact Nat.le_of_ble_eq_true rfl | omega | (dsimp only [Rm]; omega))⟩) hP (va_D_of hD rfl) hS hA (fun el H locs hB hP hD hS hsz hk => ?_)
  have hP : va_P D clA [(li, .inr (12, [.int (nI mm), .ref el, .int 0])), (el, .inl (k 3, 10, .inr (.inr (.inr (.inr (rfs 0 (fun _ => 0)))))))] H := hP
  have hD : va_D A [(li, .inr (12, [.int (nI mm), .ref el, .int 0])), (el, .inl (k 3, 10, .inr (.inr (.inr (.inr (rfs 0 (fun _ => 0)))))))] := hD
  exact j_aret hAe C (Or.inr ⟨_, rfl⟩) el rfl trivial hP (va_D_of hD rfl) hS (by first | exact Nat.le_of_ble_eq_true rfl | omega | (dsimp only [Rm]; omega)) (by first | exact Nat.le_of_ble_eq_true rfl | omega | (dsimp only [Rm]; omega)) dJ3_grow_10
set_option maxHeartbeats 4000000 in
theorem j_grow2_1 (l : Launch) (D : va_G) (k : Nat → ClassId) (g : Nat → Nat) (li el n c0 mm : Nat) (ad : Nat → Nat) (h0 : 0 < c0) (hc : c0 ≤ 24) (hcn : c0 = n) : jM l D k yJ3_grow_2 cJ3_grow_2 4 (some (.array (.object "java/lang/Object"))) 3 84 1 (n + (1 + (n / 2 - 1))) [.ref li, .int (nI (c0 + 1))] g [(li, .inr (12, [.int (nI mm), .ref el, .int (nI c0)])), (el, .inl (k 3, n, .inr (.inr (.inr (.inr (rfs c0 ad))))))] (fun HH => (∀ j, j < c0 → obD D (ad j) HH)) (fun xx : Nat => some (.ref xx)) (fun _ _ => True) (fun xx : Nat => [(li, .inr (12, [.int (nI mm), .ref xx, .int (nI c0)])), (xx, .inl (k 3, (n + (1 + (n / 2 - 1))), .inr (.inr (.inr (.inr (rfs c0 ad))))))]) := by
  refine jM_of (by decide) (Nat.le_of_ble_eq_true rfl) ?_
  intro p e s m below meth c ls A hAe C hnm hmn hK hP hD hA hAN hob hX hS hl
  have hN : NW s := hX.nw
  obtain ⟨hx, hb, hr, hml, hown, hts, hlk⟩ := id C
  have hl : lv_has ls 4 [(0, .ref li), (1, .int (nI (c0 + 1)))] := hl
  refine lv_aload_n hx hb dJ3_grow_2_0 rfl (lv_at hl 0 rfl) ?_
  refine va_get hx hb hts in_J3 hown hK hP 0 rfl rfl 1 (by decide) (hts _ q174) (fun _ h => h) rfl dJ3_grow_2_1 ?_
  refine va_alen (v := nI n) hx hb hK hP 1 3 rfl rfl rfl dJ3_grow_2_4 ?_
  refine lv_istore_n (lv' := [(2, .int (nI n)), (0, .ref li), (1, .int (nI (c0 + 1)))]) hx hb dJ3_grow_2_5 rfl hl (by decide) rfl (fun ls hl => ?_)
  refine lv_iload_n hx hb dJ3_grow_2_6 rfl (lv_at hl 0 rfl) ?_
  refine lv_if_gt (tgt := 20) hx hb dJ3_grow_2_7 (by decide) (fun c_7 => ?_) (fun c_7 => ?_)
  · refine lv_iload_n hx hb dJ3_grow_2_20 rfl (lv_at hl 0 rfl) ?_
    refine lv_iload_n hx hb dJ3_grow_2_21 rfl (lv_at hl 2 rfl) ?_
    refine lv_iload_n hx hb dJ3_grow_2_22 rfl (lv_at hl 0 rfl) ?_
    refine lv_isub hx hb dJ3_grow_2_23 ?_
    refine w_topi (y := 1) (sub1 hcn) ?_
    refine lv_iload_n hx hb dJ3_grow_2_24 rfl (lv_at hl 0 rfl) ?_
    refine lv_iconst (v := 1) hx hb dJ3_grow_2_25 rfl ?_
    refine lv_ishr hx hb dJ3_grow_2_26 ?_
    refine w_topi (y := nI (n / 2)) (sh1 n (by omega)) ?_
    refine r_after (va_runS (As := [.int (nI n), .int 1, .int (nI (n / 2))]) (rest := []) (g := F0 m 27 ls [.int (nI (n / 2)), .int 1, .int (nI n)]) C.fix (j_newLength l D k g n (n / 2) (by omega) (by omega)) (va_cwS 3 hts (lw_S q1033 q557 q86 q558) rfl rfl rfl (by decide +kernel) ⟨Nat.le_of_ble_eq_true rfl, Nat.le_of_ble_eq_true rfl⟩) (preS mv2_hKX hK (fun U hU hW => (hKX_at hX hS hAN trivial hU hW))) rfl rfl hl.1 rfl (lv_room (Nat.le_of_ble_eq_true rfl)) dJ3_grow_2_27 ⟨(by first | exact Nat.le_of_ble_eq_true rfl | omega | (dsimp only [Rm]; omega)), (by first | exact Nat.le_of_ble_eq_true rfl | omega | (dsimp only [Rm]; omega))⟩) ?_
    refine lv_istore_n (lv' := [(3, .int (nI (n + (1 + ((n / 2) - 1))))), (2, .int (nI n)), (0, .ref li), (1, .int (nI (c0 + 1)))]) hx hb dJ3_grow_2_30 rfl hl (by decide) rfl (fun ls hl => ?_)
    refine lv_aload_n hx hb dJ3_grow_2_31 rfl (lv_at hl 2 rfl) ?_
    refine lv_aload_n hx hb dJ3_grow_2_32 rfl (lv_at hl 2 rfl) ?_
    refine va_get hx hb hts in_J3 hown hK hP 0 rfl rfl 1 (by decide) (hts _ q174) (fun _ h => h) rfl dJ3_grow_2_33 ?_
    refine lv_iload_n hx hb dJ3_grow_2_36 rfl (lv_at hl 0 rfl) ?_
    refine obDs_at hob ?_
    intro hob1
    have hP : va_P D clA [(el, .inl (k 3, n, .inr (.inr (.inr (.inr (rfs c0 ad)))))), (li, .inr (12, [.int (nI mm), .ref el, .int (nI c0)]))] s.heap := P_prm [1, 0] 2 rfl (by decide) hP
    have hD : va_D A [(el, .inl (k 3, n, .inr (.inr (.inr (.inr (rfs c0 ad)))))), (li, .inr (12, [.int (nI mm), .ref el, .int (nI c0)]))] := D_prm [1, 0] 2 rfl (by decide) (va_D_of (ws' := [(li, .inr (12, [.int (nI mm), .ref el, .int (nI c0)])), (el, .inl (k 3, n, .inr (.inr (.inr (.inr (rfs c0 ad))))))]) hD rfl)
    refine j_after (w1 := [(el, .inl (k 3, n, .inr (.inr (.inr (.inr (rfs c0 ad))))))]) (w2 := [(li, .inr (12, [.int (nI mm), .ref el, .int (nI c0)]))]) (va_runS (As := [.ref el, .int (nI (n + (1 + ((n / 2) - 1))))]) (rest := [.ref li]) (g := F0 m 37 ls [.int (nI (n + (1 + ((n / 2) - 1)))), .ref el, .ref li]) C.fix (j_copyOf2 l D k g el n (n + (1 + ((n / 2) - 1))) c0 ad (by omega) (by omega) (by omega)) (va_cwS 2 hts (lw_S q1034 q1035 q88 q1036) rfl rfl rfl (by decide +kernel) ⟨Nat.le_of_ble_eq_true rfl, Nat.le_of_ble_eq_true rfl⟩) (preS mv2_jPre hK (fun U hU hW => jPre_at (w1 := [(el, .inl (k 3, n, .inr (.inr (.inr (.inr (rfs c0 ad))))))]) (w2 := [(li, .inr (12, [.int (nI mm), .ref el, .int (nI c0)]))]) hP (va_D_of hD rfl) hAN hX hS hob1 hU hW)) rfl rfl hl.1 rfl (lv_room (Nat.le_of_ble_eq_true rfl)) dJ3_grow_2_37 ⟨(by first | exact Nat.le_of_ble_eq_true rfl | omega | (dsimp only [Rm]; omega)), (by first | exact Nat.le_of_ble_eq_true rfl | omega | (dsimp only [Rm]; omega))⟩) hP (va_D_of hD rfl) hS hA (fun x H locs hB hP hD hS hsz hk => ?_)
    have hP : va_P D clA [(el, .inl (k 3, n, .inr (.inr (.inr (.inr (rfs c0 ad)))))), (x, .inl (k 3, (n + (1 + ((n / 2) - 1))), .inr (.inr (.inr (.inr (rfs c0 ad)))))), (li, .inr (12, [.int (nI mm), .ref el, .int (nI c0)]))] H := hP
    have hD : va_D A [(el, .inl (k 3, n, .inr (.inr (.inr (.inr (rfs c0 ad)))))), (x, .inl (k 3, (n + (1 + ((n / 2) - 1))), .inr (.inr (.inr (.inr (rfs c0 ad)))))), (li, .inr (12, [.int (nI mm), .ref el, .int (nI c0)]))] := hD
    refine lv_dup_x1 hx hb dJ3_grow_2_40 rfl rfl ?_
    refine va_put hx hb hts in_J3 tyJ3 tyJ3_ok nmJ3 hown hK hP (va_D_of hD rfl) hS 2 rfl rfl 1 (by decide) (hts _ q174) (fun _ h => h) rfl rfl rfl rfl (Nat.le_of_ble_eq_true rfl) dJ3_grow_2_41 (fun H locs hP _ hS => ?_)
    have hP : va_P D clA [(el, .inl (k 3, n, .inr (.inr (.inr (.inr (rfs c0 ad)))))), (x, .inl (k 3, (n + (1 + ((n / 2) - 1))), .inr (.inr (.inr (.inr (rfs c0 ad)))))), (li, .inr (12, [.int (nI mm), .ref x, .int (nI c0)]))] H := hP
    exact j_aret hAe C (Or.inr ⟨_, rfl⟩) x rfl trivial (hP.sub [2, 1] rfl) (va_D_of (D_sub (ws' := [(li, .inr (12, [.int (nI mm), .ref x, .int (nI c0)])), (x, .inl (k 3, (n + (1 + ((n / 2) - 1))), .inr (.inr (.inr (.inr (rfs c0 ad))))))]) (va_D_of (ws' := [(el, .inl (k 3, n, .inr (.inr (.inr (.inr (rfs c0 ad)))))), (x, .inl (k 3, (n + (1 + ((n / 2) - 1))), .inr (.inr (.inr (.inr (rfs c0 ad)))))), (li, .inr (12, [.int (nI mm), .ref x, .int (nI c0)]))]) hD rfl) [2, 1] rfl rfl) rfl) hS (by first | exact Nat.le_of_ble_eq_true rfl | omega | (dsimp only [Rm]; omega)) (by first | exact Nat.le_of_ble_eq_true rfl | omega | (dsimp only [Rm]; omega)) dJ3_grow_2_44
  · exact absurd (nI_nlt' (a := 0) c_7 (by decide) (by omega)) (by omega)
set_option maxHeartbeats 4000000 in
theorem j_grow_1 (l : Launch) (D : va_G) (k : Nat → ClassId) (g : Nat → Nat) (li el n c0 mm : Nat) (ad : Nat → Nat) (h0 : 0 < c0) (hc : c0 ≤ 24) (hcn : c0 = n) : jM l D k yJ3_grow cJ3_grow 1 (some (.array (.object "java/lang/Object"))) 4 107 1 (n + (1 + (n / 2 - 1))) [.ref li] g [(li, .inr (12, [.int (nI mm), .ref el, .int (nI c0)])), (el, .inl (k 3, n, .inr (.inr (.inr (.inr (rfs c0 ad))))))] (fun HH => (∀ j, j < c0 → obD D (ad j) HH)) (fun xx : Nat => some (.ref xx)) (fun _ _ => True) (fun xx : Nat => [(li, .inr (12, [.int (nI mm), .ref xx, .int (nI c0)])), (xx, .inl (k 3, (n + (1 + (n / 2 - 1))), .inr (.inr (.inr (.inr (rfs c0 ad))))))]) := by
  refine jM_of (by decide) (Nat.le_of_ble_eq_true rfl) ?_
  intro p e s m below meth c ls A hAe C hnm hmn hK hP hD hA hAN hob hX hS hl
  have hN : NW s := hX.nw
  obtain ⟨hx, hb, hr, hml, hown, hts, hlk⟩ := id C
  have hl : lv_has ls 1 [(0, .ref li)] := hl
  refine lv_aload_n hx hb dJ3_grow_0 rfl (lv_at hl 0 rfl) ?_
  refine lv_aload_n hx hb dJ3_grow_1 rfl (lv_at hl 0 rfl) ?_
  refine va_get hx hb hts in_J3 hown hK hP 0 rfl rfl 2 (by decide) (hts _ q175) (fun _ h => h) rfl dJ3_grow_2 ?_
  refine lv_iconst (v := 1) hx hb dJ3_grow_5 rfl ?_
  refine lv_iadd hx hb dJ3_grow_6 ?_
  refine w_topi (y := nI (c0 + 1)) (nI_add c0 1) ?_
  refine j_after (w1 := [(li, .inr (12, [.int (nI mm), .ref el, .int (nI c0)])), (el, .inl (k 3, n, .inr (.inr (.inr (.inr (rfs c0 ad))))))]) (w2 := []) (va_runV (As := [.int (nI (c0 + 1))]) (rest := []) (g := F0 m 7 ls [.int (nI (c0 + 1)), .ref li]) C.fix (j_grow2_1 l D k g li el n c0 mm ad h0 hc hcn) (cwV 1 hts (lw_V q1029 q1031 qs16 q75 q1032) rfl rfl rfl (by decide +kernel) ⟨Nat.le_of_ble_eq_true rfl, Nat.le_of_ble_eq_true rfl⟩) (preV mv2_jPre hK (va_recv hK hP (ci := 12) (q0 := 0) rfl rfl) (fun U hU hW => jPre_at (w1 := [(li, .inr (12, [.int (nI mm), .ref el, .int (nI c0)])), (el, .inl (k 3, n, .inr (.inr (.inr (.inr (rfs c0 ad))))))]) (w2 := []) hP (va_D_of hD rfl) hAN hX hS hob hU hW)) rfl rfl hl.1 rfl (lv_room (Nat.le_of_ble_eq_true rfl)) dJ3_grow_7 ⟨(by first | exact Nat.le_of_ble_eq_true rfl | omega | (dsimp only [Rm]; omega)), (by first | exact Nat.le_of_ble_eq_true rfl | omega | (dsimp only [Rm]; omega))⟩) hP (va_D_of hD rfl) hS hA (fun x H locs hB hP hD hS hsz hk => ?_)
  have hP : va_P D clA [(li, .inr (12, [.int (nI mm), .ref x, .int (nI c0)])), (x, .inl (k 3, (n + (1 + (n / 2 - 1))), .inr (.inr (.inr (.inr (rfs c0 ad))))))] H := hP
  have hD : va_D A [(li, .inr (12, [.int (nI mm), .ref x, .int (nI c0)])), (x, .inl (k 3, (n + (1 + (n / 2 - 1))), .inr (.inr (.inr (.inr (rfs c0 ad))))))] := hD
  exact j_aret hAe C (Or.inr ⟨_, rfl⟩) x rfl trivial hP (va_D_of hD rfl) hS (by first | exact Nat.le_of_ble_eq_true rfl | omega | (dsimp only [Rm]; omega)) (by first | exact Nat.le_of_ble_eq_true rfl | omega | (dsimp only [Rm]; omega)) dJ3_grow_10
theorem rfs_one (v : Nat) : va_up (rfs 0 (fun _ => 0)) 0 (some v) = rfs 1 (fun _ => v) := (rfs_up _ 0 v).trans (rfs_cg (fun j hj => if_pos (by omega)))
set_option maxHeartbeats 4000000 in
theorem j_add2_0 (l : Launch) (D : va_G) (k : Nat → ClassId) (g : Nat → Nat) (li v mm : Nat) : jM l D k yJ3_add_2 cJ3_add_2 4 none 3 66 1 10 [.ref li, .ref v, .ref (g 1), .int 0] g [(li, .inr (12, [.int (nI mm), .ref (g 1), .int 0]))] (fun HH => obD D v HH) (fun xx : Nat => none) (fun _ _ => True) (fun xx : Nat => [(li, .inr (12, [.int (nI mm), .ref xx, .int (nI 1)])), (xx, .inl (k 3, 10, .inr (.inr (.inr (.inr (rfs 1 (fun _ => v)))))))]) := by
  refine jM_of (by decide) (Nat.le_of_ble_eq_true rfl) ?_
  intro p e s m below meth c ls A hAe C hnm hmn hK hP hD hA hAN hob hX hS hl
  have hN : NW s := hX.nw
  obtain ⟨hx, hb, hr, hml, hown, hts, hlk⟩ := id C
  have hl : lv_has ls 4 [(0, .ref li), (1, .ref v), (2, .ref (g 1)), (3, .int 0)] := hl
  refine lv_iload_n hx hb dJ3_add_2_0 rfl (lv_at hl 3 rfl) ?_
  refine lv_aload_n hx hb dJ3_add_2_1 rfl (lv_at hl 2 rfl) ?_
  refine va_tlen (v := nI 0) hx hb hX.kl.2 (S_wide hS hAN) rfl dJ3_add_2_2 ?_
  refine lv_icmp_ne (tgt := 11) hx hb dJ3_add_2_3 (by decide) (fun c_3 => ?_) (fun c_3 => ?_)
  · exact absurd rfl c_3
  · refine lv_aload_n hx hb dJ3_add_2_6 rfl (lv_at hl 0 rfl) ?_
    refine j_after (w1 := [(li, .inr (12, [.int (nI mm), .ref (g 1), .int 0]))]) (w2 := []) (va_runV (As := []) (rest := []) (g := F0 m 7 ls [.ref li]) C.fix (j_grow_0 l D k g li mm) (cwV 0 hts (lw_V q1025 q1027 qs15 q75 q1028) rfl rfl rfl (by decide +kernel) ⟨Nat.le_of_ble_eq_true rfl, Nat.le_of_ble_eq_true rfl⟩) (preV mv2_jPre hK (va_recv hK hP (ci := 12) (q0 := 0) rfl rfl) (fun U hU hW => jPre_at (w1 := [(li, .inr (12, [.int (nI mm), .ref (g 1), .int 0]))]) (w2 := []) hP (va_D_of hD rfl) hAN hX hS trivial hU hW)) rfl rfl hl.1 rfl (lv_room (Nat.le_of_ble_eq_true rfl)) dJ3_add_2_7 ⟨(by first | exact Nat.le_of_ble_eq_true rfl | omega | (dsimp only [Rm]; omega)), (by first | exact Nat.le_of_ble_eq_true rfl | omega | (dsimp only [Rm]; omega))⟩) hP (va_D_of hD rfl) hS hA (fun el H locs hB hP hD hS hsz hk => ?_)
    have hP : va_P D clA [(li, .inr (12, [.int (nI mm), .ref el, .int 0])), (el, .inl (k 3, 10, .inr (.inr (.inr (.inr (rfs 0 (fun _ => 0)))))))] H := hP
    have hD : va_D A [(li, .inr (12, [.int (nI mm), .ref el, .int 0])), (el, .inl (k 3, 10, .inr (.inr (.inr (.inr (rfs 0 (fun _ => 0)))))))] := hD
    refine lv_astore_n (lv' := [(2, .ref el), (0, .ref li), (1, .ref v), (3, .int 0)]) hx hb dJ3_add_2_10 rfl hl (by decide) rfl (fun ls hl => ?_)
    refine lv_aload_n hx hb dJ3_add_2_11 rfl (lv_at hl 0 rfl) ?_
    refine lv_iload_n hx hb dJ3_add_2_12 rfl (lv_at hl 3 rfl) ?_
    refine lv_aload_n hx hb dJ3_add_2_13 rfl (lv_at hl 2 rfl) ?_
    refine o_ast hx hb hK hN hP (va_D_of hD rfl) hS 1 rfl hob 0 rfl (Nat.le_of_ble_eq_true rfl) (Nat.le_of_ble_eq_true rfl) dJ3_add_2_14 (fun H locs hP _ hS => ?_)
    have hP : va_P D clA [(li, .inr (12, [.int (nI mm), .ref el, .int 0])), (el, .inl (k 3, 10, .inr (.inr (.inr (.inr (va_up (rfs 0 (fun _ => 0)) 0 (some v)))))))] H := hP
    have hP : va_P D clA [(li, .inr (12, [.int (nI mm), .ref el, .int 0])), (el, .inl (k 3, 10, .inr (.inr (.inr (.inr (rfs 1 (fun _ => v)))))))] H := (by rw [← rfs_one v]; exact hP)
    refine lv_aload_n hx hb dJ3_add_2_15 rfl (lv_at hl 1 rfl) ?_
    refine lv_iload_n hx hb dJ3_add_2_16 rfl (lv_at hl 3 rfl) ?_
    refine lv_iconst (v := 1) hx hb dJ3_add_2_17 rfl ?_
    refine lv_iadd hx hb dJ3_add_2_18 ?_
    refine w_topi (y := 1) (by decide) ?_
    refine w_topi (y := nI 1) rfl ?_
    refine va_put hx hb hts in_J3 tyJ3 tyJ3_ok nmJ3 hown hK hP (va_D_of hD rfl) hS 0 rfl rfl 2 (by decide) (hts _ q175) (fun _ h => h) rfl rfl rfl rfl (Nat.le_of_ble_eq_true rfl) dJ3_add_2_19 (fun H locs hP _ hS => ?_)
    have hP : va_P D clA [(li, .inr (12, [.int (nI mm), .ref el, .int (nI 1)])), (el, .inl (k 3, 10, .inr (.inr (.inr (.inr (rfs 1 (fun _ => v)))))))] H := hP
    exact j_vret hAe C el rfl trivial hP (va_D_of hD rfl) hS (by first | exact Nat.le_of_ble_eq_true rfl | omega | (dsimp only [Rm]; omega)) (by first | exact Nat.le_of_ble_eq_true rfl | omega | (dsimp only [Rm]; omega)) dJ3_add_2_22
theorem obD_at {D : va_G} {p : Program} {l : Launch} {e : Env} {R : Room} {s : State} {m : MethodId} {args : Array Value} {below : List Frame} {meth : Method} {c : Code} {H : Heap} {locs : List Loc} {cells slots : Nat} {Q : State → Prop} {g : JFrame} {v : Nat} (h : obD D v s.heap) (kk : obD D v H → W p l e R s m args below meth c H locs cells slots Q g) : W p l e R s m args below meth c H locs cells slots Q g :=
  fun T hT X => kk (by have := obD_now X h; rwa [hT] at this) T hT X
set_option maxHeartbeats 4000000 in
theorem j_add_0 (l : Launch) (D : va_G) (k : Nat → ClassId) (g : Nat → Nat) (li v mm : Nat) : jM l D k yJ3_add cJ3_add 2 (some .boolean) 4 89 1 10 [.ref li, .ref v] g [(li, .inr (12, [.int (nI mm), .ref (g 1), .int 0]))] (fun HH => obD D v HH) (fun xx : Nat => some (.int (bI True))) (fun _ _ => True) (fun xx : Nat => [(li, .inr (12, [.int (nI (mm + 1)), .ref xx, .int (nI 1)])), (xx, .inl (k 3, 10, .inr (.inr (.inr (.inr (rfs 1 (fun _ => v)))))))]) := by
  refine jM_of (by decide) (Nat.le_of_ble_eq_true rfl) ?_
  intro p e s m below meth c ls A hAe C hnm hmn hK hP hD hA hAN hob hX hS hl
  have hN : NW s := hX.nw
  obtain ⟨hx, hb, hr, hml, hown, hts, hlk⟩ := id C
  have hl : lv_has ls 2 [(0, .ref li), (1, .ref v)] := hl
  refine lv_aload_n hx hb dJ3_add_0 rfl (lv_at hl 0 rfl) ?_
  refine lv_dup hx hb dJ3_add_1 rfl ?_
  refine va_get hx hb hts in_J3 hown hK hP 0 rfl rfl 0 (by decide) (hts _ q177) (u_same (hts _ q178)) rfl dJ3_add_2 ?_
  refine lv_iconst (v := 1) hx hb dJ3_add_5 rfl ?_
  refine lv_iadd hx hb dJ3_add_6 ?_
  refine w_topi (y := nI (mm + 1)) (nI_add mm 1) ?_
  refine va_put hx hb hts in_J3 tyJ3 tyJ3_ok nmJ3 hown hK hP (va_D_of hD rfl) hS 0 rfl rfl 0 (by decide) (hts _ q177) (u_same (hts _ q178)) rfl rfl rfl rfl (Nat.le_of_ble_eq_true rfl) dJ3_add_7 (fun H locs hP _ hS => ?_)
  have hP : va_P D clA [(li, .inr (12, [.int (nI (mm + 1)), .ref (g 1), .int 0]))] H := hP
  refine lv_aload_n hx hb dJ3_add_10 rfl (lv_at hl 0 rfl) ?_
  refine lv_aload_n hx hb dJ3_add_11 rfl (lv_at hl 1 rfl) ?_
  refine lv_aload_n hx hb dJ3_add_12 rfl (lv_at hl 0 rfl) ?_
  refine va_get hx hb hts in_J3 hown hK hP 0 rfl rfl 1 (by decide) (hts _ q174) (fun _ h => h) rfl dJ3_add_13 ?_
  refine lv_aload_n hx hb dJ3_add_16 rfl (lv_at hl 0 rfl) ?_
  refine va_get hx hb hts in_J3 hown hK hP 0 rfl rfl 2 (by decide) (hts _ q175) (fun _ h => h) rfl dJ3_add_17 ?_
  refine obD_at hob ?_
  intro hob1
  refine j_after (w1 := [(li, .inr (12, [.int (nI (mm + 1)), .ref (g 1), .int 0]))]) (w2 := []) (va_runV (As := [.ref v, .ref (g 1), .int 0]) (rest := []) (g := F0 m 20 ls [.int 0, .ref (g 1), .ref v, .ref li]) C.fix (j_add2_0 l D k g li v (mm + 1)) (cwV 3 hts (lw_V q1021 q1023 qs14 q75 q1024) rfl rfl rfl (by decide +kernel) ⟨Nat.le_of_ble_eq_true rfl, Nat.le_of_ble_eq_true rfl⟩) (preV mv2_jPre hK (va_recv hK hP (ci := 12) (q0 := 0) rfl rfl) (fun U hU hW => jPre_at (w1 := [(li, .inr (12, [.int (nI (mm + 1)), .ref (g 1), .int 0]))]) (w2 := []) hP (va_D_of hD rfl) hAN hX hS hob1 hU hW)) rfl rfl hl.1 rfl (lv_room (Nat.le_of_ble_eq_true rfl)) dJ3_add_20 ⟨(by first | exact Nat.le_of_ble_eq_true rfl | omega | (dsimp only [Rm]; omega)), (by first | exact Nat.le_of_ble_eq_true rfl | omega | (dsimp only [Rm]; omega))⟩) hP (va_D_of hD rfl) hS hA (fun el H locs hB hP hD hS hsz hk => ?_)
  have hP : va_P D clA [(li, .inr (12, [.int (nI (mm + 1)), .ref el, .int (nI 1)])), (el, .inl (k 3, 10, .inr (.inr (.inr (.inr (rfs 1 (fun _ => v)))))))] H := hP
  have hD : va_D A [(li, .inr (12, [.int (nI (mm + 1)), .ref el, .int (nI 1)])), (el, .inl (k 3, 10, .inr (.inr (.inr (.inr (rfs 1 (fun _ => v)))))))] := hD
  refine lv_iconst (v := 1) hx hb dJ3_add_23 rfl ?_
  exact j_zret hAe C el (bI_t trivial) rfl trivial hP (va_D_of hD rfl) hS (by first | exact Nat.le_of_ble_eq_true rfl | omega | (dsimp only [Rm]; omega)) (by first | exact Nat.le_of_ble_eq_true rfl | omega | (dsimp only [Rm]; omega)) dJ3_add_24
set_option maxHeartbeats 4000000 in
theorem j_add2_1 (l : Launch) (D : va_G) (k : Nat → ClassId) (g : Nat → Nat) (li el n c0 mm : Nat) (ad : Nat → Nat) (v : Nat) (h0 : 0 < c0) (hc : c0 ≤ 24) (hcn : c0 ≤ n) (hn : n ≤ 40000) : jM l D k yJ3_add_2 cJ3_add_2 4 none 5 127 1 36 [.ref li, .ref v, .ref el, .int (nI c0)] g [(li, .inr (12, [.int (nI mm), .ref el, .int (nI c0)])), (el, .inl (k 3, n, .inr (.inr (.inr (.inr (rfs c0 ad))))))] (fun HH => obD D v HH ∧ (∀ j, j < c0 → obD D (ad j) HH)) (fun xx : Nat × Nat => none) (fun (xx : Nat × Nat) HH => c0 + 1 ≤ xx.2 ∧ xx.2 ≤ 40000) (fun xx : Nat × Nat => [(li, .inr (12, [.int (nI mm), .ref xx.1, .int (nI (c0 + 1))])), (xx.1, .inl (k 3, xx.2, .inr (.inr (.inr (.inr (rfs (c0 + 1) (adp ad c0 v)))))))]) := by
  refine jM_of (by decide) (Nat.le_of_ble_eq_true rfl) ?_
  intro p e s m below meth c ls A hAe C hnm hmn hK hP hD hA hAN ⟨hobv, hob⟩ hX hS hl
  have hN : NW s := hX.nw
  obtain ⟨hx, hb, hr, hml, hown, hts, hlk⟩ := id C
  have hl : lv_has ls 4 [(0, .ref li), (1, .ref v), (2, .ref el), (3, .int (nI c0))] := hl
  refine lv_iload_n hx hb dJ3_add_2_0 rfl (lv_at hl 3 rfl) ?_
  refine lv_aload_n hx hb dJ3_add_2_1 rfl (lv_at hl 2 rfl) ?_
  refine va_alen (v := nI n) hx hb hK hP 1 3 rfl rfl rfl dJ3_add_2_2 ?_
  refine lv_icmp_ne (tgt := 11) hx hb dJ3_add_2_3 (by decide) (fun c_3 => ?_) (fun c_3 => ?_)
  · have e_3 : c0 < n := Nat.lt_of_le_of_ne hcn (fun z => c_3 (by rw [z]))
    refine lv_aload_n hx hb dJ3_add_2_11 rfl (lv_at hl 2 rfl) ?_
    refine lv_iload_n hx hb dJ3_add_2_12 rfl (lv_at hl 3 rfl) ?_
    refine lv_aload_n hx hb dJ3_add_2_13 rfl (lv_at hl 1 rfl) ?_
    refine o_ast hx hb hK hN hP (va_D_of hD rfl) hS 1 rfl hobv c0 rfl (by omega) (by omega) dJ3_add_2_14 (fun H locs hP _ hS => ?_)
    have hP : va_P D clA [(li, .inr (12, [.int (nI mm), .ref el, .int (nI c0)])), (el, .inl (k 3, n, .inr (.inr (.inr (.inr (va_up (rfs c0 ad) c0 (some v)))))))] H := hP
    have hP : va_P D clA [(li, .inr (12, [.int (nI mm), .ref el, .int (nI c0)])), (el, .inl (k 3, n, .inr (.inr (.inr (.inr (rfs (c0 + 1) (adp ad c0 v)))))))] H := (by rw [← rfs_up]; exact hP)
    refine lv_aload_n hx hb dJ3_add_2_15 rfl (lv_at hl 0 rfl) ?_
    refine lv_iload_n hx hb dJ3_add_2_16 rfl (lv_at hl 3 rfl) ?_
    refine lv_iconst (v := 1) hx hb dJ3_add_2_17 rfl ?_
    refine lv_iadd hx hb dJ3_add_2_18 ?_
    refine w_topi (y := nI (c0 + 1)) (nI_add c0 1) ?_
    refine va_put hx hb hts in_J3 tyJ3 tyJ3_ok nmJ3 hown hK hP (va_D_of hD rfl) hS 0 rfl rfl 2 (by decide) (hts _ q175) (fun _ h => h) rfl rfl rfl rfl (Nat.le_of_ble_eq_true rfl) dJ3_add_2_19 (fun H locs hP _ hS => ?_)
    have hP : va_P D clA [(li, .inr (12, [.int (nI mm), .ref el, .int (nI (c0 + 1))])), (el, .inl (k 3, n, .inr (.inr (.inr (.inr (rfs (c0 + 1) (adp ad c0 v)))))))] H := hP
    exact j_vret hAe C (el, n) rfl ⟨by omega, by omega⟩ hP (va_D_of hD rfl) hS (by first | exact Nat.le_of_ble_eq_true rfl | omega | (dsimp only [Rm]; omega)) (by first | exact Nat.le_of_ble_eq_true rfl | omega | (dsimp only [Rm]; omega)) dJ3_add_2_22
  · have e_3 : c0 = n := nI_eq' c_3 (by omega) (by omega)
    refine lv_aload_n hx hb dJ3_add_2_6 rfl (lv_at hl 0 rfl) ?_
    refine j_after (w1 := [(li, .inr (12, [.int (nI mm), .ref el, .int (nI c0)])), (el, .inl (k 3, n, .inr (.inr (.inr (.inr (rfs c0 ad))))))]) (w2 := []) (va_runV (As := []) (rest := []) (g := F0 m 7 ls [.ref li]) C.fix (j_grow_1 l D k g li el n c0 mm ad h0 hc e_3) (cwV 0 hts (lw_V q1025 q1027 qs15 q75 q1028) rfl rfl rfl (by decide +kernel) ⟨Nat.le_of_ble_eq_true rfl, Nat.le_of_ble_eq_true rfl⟩) (preV mv2_jPre hK (va_recv hK hP (ci := 12) (q0 := 0) rfl rfl) (fun U hU hW => jPre_at (w1 := [(li, .inr (12, [.int (nI mm), .ref el, .int (nI c0)])), (el, .inl (k 3, n, .inr (.inr (.inr (.inr (rfs c0 ad))))))]) (w2 := []) hP (va_D_of hD rfl) hAN hX hS hob hU hW)) rfl rfl hl.1 rfl (lv_room (Nat.le_of_ble_eq_true rfl)) dJ3_add_2_7 ⟨(by first | exact Nat.le_of_ble_eq_true rfl | omega | (dsimp only [Rm]; omega)), (by first | exact Nat.le_of_ble_eq_true rfl | omega | (dsimp only [Rm]; omega))⟩) hP (va_D_of hD rfl) hS hA (fun x H locs hB hP hD hS hsz hk => ?_)
    have hP : va_P D clA [(li, .inr (12, [.int (nI mm), .ref x, .int (nI c0)])), (x, .inl (k 3, (n + (1 + (n / 2 - 1))), .inr (.inr (.inr (.inr (rfs c0 ad))))))] H := hP
    have hD : va_D A [(li, .inr (12, [.int (nI mm), .ref x, .int (nI c0)])), (x, .inl (k 3, (n + (1 + (n / 2 - 1))), .inr (.inr (.inr (.inr (rfs c0 ad))))))] := hD
    refine lv_astore_n (lv' := [(2, .ref x), (0, .ref li), (1, .ref v), (3, .int (nI c0))]) hx hb dJ3_add_2_10 rfl hl (by decide) rfl (fun ls hl => ?_)
    refine lv_aload_n hx hb dJ3_add_2_11 rfl (lv_at hl 0 rfl) ?_
    refine lv_iload_n hx hb dJ3_add_2_12 rfl (lv_at hl 3 rfl) ?_
    refine lv_aload_n hx hb dJ3_add_2_13 rfl (lv_at hl 2 rfl) ?_
    refine o_ast hx hb hK hN hP (va_D_of hD rfl) hS 1 rfl hobv c0 rfl (by omega) (by omega) dJ3_add_2_14 (fun H locs hP _ hS => ?_)
    have hP : va_P D clA [(li, .inr (12, [.int (nI mm), .ref x, .int (nI c0)])), (x, .inl (k 3, (n + (1 + (n / 2 - 1))), .inr (.inr (.inr (.inr (va_up (rfs c0 ad) c0 (some v)))))))] H := hP
    have hP : va_P D clA [(li, .inr (12, [.int (nI mm), .ref x, .int (nI c0)])), (x, .inl (k 3, (n + (1 + (n / 2 - 1))), .inr (.inr (.inr (.inr (rfs (c0 + 1) (adp ad c0 v)))))))] H := (by rw [← rfs_up]; exact hP)
    refine lv_aload_n hx hb dJ3_add_2_15 rfl (lv_at hl 1 rfl) ?_
    refine lv_iload_n hx hb dJ3_add_2_16 rfl (lv_at hl 3 rfl) ?_
    refine lv_iconst (v := 1) hx hb dJ3_add_2_17 rfl ?_
    refine lv_iadd hx hb dJ3_add_2_18 ?_
    refine w_topi (y := nI (c0 + 1)) (nI_add c0 1) ?_
    refine va_put hx hb hts in_J3 tyJ3 tyJ3_ok nmJ3 hown hK hP (va_D_of hD rfl) hS 0 rfl rfl 2 (by decide) (hts _ q175) (fun _ h => h) rfl rfl rfl rfl (Nat.le_of_ble_eq_true rfl) dJ3_add_2_19 (fun H locs hP _ hS => ?_)
    have hP : va_P D clA [(li, .inr (12, [.int (nI mm), .ref x, .int (nI (c0 + 1))])), (x, .inl (k 3, (n + (1 + (n / 2 - 1))), .inr (.inr (.inr (.inr (rfs (c0 + 1) (adp ad c0 v)))))))] H := hP
    exact j_vret hAe C (x, (n + (1 + (n / 2 - 1)))) rfl ⟨by omega, by omega⟩ hP (va_D_of hD rfl) hS (by first | exact Nat.le_of_ble_eq_true rfl | omega | (dsimp only [Rm]; omega)) (by first | exact Nat.le_of_ble_eq_true rfl | omega | (dsimp only [Rm]; omega)) dJ3_add_2_22
set_option maxHeartbeats 4000000 in
theorem j_add_1 (l : Launch) (D : va_G) (k : Nat → ClassId) (g : Nat → Nat) (li el n c0 mm : Nat) (ad : Nat → Nat) (v : Nat) (h0 : 0 < c0) (hc : c0 ≤ 24) (hcn : c0 ≤ n) (hn : n ≤ 40000) : jM l D k yJ3_add cJ3_add 2 (some .boolean) 6 150 1 36 [.ref li, .ref v] g [(li, .inr (12, [.int (nI mm), .ref el, .int (nI c0)])), (el, .inl (k 3, n, .inr (.inr (.inr (.inr (rfs c0 ad))))))] (fun HH => obD D v HH ∧ (∀ j, j < c0 → obD D (ad j) HH)) (fun xx : Nat × Nat => some (.int (bI True))) (fun (xx : Nat × Nat) HH => c0 + 1 ≤ xx.2 ∧ xx.2 ≤ 40000) (fun xx : Nat × Nat => [(li, .inr (12, [.int (nI (mm + 1)), .ref xx.1, .int (nI (c0 + 1))])), (xx.1, .inl (k 3, xx.2, .inr (.inr (.inr (.inr (rfs (c0 + 1) (adp ad c0 v)))))))]) := by
  refine jM_of (by decide) (Nat.le_of_ble_eq_true rfl) ?_
  intro p e s m below meth c ls A hAe C hnm hmn hK hP hD hA hAN ⟨hobv, hob⟩ hX hS hl
  have hN : NW s := hX.nw
  obtain ⟨hx, hb, hr, hml, hown, hts, hlk⟩ := id C
  have hl : lv_has ls 2 [(0, .ref li), (1, .ref v)] := hl
  refine lv_aload_n hx hb dJ3_add_0 rfl (lv_at hl 0 rfl) ?_
  refine lv_dup hx hb dJ3_add_1 rfl ?_
  refine va_get hx hb hts in_J3 hown hK hP 0 rfl rfl 0 (by decide) (hts _ q177) (u_same (hts _ q178)) rfl dJ3_add_2 ?_
  refine lv_iconst (v := 1) hx hb dJ3_add_5 rfl ?_
  refine lv_iadd hx hb dJ3_add_6 ?_
  refine w_topi (y := nI (mm + 1)) (nI_add mm 1) ?_
  refine va_put hx hb hts in_J3 tyJ3 tyJ3_ok nmJ3 hown hK hP (va_D_of hD rfl) hS 0 rfl rfl 0 (by decide) (hts _ q177) (u_same (hts _ q178)) rfl rfl rfl rfl (Nat.le_of_ble_eq_true rfl) dJ3_add_7 (fun H locs hP _ hS => ?_)
  have hP : va_P D clA [(li, .inr (12, [.int (nI (mm + 1)), .ref el, .int (nI c0)])), (el, .inl (k 3, n, .inr (.inr (.inr (.inr (rfs c0 ad))))))] H := hP
  refine lv_aload_n hx hb dJ3_add_10 rfl (lv_at hl 0 rfl) ?_
  refine lv_aload_n hx hb dJ3_add_11 rfl (lv_at hl 1 rfl) ?_
  refine lv_aload_n hx hb dJ3_add_12 rfl (lv_at hl 0 rfl) ?_
  refine va_get hx hb hts in_J3 hown hK hP 0 rfl rfl 1 (by decide) (hts _ q174) (fun _ h => h) rfl dJ3_add_13 ?_
  refine lv_aload_n hx hb dJ3_add_16 rfl (lv_at hl 0 rfl) ?_
  refine va_get hx hb hts in_J3 hown hK hP 0 rfl rfl 2 (by decide) (hts _ q175) (fun _ h => h) rfl dJ3_add_17 ?_
  refine obD_at hobv ?_
  intro hobv1
  refine obDs_at hob ?_
  intro hob1
  refine j_after (w1 := [(li, .inr (12, [.int (nI (mm + 1)), .ref el, .int (nI c0)])), (el, .inl (k 3, n, .inr (.inr (.inr (.inr (rfs c0 ad))))))]) (w2 := []) (va_runV (As := [.ref v, .ref el, .int (nI c0)]) (rest := []) (g := F0 m 20 ls [.int (nI c0), .ref el, .ref v, .ref li]) C.fix (j_add2_1 l D k g li el n c0 (mm + 1) ad v h0 hc hcn hn) (cwV 3 hts (lw_V q1021 q1023 qs14 q75 q1024) rfl rfl rfl (by decide +kernel) ⟨Nat.le_of_ble_eq_true rfl, Nat.le_of_ble_eq_true rfl⟩) (preV mv2_jPre hK (va_recv hK hP (ci := 12) (q0 := 0) rfl rfl) (fun U hU hW => jPre_at (w1 := [(li, .inr (12, [.int (nI (mm + 1)), .ref el, .int (nI c0)])), (el, .inl (k 3, n, .inr (.inr (.inr (.inr (rfs c0 ad))))))]) (w2 := []) hP (va_D_of hD rfl) hAN hX hS (⟨hobv1, hob1⟩) hU hW)) rfl rfl hl.1 rfl (lv_room (Nat.le_of_ble_eq_true rfl)) dJ3_add_20 ⟨(by first | exact Nat.le_of_ble_eq_true rfl | omega | (dsimp only [Rm]; omega)), (by first | exact Nat.le_of_ble_eq_true rfl | omega | (dsimp only [Rm]; omega))⟩) hP (va_D_of hD rfl) hS hA (fun xx H locs hB hP hD hS hsz hk => ?_)
  obtain ⟨x, n2⟩ := xx
  have hP : va_P D clA [(li, .inr (12, [.int (nI (mm + 1)), .ref x, .int (nI (c0 + 1))])), (x, .inl (k 3, n2, .inr (.inr (.inr (.inr (rfs (c0 + 1) (adp ad c0 v)))))))] H := hP
  have hD : va_D A [(li, .inr (12, [.int (nI (mm + 1)), .ref x, .int (nI (c0 + 1))])), (x, .inl (k 3, n2, .inr (.inr (.inr (.inr (rfs (c0 + 1) (adp ad c0 v)))))))] := hD
  have hB : c0 + 1 ≤ n2 ∧ n2 ≤ 40000 := hB
  refine lv_iconst (v := 1) hx hb dJ3_add_23 rfl ?_
  exact j_zret hAe C (x, n2) (bI_t trivial) rfl hB hP (va_D_of hD rfl) hS (by first | exact Nat.le_of_ble_eq_true rfl | omega | (dsimp only [Rm]; omega)) (by first | exact Nat.le_of_ble_eq_true rfl | omega | (dsimp only [Rm]; omega)) dJ3_add_24
set_option maxHeartbeats 4000000 in
theorem j_set (l : Launch) (D : va_G) (k : Nat → ClassId) (g : Nat → Nat) (li el n c0 mm j v : Nat) (ad : Nat → Nat) (hj : j < c0) (hcn : c0 ≤ n) (hn : n ≤ 40000) : jM l D k yJ3_set cJ3_set 4 (some (.object "java/lang/Object")) 2 43 0 0 [.ref li, .int (nI j), .ref v] g [(li, .inr (12, [.int (nI mm), .ref el, .int (nI c0)])), (el, .inl (k 3, n, .inr (.inr (.inr (.inr (rfs c0 ad))))))] (fun HH => obD D v HH) (fun _ : Unit => some (.ref (ad j))) (fun _ _ => True) (fun _ : Unit => [(li, .inr (12, [.int (nI mm), .ref el, .int (nI c0)])), (el, .inl (k 3, n, .inr (.inr (.inr (.inr (rfs c0 (adp ad j v)))))))]) := by
  refine jM_of (by decide) (Nat.le_of_ble_eq_true rfl) ?_
  intro p e s m below meth c ls A hAe C hnm hmn hK hP hD hA hAN hob hX hS hl
  have hN : NW s := hX.nw
  obtain ⟨hx, hb, hr, hml, hown, hts, hlk⟩ := id C
  have hl : lv_has ls 4 [(0, .ref li), (1, .int (nI j)), (2, .ref v)] := hl
  refine lv_iload_n hx hb dJ3_set_0 rfl (lv_at hl 1 rfl) ?_
  refine lv_aload_n hx hb dJ3_set_1 rfl (lv_at hl 0 rfl) ?_
  refine va_get hx hb hts in_J3 hown hK hP 0 rfl rfl 2 (by decide) (hts _ q175) (fun _ h => h) rfl dJ3_set_2 ?_
  refine r_after (va_runS (As := [.int (nI j), .int (nI c0)]) (rest := []) (g := F0 m 5 ls [.int (nI c0), .int (nI j)]) C.fix (j_ObjCheckIndex l D k j c0 (by omega) (by omega)) (va_cwS 2 hts (lw_S q290 q291 q104 q292) rfl rfl rfl (by decide +kernel) ⟨Nat.le_of_ble_eq_true rfl, Nat.le_of_ble_eq_true rfl⟩) (preR hK trivial) rfl rfl hl.1 rfl (lv_room (Nat.le_of_ble_eq_true rfl)) dJ3_set_5 ⟨(by first | exact Nat.le_of_ble_eq_true rfl | omega | (dsimp only [Rm]; omega)), (by first | exact Nat.le_of_ble_eq_true rfl | omega | (dsimp only [Rm]; omega))⟩) ?_
  refine lv_pop hx hb dJ3_set_8 rfl ?_
  refine lv_aload_n hx hb dJ3_set_9 rfl (lv_at hl 0 rfl) ?_
  refine lv_iload_n hx hb dJ3_set_10 rfl (lv_at hl 1 rfl) ?_
  refine r_after (va_runV (As := [.int (nI j)]) (rest := []) (g := F0 m 11 ls [.int (nI j), .ref li]) C.fix (j_alData l D k li el (nI mm) c0 n j (ad j) (rfs c0 ad) hj hcn (by omega) (rfs_at hj) []) (cwV 1 hts (lw_V q296 q297 q298 q75 q299) rfl rfl rfl (by decide +kernel) ⟨Nat.le_of_ble_eq_true rfl, Nat.le_of_ble_eq_true rfl⟩) (preRV hK (va_recv hK hP (ci := 12) (q0 := 0) rfl rfl) hP) rfl rfl hl.1 rfl (lv_room (Nat.le_of_ble_eq_true rfl)) dJ3_set_11 ⟨(by first | exact Nat.le_of_ble_eq_true rfl | omega | (dsimp only [Rm]; omega)), (by first | exact Nat.le_of_ble_eq_true rfl | omega | (dsimp only [Rm]; omega))⟩) ?_
  refine lv_astore_n (lv' := [(3, .ref (ad j)), (0, .ref li), (1, .int (nI j)), (2, .ref v)]) hx hb dJ3_set_14 rfl hl (by decide) rfl (fun ls hl => ?_)
  refine lv_aload_n hx hb dJ3_set_15 rfl (lv_at hl 1 rfl) ?_
  refine va_get hx hb hts in_J3 hown hK hP 0 rfl rfl 1 (by decide) (hts _ q174) (fun _ h => h) rfl dJ3_set_16 ?_
  refine lv_iload_n hx hb dJ3_set_19 rfl (lv_at hl 2 rfl) ?_
  refine lv_aload_n hx hb dJ3_set_20 rfl (lv_at hl 3 rfl) ?_
  refine o_ast hx hb hK hN hP (va_D_of hD rfl) hS 1 rfl hob j rfl (by omega) (by omega) dJ3_set_21 (fun H locs hP _ hS => ?_)
  have hP : va_P D clA [(li, .inr (12, [.int (nI mm), .ref el, .int (nI c0)])), (el, .inl (k 3, n, .inr (.inr (.inr (.inr (va_up (rfs c0 ad) j (some v)))))))] H := hP
  have hP : va_P D clA [(li, .inr (12, [.int (nI mm), .ref el, .int (nI c0)])), (el, .inl (k 3, n, .inr (.inr (.inr (.inr (rfs c0 (adp ad j v)))))))] H := (by rw [← rfs_set hj]; exact hP)
  refine lv_aload_n hx hb dJ3_set_22 rfl (lv_at hl 0 rfl) ?_
  exact j_aret hAe C (Or.inl ⟨_, rfl⟩) () rfl trivial hP (va_D_of hD rfl) hS (by first | exact Nat.le_of_ble_eq_true rfl | omega | (dsimp only [Rm]; omega)) (by first | exact Nat.le_of_ble_eq_true rfl | omega | (dsimp only [Rm]; omega)) dJ3_set_23
