/-! Book, Presentation, Credit: made and written (printed by gen/m27.py) -/
set_option maxRecDepth 100000
theorem bo_n {x : Int32} (h : x = 0 ∨ x = 1) : narrow .boolean (.int x) = .int x := by rcases h with h | h <;> subst h <;> rfl
theorem bo_f {x : Int32} (h : x = 0 ∨ x = 1) : fits .boolean (.int x) = true := by rcases h with h | h <;> subst h <;> rfl
theorem bo_b (P : Prop) : bI P = 0 ∨ bI P = 1 := (bI_or (P := P)).elim (fun h => Or.inr h.2) (fun h => Or.inl h.2)
/-- a live cell that a call does not get is frozen for it -/
theorem FZ_w2 {D : va_G} {A : Nat → Prop} {w1 w2 fz : va_W} {H : Heap} (hP : va_P D clA (w1 ++ w2) H) (hD : va_D A (w1 ++ w2)) (is : List Nat) (hs : is.filterMap (fun i => w2[i]?) = fz) : FZ D w1 fz H := by
  refine ⟨(P_app2 hP).sub is hs, fun q hq => ?_⟩
  subst hs
  obtain ⟨i, -, hi⟩ := List.mem_filterMap.mp hq
  exact D_apart hD (List.mem_of_getElem? hi)
set_option maxHeartbeats 4000000 in
theorem c_bookInit (l : Launch) (D : va_G) (k : Nat → ClassId) (g : Nat → Nat) (b : Nat) (cap : Int32) : jM l D k yX4_init cX4_init 2 none 4 80 1 3 [.ref b, .int cap] g [(b, .inr (4, [.null, .int 0]))] (fun HH => True) (fun xx : Nat => none) (fun _ _ => True) (fun xx : Nat => [(b, .inr (4, [.ref xx, .int cap])), (xx, .inr (12, [.int (nI 0), .ref (g 1), .int 0]))]) := by
  refine jM_of (by decide) (Nat.le_of_ble_eq_true rfl) ?_
  intro p e s m below meth c ls A hAe C hnm hmn hK hP hD hA hAN _ hX hS hl
  have hN : NW s := hX.nw
  obtain ⟨hx, hb, hr, hml, hown, hts, hlk⟩ := id C
  have hl : lv_has ls 2 [(0, .ref b), (1, .int cap)] := hl
  refine lv_aload_n hx hb dX4_init_0 rfl (lv_at hl 0 rfl) ?_
  refine W.objInit hx hb hown (hts _ q162) (hts _ q112) (hts _ q113) rfl (by rw [hml]; exact hl.1) rfl dX4_init_1 (Nat.le_of_ble_eq_true rfl) (Nat.le_of_ble_eq_true rfl) ?_
  refine lv_aload_n hx hb dX4_init_4 rfl (lv_at hl 0 rfl) ?_
  refine n_new (fs := [.int 0, .null, .int 0]) hx hb hts in_J3 tyJ3 tyJ3_ok hown (hts _ q163) (hts _ q164) (hts _ q75) hK hP (va_D_of hD rfl) hS hA (ci := 12) rfl (by decide +kernel) (by first | exact Nat.le_of_ble_eq_true rfl | omega | (dsimp only [Rm]; omega)) (by first | exact Nat.le_of_ble_eq_true rfl | omega | (dsimp only [Rm]; omega)) dX4_init_5 (fun li H _ hP hD hS => ?_)
  have hP : va_P D clA [(b, .inr (4, [.null, .int 0])), (li, .inr (12, [.int 0, .null, .int 0]))] H := P_mid 1 hP
  have hD : va_D A [(b, .inr (4, [.null, .int 0])), (li, .inr (12, [.int 0, .null, .int 0]))] := D_mid 1 hD
  refine lv_dup hx hb dX4_init_8 rfl ?_
  have hP : va_P D clA [(li, .inr (12, [.int 0, .null, .int 0])), (b, .inr (4, [.null, .int 0]))] H := P_prm [1, 0] 2 rfl (by decide) hP
  have hD : va_D A [(li, .inr (12, [.int 0, .null, .int 0])), (b, .inr (4, [.null, .int 0]))] := D_prm [1, 0] 2 rfl (by decide) (va_D_of (ws' := [(b, .inr (4, [.null, .int 0])), (li, .inr (12, [.int 0, .null, .int 0]))]) hD rfl)
  refine j_after (w1 := [(li, .inr (12, [.int 0, .null, .int 0]))]) (w2 := [(b, .inr (4, [.null, .int 0]))]) (va_runI (As := []) (rest := [.ref li, .ref b]) (g := F0 m 9 ls [.ref li, .ref li, .ref b]) C.fix (j_ALinit l D k g li) (cwC 0 hts q165 q166 q75 q167 rfl rfl rfl (by decide +kernel) ⟨Nat.le_of_ble_eq_true rfl, Nat.le_of_ble_eq_true rfl⟩) (preS mv2_jPre hK (fun U hU hW => jPre_at (w1 := [(li, .inr (12, [.int 0, .null, .int 0]))]) (w2 := [(b, .inr (4, [.null, .int 0]))]) hP (va_D_of hD rfl) hAN hX hS trivial hU hW)) rfl rfl hl.1 rfl (lv_room (Nat.le_of_ble_eq_true rfl)) dX4_init_9 ⟨(by first | exact Nat.le_of_ble_eq_true rfl | omega | (dsimp only [Rm]; omega)), (by first | exact Nat.le_of_ble_eq_true rfl | omega | (dsimp only [Rm]; omega))⟩) hP (va_D_of hD rfl) hS hA (fun xx H locs hB hP hD hS hsz hk => ?_)
  have hP : va_P D clA [(li, .inr (12, [.int (nI 0), .ref (g 1), .int 0])), (b, .inr (4, [.null, .int 0]))] H := hP
  have hD : va_D A [(li, .inr (12, [.int (nI 0), .ref (g 1), .int 0])), (b, .inr (4, [.null, .int 0]))] := hD
  refine va_putF hx hb hts in_X4 tyX4 tyX4_ok nmX4 hown hK hP (va_D_of hD rfl) hS 1 rfl rfl 0 (by decide) (hts _ q186) (fun _ h => h) rfl hnm rfl rfl rfl rfl (Nat.le_of_ble_eq_true rfl) dX4_init_12 (fun H locs hP _ hS => ?_)
  have hP : va_P D clA [(li, .inr (12, [.int (nI 0), .ref (g 1), .int 0])), (b, .inr (4, [.ref li, .int 0]))] H := hP
  refine lv_aload_n hx hb dX4_init_15 rfl (lv_at hl 0 rfl) ?_
  refine lv_iload_n hx hb dX4_init_16 rfl (lv_at hl 1 rfl) ?_
  refine va_putF hx hb hts in_X4 tyX4 tyX4_ok nmX4 hown hK hP (va_D_of hD rfl) hS 1 rfl rfl 1 (by decide) (hts _ q187) (fun _ h => h) rfl hnm rfl rfl rfl rfl (Nat.le_of_ble_eq_true rfl) dX4_init_17 (fun H locs hP _ hS => ?_)
  have hP : va_P D clA [(li, .inr (12, [.int (nI 0), .ref (g 1), .int 0])), (b, .inr (4, [.ref li, .int cap]))] H := hP
  exact j_vret hAe C li rfl trivial (hP.sub [1, 0] rfl) (va_D_of (D_sub (ws' := [(b, .inr (4, [.ref li, .int cap])), (li, .inr (12, [.int (nI 0), .ref (g 1), .int 0]))]) (va_D_of (ws' := [(li, .inr (12, [.int (nI 0), .ref (g 1), .int 0])), (b, .inr (4, [.ref li, .int cap]))]) hD rfl) [1, 0] rfl rfl) rfl) hS (by first | exact Nat.le_of_ble_eq_true rfl | omega | (dsimp only [Rm]; omega)) (by first | exact Nat.le_of_ble_eq_true rfl | omega | (dsimp only [Rm]; omega)) dX4_init_20
set_option maxHeartbeats 4000000 in
theorem c_addAll (l : Launch) (D : va_G) (k : Nat → ClassId) (g : Nat → Nat) (b li b2 li2 el2 n nn : Nat) (cap cap2 mc2 : Int32) (ad : Nat → Nat) (hn : n ≤ 24) (hnn : n ≤ nn) (hnb : nn ≤ 40000) : jM l D k yX4_addAll cX4_addAll 3 none 7 171 n (36 * n) [.ref b, .ref b2] g [(b, .inr (4, [.ref li, .int cap])), (li, .inr (12, [.int (nI 0), .ref (g 1), .int 0]))] (fun HH => FZ D [(b, .inr (4, [.ref li, .int cap])), (li, .inr (12, [.int (nI 0), .ref (g 1), .int 0]))] [(b2, .inr (4, [.ref li2, .int cap2])), (li2, .inr (12, [.int mc2, .ref el2, .int (nI n)]))] HH ∧ (0 < n → FZ D [(b, .inr (4, [.ref li, .int cap])), (li, .inr (12, [.int (nI 0), .ref (g 1), .int 0]))] [(el2, .inl (k 3, nn, .inr (.inr (.inr (.inr (rfs n ad))))))] HH) ∧ (∀ j, j < n → obD D (ad j) HH)) (fun xx : Nat × Nat => none) (fun (xx : Nat × Nat) HH => n ≤ xx.2 ∧ xx.2 ≤ 40000 ∧ (n = 0 → xx.1 = g 1 ∧ xx.2 = 0)) (fun xx : Nat × Nat => ([(b, .inr (4, [.ref li, .int cap])), (li, .inr (12, [.int (nI n), .ref xx.1, .int (nI n)]))] ++ elO n (xx.1, .inl (k 3, xx.2, .inr (.inr (.inr (.inr (rfs n ad)))))))) := by
  refine jM_of (by decide) (Nat.le_of_ble_eq_true rfl) ?_
  intro p e s m below meth c ls A hAe C hnm hmn hK hP hD hA hAN ⟨hF, hE, hob⟩ hX hS hl
  have hN : NW s := hX.nw
  obtain ⟨hx, hb, hr, hml, hown, hts, hlk⟩ := id C
  have hl : lv_has ls 3 [(0, .ref b), (1, .ref b2)] := hl
  refine lv_iconst (v := 0) hx hb dX4_addAll_0 rfl ?_
  refine lv_istore_n (lv' := [(2, .int 0), (0, .ref b), (1, .ref b2)]) hx hb dX4_addAll_1 rfl hl (by decide) rfl (fun ls hl => ?_)
  refine lv_iload_n hx hb dX4_addAll_2 rfl (lv_at hl 0 rfl) ?_
  refine lv_aload_n hx hb dX4_addAll_3 rfl (lv_at hl 2 rfl) ?_
  refine r_after (va_runV (As := []) (rest := [.int 0]) (g := F0 m 4 ls [.ref b2, .int 0]) C.fix (c_bookSize l D k g b2 li2 el2 mc2 cap2 (nI n)) (cwV 0 hts (lw_V q1536 q252 q253 q73 q254) rfl rfl rfl (by decide +kernel) ⟨Nat.le_of_ble_eq_true rfl, Nat.le_of_ble_eq_true rfl⟩) (preV mv2_hKX hK (va_recv hK (FZ_at hAe hF hS) (ci := 4) (q0 := 0) rfl rfl) (fun U hU hW => (hKX_at hX hS hAN (va_cons ((FZ_at hAe hF hS) 0 _ rfl) (va_cons ((FZ_at hAe hF hS) 1 _ rfl) va_nil)) hU hW))) rfl rfl hl.1 rfl (lv_room (Nat.le_of_ble_eq_true rfl)) dX4_addAll_4 ⟨(by first | exact Nat.le_of_ble_eq_true rfl | omega | (dsimp only [Rm]; omega)), (by first | exact Nat.le_of_ble_eq_true rfl | omega | (dsimp only [Rm]; omega))⟩) ?_
  refine lv_icmp_ge (tgt := 31) hx hb dX4_addAll_7 (by decide) (fun c_7 => ?_) (fun c_7 => ?_)
  · have e_7 : n = 0 := by have := nI_le' (b := 0) c_7 (by omega) (by decide); omega
    exact j_vret hAe C (g 1, 0) rfl ⟨by omega, by omega, fun _ => ⟨rfl, rfl⟩⟩ (by rw [elO_0 e_7]; subst e_7; exact hP) (by rw [elO_0 e_7]; exact va_D_of hD rfl) hS (by first | exact Nat.le_of_ble_eq_true rfl | omega | (dsimp only [Rm]; omega)) (by first | exact Nat.le_of_ble_eq_true rfl | omega | (dsimp only [Rm]; omega)) dX4_addAll_31
  · have e_7 : 0 < n := by have := nI_nle' (b := 0) c_7 (by omega) (by decide); omega
    refine lv_aload_n hx hb dX4_addAll_10 rfl (lv_at hl 1 rfl) ?_
    refine va_get hx hb hts in_X4 hown hK hP 0 rfl rfl 0 (by decide) (hts _ q186) (fun _ h => h) rfl dX4_addAll_11 ?_
    refine lv_aload_n hx hb dX4_addAll_14 rfl (lv_at hl 2 rfl) ?_
    refine lv_iload_n hx hb dX4_addAll_15 rfl (lv_at hl 0 rfl) ?_
    refine w_topi (y := nI 0) rfl ?_
    refine r_after (va_runV (As := [.int (nI 0)]) (rest := [.ref li]) (g := F0 m 16 ls [.int (nI 0), .ref b2, .ref li]) C.fix (c_bookGet l D k g b2 cap2 li2 el2 mc2 n nn 0 (ad 0) (rfs n ad) (by omega) (by omega) (by omega) (rfs_at (by omega))) (cwV 1 hts (lw_V q1537 q278 q279 q73 q280) rfl rfl rfl (by decide +kernel) ⟨Nat.le_of_ble_eq_true rfl, Nat.le_of_ble_eq_true rfl⟩) (preV mv2_hKX hK (va_recv hK (FZ_at hAe hF hS) (ci := 4) (q0 := 0) rfl rfl) (fun U hU hW => (hKX_at hX hS hAN (va_cons ((FZ_at hAe hF hS) 0 _ rfl) (va_cons ((FZ_at hAe hF hS) 1 _ rfl) (va_cons ((FZ_at hAe (hE (by omega)) hS) 0 _ rfl) va_nil))) hU hW))) rfl rfl hl.1 rfl (lv_room (Nat.le_of_ble_eq_true rfl)) dX4_addAll_16 ⟨(by first | exact Nat.le_of_ble_eq_true rfl | omega | (dsimp only [Rm]; omega)), (by first | exact Nat.le_of_ble_eq_true rfl | omega | (dsimp only [Rm]; omega))⟩) ?_
    refine obD_at (hob 0 (by omega)) ?_
    intro hob1
    have hP : va_P D clA [(li, .inr (12, [.int (nI 0), .ref (g 1), .int 0])), (b, .inr (4, [.ref li, .int cap]))] s.heap := P_prm [1, 0] 2 rfl (by decide) hP
    have hD : va_D A [(li, .inr (12, [.int (nI 0), .ref (g 1), .int 0])), (b, .inr (4, [.ref li, .int cap]))] := D_prm [1, 0] 2 rfl (by decide) (va_D_of (ws' := [(b, .inr (4, [.ref li, .int cap])), (li, .inr (12, [.int (nI 0), .ref (g 1), .int 0]))]) hD rfl)
    refine j_after5 (w1 := [(li, .inr (12, [.int (nI 0), .ref (g 1), .int 0]))]) (w2 := [(b, .inr (4, [.ref li, .int cap]))]) (va_runF (As := [.ref (ad 0)]) (rest := []) (g := F0 m 19 ls [.ref (ad 0), .ref li]) (hK.1 12 _ rfl).2 C.fix (j_add_0 l D k g li (ad 0) 0) (va_cwF 1 hts (lw_F q1013 q1016 q1018 q75 q1020) rfl rfl rfl hX.iw.2.2.1 (by decide +kernel) ⟨Nat.le_of_ble_eq_true rfl, Nat.le_of_ble_eq_true rfl⟩) (preV mv2_jPre hK (va_recv hK hP (ci := 12) (q0 := 0) rfl rfl) (fun U hU hW => jPre_at (w1 := [(li, .inr (12, [.int (nI 0), .ref (g 1), .int 0]))]) (w2 := [(b, .inr (4, [.ref li, .int cap]))]) hP (va_D_of hD rfl) hAN hX hS hob1 hU hW)) rfl rfl hl.1 rfl (lv_room (Nat.le_of_ble_eq_true rfl)) dX4_addAll_19 ⟨(by first | exact Nat.le_of_ble_eq_true rfl | omega | (dsimp only [Rm]; omega)), (by first | exact Nat.le_of_ble_eq_true rfl | omega | (dsimp only [Rm]; omega))⟩) hP (va_D_of hD rfl) hS hA (fun x H locs hB hP hD hS hsz hk => ?_)
    have hP : va_P D clA [(li, .inr (12, [.int (nI 1), .ref x, .int (nI 1)])), (x, .inl (k 3, 10, .inr (.inr (.inr (.inr (rfs 1 (fun _ => ad 0))))))), (b, .inr (4, [.ref li, .int cap]))] H := hP
    have hD : va_D A [(li, .inr (12, [.int (nI 1), .ref x, .int (nI 1)])), (x, .inl (k 3, 10, .inr (.inr (.inr (.inr (rfs 1 (fun _ => ad 0))))))), (b, .inr (4, [.ref li, .int cap]))] := hD
    have hP : va_P D clA [(li, .inr (12, [.int (nI 1), .ref x, .int (nI 1)])), (x, .inl (k 3, 10, .inr (.inr (.inr (.inr (rfs 1 ad)))))), (b, .inr (4, [.ref li, .int cap]))] H := (by rw [rfs_cg (ad := ad) (ad' := fun _ => ad 0) (fun j hj => by rw [show j = 0 by omega])]; exact hP)
    refine lv_pop hx hb dX4_addAll_24 rfl ?_
    refine lv_iinc (v := nI 1) (lv' := [(2, .int (nI 1)), (0, .ref b), (1, .ref b2)]) hx hb dX4_addAll_25 hl (k := 0) rfl rfl (by decide) rfl (fun ls hl => ?_)
    refine lv_goto (tgt := 2) hx hb dX4_addAll_28 (by decide) ?_
    have loop_2 : ∀ (n9 : Nat) (j : Nat) (x : Nat) (n1 : Nat), (1 ≤ j) → (j ≤ n) → (j ≤ n1) → (n1 ≤ 40000) → (n + 1 ≤ j + n9) → ∀ (H : Heap) (locs : List Loc), va_P D clA [(li, .inr (12, [.int (nI j), .ref x, .int (nI j)])), (x, .inl (k 3, n1, .inr (.inr (.inr (.inr (rfs j ad)))))), (b, .inr (4, [.ref li, .int cap]))] H → va_D A [(li, .inr (12, [.int (nI j), .ref x, .int (nI j)])), (x, .inl (k 3, n1, .inr (.inr (.inr (.inr (rfs j ad)))))), (b, .inr (4, [.ref li, .int cap]))] → va_S A s.heap H locs → ∀ (ls : Array Slot), lv_has ls 3 [(0, .ref b), (1, .ref b2), (2, .int (nI j))] → W p l e (Rm 7 171 n (36 * n)) s m ([.ref b, .ref b2] : List Value).toArray below meth c H locs j (36 * j) (MQ below (jQ D (fun xx : Nat × Nat => none) (fun (xx : Nat × Nat) HH => n ≤ xx.2 ∧ xx.2 ≤ 40000 ∧ (n = 0 → xx.1 = g 1 ∧ xx.2 = 0)) (fun xx : Nat × Nat => ([(b, .inr (4, [.ref li, .int cap])), (li, .inr (12, [.int (nI n), .ref xx.1, .int (nI n)]))] ++ elO n (xx.1, .inl (k 3, xx.2, .inr (.inr (.inr (.inr (rfs n ad)))))))) (inL [(b, .inr (4, [.ref li, .int cap])), (li, .inr (12, [.int (nI 0), .ref (g 1), .int 0]))])) ([.ref b, .ref b2] : List Value).toArray s n (36 * n) (inL [(b, .inr (4, [.ref li, .int cap])), (li, .inr (12, [.int (nI 0), .ref (g 1), .int 0]))])) (F0 m 2 ls []) := by
      intro n9
      induction n9 with
      | zero =>
        intro j x n1 h1 hj hjn hn1 hm
        exact absurd hm (by omega)
      | succ n9 ih_2 =>
        intro j x n1 h1 hj hjn hn1 hm H locs hP hD hS ls hl
        refine lv_iload_n hx hb dX4_addAll_2 rfl (lv_at hl 2 rfl) ?_
        refine lv_aload_n hx hb dX4_addAll_3 rfl (lv_at hl 1 rfl) ?_
        refine r_after (va_runV (As := []) (rest := [.int (nI j)]) (g := F0 m 4 ls [.ref b2, .int (nI j)]) C.fix (c_bookSize l D k g b2 li2 el2 mc2 cap2 (nI n)) (cwV 0 hts (lw_V q1536 q252 q253 q73 q254) rfl rfl rfl (by decide +kernel) ⟨Nat.le_of_ble_eq_true rfl, Nat.le_of_ble_eq_true rfl⟩) (preV mv2_hKX hK (va_recv hK (FZ_at hAe hF hS) (ci := 4) (q0 := 0) rfl rfl) (fun U hU hW => (hKX_at hX hS hAN (va_cons ((FZ_at hAe hF hS) 0 _ rfl) (va_cons ((FZ_at hAe hF hS) 1 _ rfl) va_nil)) hU hW))) rfl rfl hl.1 rfl (lv_room (Nat.le_of_ble_eq_true rfl)) dX4_addAll_4 ⟨(by first | exact Nat.le_of_ble_eq_true rfl | omega | (dsimp only [Rm]; omega)), (by first | exact Nat.le_of_ble_eq_true rfl | omega | (dsimp only [Rm]; omega))⟩) ?_
        refine lv_icmp_ge (tgt := 31) hx hb dX4_addAll_7 (by decide) (fun c_7 => ?_) (fun c_7 => ?_)
        · have e_7 : j = n := by have := nI_le' c_7 (by omega) (by omega); omega
          exact j_vret hAe C (x, n1) rfl ⟨by omega, by omega, fun z => absurd z (by omega)⟩ (by rw [elO_1 (by omega : 0 < n), ← e_7]; exact hP.sub [2, 0, 1] rfl) (by rw [elO_1 (by omega : 0 < n), ← e_7]; exact va_D_of (D_sub (va_D_of (ws' := [(li, .inr (12, [.int (nI j), .ref x, .int (nI j)])), (x, .inl (k 3, n1, .inr (.inr (.inr (.inr (rfs j ad)))))), (b, .inr (4, [.ref li, .int cap]))]) hD rfl) [2, 0, 1] rfl rfl) rfl) hS (by first | exact Nat.le_of_ble_eq_true rfl | omega | (dsimp only [Rm]; omega)) (by first | exact Nat.le_of_ble_eq_true rfl | omega | (dsimp only [Rm]; omega)) dX4_addAll_31
        · have e_7 : j < n := nI_nle' c_7 (by omega) (by omega)
          refine lv_aload_n hx hb dX4_addAll_10 rfl (lv_at hl 0 rfl) ?_
          refine va_get hx hb hts in_X4 hown hK hP 2 rfl rfl 0 (by decide) (hts _ q186) (fun _ h => h) rfl dX4_addAll_11 ?_
          refine lv_aload_n hx hb dX4_addAll_14 rfl (lv_at hl 1 rfl) ?_
          refine lv_iload_n hx hb dX4_addAll_15 rfl (lv_at hl 2 rfl) ?_
          refine r_after (va_runV (As := [.int (nI j)]) (rest := [.ref li]) (g := F0 m 16 ls [.int (nI j), .ref b2, .ref li]) C.fix (c_bookGet l D k g b2 cap2 li2 el2 mc2 n nn j (ad j) (rfs n ad) (by omega) (by omega) (by omega) (rfs_at (by omega))) (cwV 1 hts (lw_V q1537 q278 q279 q73 q280) rfl rfl rfl (by decide +kernel) ⟨Nat.le_of_ble_eq_true rfl, Nat.le_of_ble_eq_true rfl⟩) (preV mv2_hKX hK (va_recv hK (FZ_at hAe hF hS) (ci := 4) (q0 := 0) rfl rfl) (fun U hU hW => (hKX_at hX hS hAN (va_cons ((FZ_at hAe hF hS) 0 _ rfl) (va_cons ((FZ_at hAe hF hS) 1 _ rfl) (va_cons ((FZ_at hAe (hE (by omega)) hS) 0 _ rfl) va_nil))) hU hW))) rfl rfl hl.1 rfl (lv_room (Nat.le_of_ble_eq_true rfl)) dX4_addAll_16 ⟨(by first | exact Nat.le_of_ble_eq_true rfl | omega | (dsimp only [Rm]; omega)), (by first | exact Nat.le_of_ble_eq_true rfl | omega | (dsimp only [Rm]; omega))⟩) ?_
          refine obD_at (hob j (by omega)) ?_
          intro hobv1
          refine obDs_at hob ?_
          intro hob1
          refine j_after5 (w1 := [(li, .inr (12, [.int (nI j), .ref x, .int (nI j)])), (x, .inl (k 3, n1, .inr (.inr (.inr (.inr (rfs j ad))))))]) (w2 := [(b, .inr (4, [.ref li, .int cap]))]) (va_runF (As := [.ref (ad j)]) (rest := []) (g := F0 m 19 ls [.ref (ad j), .ref li]) (hK.1 12 _ rfl).2 C.fix (j_add_1 l D k g li x n1 j j ad (ad j) (by omega) (by omega) (by omega) (by omega)) (va_cwF 1 hts (lw_F q1013 q1016 q1018 q75 q1020) rfl rfl rfl hX.iw.2.2.1 (by decide +kernel) ⟨Nat.le_of_ble_eq_true rfl, Nat.le_of_ble_eq_true rfl⟩) (preV mv2_jPre hK (va_recv hK hP (ci := 12) (q0 := 0) rfl rfl) (fun U hU hW => jPre_at (w1 := [(li, .inr (12, [.int (nI j), .ref x, .int (nI j)])), (x, .inl (k 3, n1, .inr (.inr (.inr (.inr (rfs j ad))))))]) (w2 := [(b, .inr (4, [.ref li, .int cap]))]) hP (va_D_of hD rfl) hAN hX hS (⟨hobv1, fun i hi => hob1 i (by omega)⟩) hU hW)) rfl rfl hl.1 rfl (lv_room (Nat.le_of_ble_eq_true rfl)) dX4_addAll_19 ⟨(by first | exact Nat.le_of_ble_eq_true rfl | omega | (dsimp only [Rm]; omega)), (by first | exact Nat.le_of_ble_eq_true rfl | omega | (dsimp only [Rm]; omega))⟩) hP (va_D_of hD rfl) hS hA (fun xx H locs hB hP hD hS hsz hk => ?_)
          obtain ⟨x1, n3⟩ := xx
          have hP : va_P D clA [(li, .inr (12, [.int (nI (j + 1)), .ref x1, .int (nI (j + 1))])), (x1, .inl (k 3, n3, .inr (.inr (.inr (.inr (rfs (j + 1) (adp ad j (ad j)))))))), (b, .inr (4, [.ref li, .int cap]))] H := hP
          have hD : va_D A [(li, .inr (12, [.int (nI (j + 1)), .ref x1, .int (nI (j + 1))])), (x1, .inl (k 3, n3, .inr (.inr (.inr (.inr (rfs (j + 1) (adp ad j (ad j)))))))), (b, .inr (4, [.ref li, .int cap]))] := hD
          have hB3 : j + 1 ≤ n3 ∧ n3 ≤ 40000 := hB
          have hP : va_P D clA [(li, .inr (12, [.int (nI (j + 1)), .ref x1, .int (nI (j + 1))])), (x1, .inl (k 3, n3, .inr (.inr (.inr (.inr (rfs (j + 1) ad)))))), (b, .inr (4, [.ref li, .int cap]))] H := (by rw [rfs_cg (ad := ad) (ad' := adp ad j (ad j)) (fun i hi => by by_cases z : i = j; rw [z, adp_s]; rw [adp_n z])]; exact hP)
          refine lv_pop hx hb dX4_addAll_24 rfl ?_
          refine lv_iinc (v := nI (j + 1)) (lv' := [(2, .int (nI (j + 1))), (0, .ref b), (1, .ref b2)]) hx hb dX4_addAll_25 hl (k := 2) rfl (nI_1 j) (by decide) rfl (fun ls hl => ?_)
          refine lv_goto (tgt := 2) hx hb dX4_addAll_28 (by decide) ?_
          exact W_more (by first | exact Nat.le_of_ble_eq_true rfl | omega | (dsimp only [Rm]; omega)) (by first | exact Nat.le_of_ble_eq_true rfl | omega | (dsimp only [Rm]; omega)) (ih_2 (j + 1) x1 n3 (by omega) (by omega) hB3.1 hB3.2 (by omega) _ _ hP (va_D_of hD rfl) hS ls (lv_sub hl [1, 2, 0] rfl))
    exact W_more (by first | exact Nat.le_of_ble_eq_true rfl | omega | (dsimp only [Rm]; omega)) (by first | exact Nat.le_of_ble_eq_true rfl | omega | (dsimp only [Rm]; omega)) (loop_2 (n + 1) 1 x 10 (by omega) (by omega) (by omega) (by omega) (by omega) _ _ hP (va_D_of hD rfl) hS ls (lv_sub hl [1, 2, 0] rfl))
set_option maxHeartbeats 4000000 in
theorem c_bookAdd0 (l : Launch) (D : va_G) (k : Nat → ClassId) (g : Nat → Nat) (b li v mm : Nat) (cap : Int32) : jM l D k yX4_add cX4_add 2 (some .int) 5 110 1 10 [.ref b, .ref v] g [(b, .inr (4, [.ref li, .int cap])), (li, .inr (12, [.int (nI mm), .ref (g 1), .int 0]))] (fun HH => obD D v HH) (fun xx : Nat => some (.int 0)) (fun _ _ => True) (fun xx : Nat => [(b, .inr (4, [.ref li, .int cap])), (li, .inr (12, [.int (nI (mm + 1)), .ref xx, .int (nI 1)])), (xx, .inl (k 3, 10, .inr (.inr (.inr (.inr (rfs 1 (fun _ => v)))))))]) := by
  refine jM_of (by decide) (Nat.le_of_ble_eq_true rfl) ?_
  intro p e s m below meth c ls A hAe C hnm hmn hK hP hD hA hAN hob hX hS hl
  have hN : NW s := hX.nw
  obtain ⟨hx, hb, hr, hml, hown, hts, hlk⟩ := id C
  have hl : lv_has ls 2 [(0, .ref b), (1, .ref v)] := hl
  refine lv_aload_n hx hb dX4_add_0 rfl (lv_at hl 0 rfl) ?_
  refine va_get hx hb hts in_X4 hown hK hP 0 rfl rfl 0 (by decide) (hts _ q186) (fun _ h => h) rfl dX4_add_1 ?_
  refine lv_aload_n hx hb dX4_add_4 rfl (lv_at hl 1 rfl) ?_
  have hP : va_P D clA [(li, .inr (12, [.int (nI mm), .ref (g 1), .int 0])), (b, .inr (4, [.ref li, .int cap]))] s.heap := P_prm [1, 0] 2 rfl (by decide) hP
  have hD : va_D A [(li, .inr (12, [.int (nI mm), .ref (g 1), .int 0])), (b, .inr (4, [.ref li, .int cap]))] := D_prm [1, 0] 2 rfl (by decide) (va_D_of (ws' := [(b, .inr (4, [.ref li, .int cap])), (li, .inr (12, [.int (nI mm), .ref (g 1), .int 0]))]) hD rfl)
  refine j_after5 (w1 := [(li, .inr (12, [.int (nI mm), .ref (g 1), .int 0]))]) (w2 := [(b, .inr (4, [.ref li, .int cap]))]) (va_runF (As := [.ref v]) (rest := []) (g := F0 m 5 ls [.ref v, .ref li]) (hK.1 12 _ rfl).2 C.fix (j_add_0 l D k g li v mm) (va_cwF 1 hts (lw_F q1013 q1016 q1018 q75 q1020) rfl rfl rfl hX.iw.2.2.1 (by decide +kernel) ⟨Nat.le_of_ble_eq_true rfl, Nat.le_of_ble_eq_true rfl⟩) (preV mv2_jPre hK (va_recv hK hP (ci := 12) (q0 := 0) rfl rfl) (fun U hU hW => jPre_at (w1 := [(li, .inr (12, [.int (nI mm), .ref (g 1), .int 0]))]) (w2 := [(b, .inr (4, [.ref li, .int cap]))]) hP (va_D_of hD rfl) hAN hX hS hob hU hW)) rfl rfl hl.1 rfl (lv_room (Nat.le_of_ble_eq_true rfl)) dX4_add_5 ⟨(by first | exact Nat.le_of_ble_eq_true rfl | omega | (dsimp only [Rm]; omega)), (by first | exact Nat.le_of_ble_eq_true rfl | omega | (dsimp only [Rm]; omega))⟩) hP (va_D_of hD rfl) hS hA (fun x H locs hB hP hD hS hsz hk => ?_)
  have hP : va_P D clA [(li, .inr (12, [.int (nI (mm + 1)), .ref x, .int (nI 1)])), (x, .inl (k 3, 10, .inr (.inr (.inr (.inr (rfs 1 (fun _ => v))))))), (b, .inr (4, [.ref li, .int cap]))] H := hP
  have hD : va_D A [(li, .inr (12, [.int (nI (mm + 1)), .ref x, .int (nI 1)])), (x, .inl (k 3, 10, .inr (.inr (.inr (.inr (rfs 1 (fun _ => v))))))), (b, .inr (4, [.ref li, .int cap]))] := hD
  refine lv_pop hx hb dX4_add_10 rfl ?_
  refine lv_aload_n hx hb dX4_add_11 rfl (lv_at hl 0 rfl) ?_
  refine va_get hx hb hts in_X4 hown hK hP 2 rfl rfl 0 (by decide) (hts _ q186) (fun _ h => h) rfl dX4_add_12 ?_
  refine r_after5 (va_runF (As := []) (rest := []) (g := F0 m 15 ls [.ref li]) (hK.1 12 _ rfl).2 C.fix (j_alSize l D k li x (nI (mm + 1)) (nI 1) []) (va_cwF 0 hts (lw_F q256 q260 q262 q75 q264) rfl rfl rfl hX.iw.1 (by decide +kernel) ⟨Nat.le_of_ble_eq_true rfl, Nat.le_of_ble_eq_true rfl⟩) (preRV hK (va_recv hK hP (ci := 12) (q0 := 0) rfl rfl) (va_cons (hP 0 _ rfl) va_nil)) rfl rfl hl.1 rfl (lv_room (Nat.le_of_ble_eq_true rfl)) dX4_add_15 ⟨(by first | exact Nat.le_of_ble_eq_true rfl | omega | (dsimp only [Rm]; omega)), (by first | exact Nat.le_of_ble_eq_true rfl | omega | (dsimp only [Rm]; omega))⟩) ?_
  refine lv_iconst (v := 1) hx hb dX4_add_20 rfl ?_
  refine lv_isub hx hb dX4_add_21 ?_
  refine w_topi (y := 0) (by decide) ?_
  exact j_iret hAe C x rfl trivial (hP.sub [2, 0, 1] rfl) (va_D_of (D_sub (ws' := [(b, .inr (4, [.ref li, .int cap])), (li, .inr (12, [.int (nI (mm + 1)), .ref x, .int (nI 1)])), (x, .inl (k 3, 10, .inr (.inr (.inr (.inr (rfs 1 (fun _ => v)))))))]) (va_D_of (ws' := [(li, .inr (12, [.int (nI (mm + 1)), .ref x, .int (nI 1)])), (x, .inl (k 3, 10, .inr (.inr (.inr (.inr (rfs 1 (fun _ => v))))))), (b, .inr (4, [.ref li, .int cap]))]) hD rfl) [2, 0, 1] rfl rfl) rfl) hS (by first | exact Nat.le_of_ble_eq_true rfl | omega | (dsimp only [Rm]; omega)) (by first | exact Nat.le_of_ble_eq_true rfl | omega | (dsimp only [Rm]; omega)) dX4_add_22
set_option maxHeartbeats 4000000 in
theorem c_bookAdd1 (l : Launch) (D : va_G) (k : Nat → ClassId) (g : Nat → Nat) (b : Nat) (cap : Int32) (li el n c0 mm : Nat) (ad : Nat → Nat) (v : Nat) (h0 : 0 < c0) (hc : c0 ≤ 24) (hcn : c0 ≤ n) (hn : n ≤ 40000) : jM l D k yX4_add cX4_add 2 (some .int) 7 171 1 36 [.ref b, .ref v] g [(b, .inr (4, [.ref li, .int cap])), (li, .inr (12, [.int (nI mm), .ref el, .int (nI c0)])), (el, .inl (k 3, n, .inr (.inr (.inr (.inr (rfs c0 ad))))))] (fun HH => obD D v HH ∧ (∀ j, j < c0 → obD D (ad j) HH)) (fun xx : Nat × Nat => some (.int (nI c0))) (fun (xx : Nat × Nat) HH => c0 + 1 ≤ xx.2 ∧ xx.2 ≤ 40000) (fun xx : Nat × Nat => [(b, .inr (4, [.ref li, .int cap])), (li, .inr (12, [.int (nI (mm + 1)), .ref xx.1, .int (nI (c0 + 1))])), (xx.1, .inl (k 3, xx.2, .inr (.inr (.inr (.inr (rfs (c0 + 1) (adp ad c0 v)))))))]) := by
  refine jM_of (by decide) (Nat.le_of_ble_eq_true rfl) ?_
  intro p e s m below meth c ls A hAe C hnm hmn hK hP hD hA hAN ⟨hobv, hob⟩ hX hS hl
  have hN : NW s := hX.nw
  obtain ⟨hx, hb, hr, hml, hown, hts, hlk⟩ := id C
  have hl : lv_has ls 2 [(0, .ref b), (1, .ref v)] := hl
  refine lv_aload_n hx hb dX4_add_0 rfl (lv_at hl 0 rfl) ?_
  refine va_get hx hb hts in_X4 hown hK hP 0 rfl rfl 0 (by decide) (hts _ q186) (fun _ h => h) rfl dX4_add_1 ?_
  refine lv_aload_n hx hb dX4_add_4 rfl (lv_at hl 1 rfl) ?_
  have hP : va_P D clA [(li, .inr (12, [.int (nI mm), .ref el, .int (nI c0)])), (el, .inl (k 3, n, .inr (.inr (.inr (.inr (rfs c0 ad)))))), (b, .inr (4, [.ref li, .int cap]))] s.heap := P_prm [1, 2, 0] 3 rfl (by decide) hP
  have hD : va_D A [(li, .inr (12, [.int (nI mm), .ref el, .int (nI c0)])), (el, .inl (k 3, n, .inr (.inr (.inr (.inr (rfs c0 ad)))))), (b, .inr (4, [.ref li, .int cap]))] := D_prm [1, 2, 0] 3 rfl (by decide) (va_D_of (ws' := [(b, .inr (4, [.ref li, .int cap])), (li, .inr (12, [.int (nI mm), .ref el, .int (nI c0)])), (el, .inl (k 3, n, .inr (.inr (.inr (.inr (rfs c0 ad))))))]) hD rfl)
  refine j_after5 (w1 := [(li, .inr (12, [.int (nI mm), .ref el, .int (nI c0)])), (el, .inl (k 3, n, .inr (.inr (.inr (.inr (rfs c0 ad))))))]) (w2 := [(b, .inr (4, [.ref li, .int cap]))]) (va_runF (As := [.ref v]) (rest := []) (g := F0 m 5 ls [.ref v, .ref li]) (hK.1 12 _ rfl).2 C.fix (j_add_1 l D k g li el n c0 mm ad v h0 hc hcn hn) (va_cwF 1 hts (lw_F q1013 q1016 q1018 q75 q1020) rfl rfl rfl hX.iw.2.2.1 (by decide +kernel) ⟨Nat.le_of_ble_eq_true rfl, Nat.le_of_ble_eq_true rfl⟩) (preV mv2_jPre hK (va_recv hK hP (ci := 12) (q0 := 0) rfl rfl) (fun U hU hW => jPre_at (w1 := [(li, .inr (12, [.int (nI mm), .ref el, .int (nI c0)])), (el, .inl (k 3, n, .inr (.inr (.inr (.inr (rfs c0 ad))))))]) (w2 := [(b, .inr (4, [.ref li, .int cap]))]) hP (va_D_of hD rfl) hAN hX hS (⟨hobv, hob⟩) hU hW)) rfl rfl hl.1 rfl (lv_room (Nat.le_of_ble_eq_true rfl)) dX4_add_5 ⟨(by first | exact Nat.le_of_ble_eq_true rfl | omega | (dsimp only [Rm]; omega)), (by first | exact Nat.le_of_ble_eq_true rfl | omega | (dsimp only [Rm]; omega))⟩) hP (va_D_of hD rfl) hS hA (fun xx H locs hB hP hD hS hsz hk => ?_)
  obtain ⟨x, n2⟩ := xx
  have hP : va_P D clA [(li, .inr (12, [.int (nI (mm + 1)), .ref x, .int (nI (c0 + 1))])), (x, .inl (k 3, n2, .inr (.inr (.inr (.inr (rfs (c0 + 1) (adp ad c0 v))))))), (b, .inr (4, [.ref li, .int cap]))] H := hP
  have hD : va_D A [(li, .inr (12, [.int (nI (mm + 1)), .ref x, .int (nI (c0 + 1))])), (x, .inl (k 3, n2, .inr (.inr (.inr (.inr (rfs (c0 + 1) (adp ad c0 v))))))), (b, .inr (4, [.ref li, .int cap]))] := hD
  have hB : c0 + 1 ≤ n2 ∧ n2 ≤ 40000 := hB
  refine lv_pop hx hb dX4_add_10 rfl ?_
  refine lv_aload_n hx hb dX4_add_11 rfl (lv_at hl 0 rfl) ?_
  refine va_get hx hb hts in_X4 hown hK hP 2 rfl rfl 0 (by decide) (hts _ q186) (fun _ h => h) rfl dX4_add_12 ?_
  refine r_after5 (va_runF (As := []) (rest := []) (g := F0 m 15 ls [.ref li]) (hK.1 12 _ rfl).2 C.fix (j_alSize l D k li x (nI (mm + 1)) (nI (c0 + 1)) []) (va_cwF 0 hts (lw_F q256 q260 q262 q75 q264) rfl rfl rfl hX.iw.1 (by decide +kernel) ⟨Nat.le_of_ble_eq_true rfl, Nat.le_of_ble_eq_true rfl⟩) (preRV hK (va_recv hK hP (ci := 12) (q0 := 0) rfl rfl) (va_cons (hP 0 _ rfl) va_nil)) rfl rfl hl.1 rfl (lv_room (Nat.le_of_ble_eq_true rfl)) dX4_add_15 ⟨(by first | exact Nat.le_of_ble_eq_true rfl | omega | (dsimp only [Rm]; omega)), (by first | exact Nat.le_of_ble_eq_true rfl | omega | (dsimp only [Rm]; omega))⟩) ?_
  refine lv_iconst (v := 1) hx hb dX4_add_20 rfl ?_
  refine lv_isub hx hb dX4_add_21 ?_
  refine w_topi (y := nI c0) (nI_pred c0) ?_
  exact j_iret hAe C (x, n2) rfl hB (hP.sub [2, 0, 1] rfl) (va_D_of (D_sub (ws' := [(b, .inr (4, [.ref li, .int cap])), (li, .inr (12, [.int (nI (mm + 1)), .ref x, .int (nI (c0 + 1))])), (x, .inl (k 3, n2, .inr (.inr (.inr (.inr (rfs (c0 + 1) (adp ad c0 v)))))))]) (va_D_of (ws' := [(li, .inr (12, [.int (nI (mm + 1)), .ref x, .int (nI (c0 + 1))])), (x, .inl (k 3, n2, .inr (.inr (.inr (.inr (rfs (c0 + 1) (adp ad c0 v))))))), (b, .inr (4, [.ref li, .int cap]))]) hD rfl) [2, 0, 1] rfl rfl) rfl) hS (by first | exact Nat.le_of_ble_eq_true rfl | omega | (dsimp only [Rm]; omega)) (by first | exact Nat.le_of_ble_eq_true rfl | omega | (dsimp only [Rm]; omega)) dX4_add_22
set_option maxHeartbeats 4000000 in
theorem c_bookSet (l : Launch) (D : va_G) (k : Nat → ClassId) (g : Nat → Nat) (b : Nat) (cap : Int32) (li el n c0 mm j v : Nat) (ad : Nat → Nat) (hj : j < c0) (hcn : c0 ≤ n) (hn : n ≤ 40000) : jM l D k yX4_set cX4_set 3 none 3 66 0 0 [.ref b, .int (nI j), .ref v] g [(b, .inr (4, [.ref li, .int cap])), (li, .inr (12, [.int (nI mm), .ref el, .int (nI c0)])), (el, .inl (k 3, n, .inr (.inr (.inr (.inr (rfs c0 ad))))))] (fun HH => obD D v HH) (fun _ : Unit => none) (fun _ _ => True) (fun _ : Unit => [(b, .inr (4, [.ref li, .int cap])), (li, .inr (12, [.int (nI mm), .ref el, .int (nI c0)])), (el, .inl (k 3, n, .inr (.inr (.inr (.inr (rfs c0 (adp ad j v)))))))]) := by
  refine jM_of (by decide) (Nat.le_of_ble_eq_true rfl) ?_
  intro p e s m below meth c ls A hAe C hnm hmn hK hP hD hA hAN hob hX hS hl
  have hN : NW s := hX.nw
  obtain ⟨hx, hb, hr, hml, hown, hts, hlk⟩ := id C
  have hl : lv_has ls 3 [(0, .ref b), (1, .int (nI j)), (2, .ref v)] := hl
  refine lv_aload_n hx hb dX4_set_0 rfl (lv_at hl 0 rfl) ?_
  refine va_get hx hb hts in_X4 hown hK hP 0 rfl rfl 0 (by decide) (hts _ q186) (fun _ h => h) rfl dX4_set_1 ?_
  refine lv_iload_n hx hb dX4_set_4 rfl (lv_at hl 1 rfl) ?_
  refine lv_aload_n hx hb dX4_set_5 rfl (lv_at hl 2 rfl) ?_
  have hP : va_P D clA [(li, .inr (12, [.int (nI mm), .ref el, .int (nI c0)])), (el, .inl (k 3, n, .inr (.inr (.inr (.inr (rfs c0 ad)))))), (b, .inr (4, [.ref li, .int cap]))] s.heap := P_prm [1, 2, 0] 3 rfl (by decide) hP
  have hD : va_D A [(li, .inr (12, [.int (nI mm), .ref el, .int (nI c0)])), (el, .inl (k 3, n, .inr (.inr (.inr (.inr (rfs c0 ad)))))), (b, .inr (4, [.ref li, .int cap]))] := D_prm [1, 2, 0] 3 rfl (by decide) (va_D_of (ws' := [(b, .inr (4, [.ref li, .int cap])), (li, .inr (12, [.int (nI mm), .ref el, .int (nI c0)])), (el, .inl (k 3, n, .inr (.inr (.inr (.inr (rfs c0 ad))))))]) hD rfl)
  refine j_after5 (w1 := [(li, .inr (12, [.int (nI mm), .ref el, .int (nI c0)])), (el, .inl (k 3, n, .inr (.inr (.inr (.inr (rfs c0 ad))))))]) (w2 := [(b, .inr (4, [.ref li, .int cap]))]) (va_runF (As := [.int (nI j), .ref v]) (rest := []) (g := F0 m 6 ls [.ref v, .int (nI j), .ref li]) (hK.1 12 _ rfl).2 C.fix (j_set l D k g li el n c0 mm j v ad hj hcn hn) (va_cwF 2 hts (lw_F q1605 q1608 q1610 q75 q1612) rfl rfl rfl hX.iw.2.2.2.1 (by decide +kernel) ⟨Nat.le_of_ble_eq_true rfl, Nat.le_of_ble_eq_true rfl⟩) (preV mv2_jPre hK (va_recv hK hP (ci := 12) (q0 := 0) rfl rfl) (fun U hU hW => jPre_at (w1 := [(li, .inr (12, [.int (nI mm), .ref el, .int (nI c0)])), (el, .inl (k 3, n, .inr (.inr (.inr (.inr (rfs c0 ad))))))]) (w2 := [(b, .inr (4, [.ref li, .int cap]))]) hP (va_D_of hD rfl) hAN hX hS hob hU hW)) rfl rfl hl.1 rfl (lv_room (Nat.le_of_ble_eq_true rfl)) dX4_set_6 ⟨(by first | exact Nat.le_of_ble_eq_true rfl | omega | (dsimp only [Rm]; omega)), (by first | exact Nat.le_of_ble_eq_true rfl | omega | (dsimp only [Rm]; omega))⟩) hP (va_D_of hD rfl) hS hA (fun xx H locs hB hP hD hS hsz hk => ?_)
  have hP : va_P D clA [(li, .inr (12, [.int (nI mm), .ref el, .int (nI c0)])), (el, .inl (k 3, n, .inr (.inr (.inr (.inr (rfs c0 (adp ad j v))))))), (b, .inr (4, [.ref li, .int cap]))] H := hP
  have hD : va_D A [(li, .inr (12, [.int (nI mm), .ref el, .int (nI c0)])), (el, .inl (k 3, n, .inr (.inr (.inr (.inr (rfs c0 (adp ad j v))))))), (b, .inr (4, [.ref li, .int cap]))] := hD
  refine lv_pop hx hb dX4_set_11 rfl ?_
  exact j_vret hAe C () rfl trivial (hP.sub [2, 0, 1] rfl) (va_D_of (D_sub (ws' := [(b, .inr (4, [.ref li, .int cap])), (li, .inr (12, [.int (nI mm), .ref el, .int (nI c0)])), (el, .inl (k 3, n, .inr (.inr (.inr (.inr (rfs c0 (adp ad j v)))))))]) (va_D_of (ws' := [(li, .inr (12, [.int (nI mm), .ref el, .int (nI c0)])), (el, .inl (k 3, n, .inr (.inr (.inr (.inr (rfs c0 (adp ad j v))))))), (b, .inr (4, [.ref li, .int cap]))]) hD rfl) [2, 0, 1] rfl rfl) rfl) hS (by first | exact Nat.le_of_ble_eq_true rfl | omega | (dsimp only [Rm]; omega)) (by first | exact Nat.le_of_ble_eq_true rfl | omega | (dsimp only [Rm]; omega)) dX4_set_12
set_option maxHeartbeats 4000000 in
theorem c_presInit (l : Launch) (D : va_G) (k : Nat → ClassId) (g : Nat → Nat) (pr : Nat) (cr ma am di st du : Int32) : jM l D k yX12_init cX12_init 7 none 1 20 0 0 [.ref pr, .int cr, .int ma, .int am, .int di, .int st, .int du] g [(pr, .inr (10, [.int 0, .int 0, .int 0, .int 0, .int 0, .int 0]))] (fun HH => True) (fun _ : Unit => none) (fun _ _ => True) (fun _ : Unit => [(pr, .inr (10, [.int cr, .int ma, .int am, .int di, .int st, .int du]))]) := by
  refine jM_of (by decide) (Nat.le_of_ble_eq_true rfl) ?_
  intro p e s m below meth c ls A hAe C hnm hmn hK hP hD hA hAN _ hX hS hl
  have hN : NW s := hX.nw
  obtain ⟨hx, hb, hr, hml, hown, hts, hlk⟩ := id C
  have hl : lv_has ls 7 [(0, .ref pr), (1, .int cr), (2, .int ma), (3, .int am), (4, .int di), (5, .int st), (6, .int du)] := hl
  refine lv_aload_n hx hb dX12_init_0 rfl (lv_at hl 0 rfl) ?_
  refine W.objInit hx hb hown (hts _ q1542) (hts _ q112) (hts _ q113) rfl (by rw [hml]; exact hl.1) rfl dX12_init_1 (Nat.le_of_ble_eq_true rfl) (Nat.le_of_ble_eq_true rfl) ?_
  refine lv_aload_n hx hb dX12_init_4 rfl (lv_at hl 0 rfl) ?_
  refine lv_iload_n hx hb dX12_init_5 rfl (lv_at hl 1 rfl) ?_
  refine va_putF hx hb hts in_X12 tyX12 tyX12_ok nmX12 hown hK hP (va_D_of hD rfl) hS 0 rfl rfl 0 (by decide) (hts _ q1543) (fun _ h => h) rfl hnm rfl rfl rfl rfl (Nat.le_of_ble_eq_true rfl) dX12_init_6 (fun H locs hP _ hS => ?_)
  have hP : va_P D clA [(pr, .inr (10, [.int cr, .int 0, .int 0, .int 0, .int 0, .int 0]))] H := hP
  refine lv_aload_n hx hb dX12_init_9 rfl (lv_at hl 0 rfl) ?_
  refine lv_iload_n hx hb dX12_init_10 rfl (lv_at hl 2 rfl) ?_
  refine va_putF hx hb hts in_X12 tyX12 tyX12_ok nmX12 hown hK hP (va_D_of hD rfl) hS 0 rfl rfl 1 (by decide) (hts _ q1546) (fun _ h => h) rfl hnm rfl rfl rfl rfl (Nat.le_of_ble_eq_true rfl) dX12_init_11 (fun H locs hP _ hS => ?_)
  have hP : va_P D clA [(pr, .inr (10, [.int cr, .int ma, .int 0, .int 0, .int 0, .int 0]))] H := hP
  refine lv_aload_n hx hb dX12_init_14 rfl (lv_at hl 0 rfl) ?_
  refine lv_iload_n hx hb dX12_init_15 rfl (lv_at hl 3 rfl) ?_
  refine va_putF hx hb hts in_X12 tyX12 tyX12_ok nmX12 hown hK hP (va_D_of hD rfl) hS 0 rfl rfl 2 (by decide) (hts _ q1548) (fun _ h => h) rfl hnm rfl rfl rfl rfl (Nat.le_of_ble_eq_true rfl) dX12_init_16 (fun H locs hP _ hS => ?_)
  have hP : va_P D clA [(pr, .inr (10, [.int cr, .int ma, .int am, .int 0, .int 0, .int 0]))] H := hP
  refine lv_aload_n hx hb dX12_init_19 rfl (lv_at hl 0 rfl) ?_
  refine lv_iload hx hb dX12_init_20 (lv_at hl 4 rfl) ?_
  refine va_putF hx hb hts in_X12 tyX12 tyX12_ok nmX12 hown hK hP (va_D_of hD rfl) hS 0 rfl rfl 3 (by decide) (hts _ q1551) (fun _ h => h) rfl hnm rfl rfl rfl rfl (Nat.le_of_ble_eq_true rfl) dX12_init_22 (fun H locs hP _ hS => ?_)
  have hP : va_P D clA [(pr, .inr (10, [.int cr, .int ma, .int am, .int di, .int 0, .int 0]))] H := hP
  refine lv_aload_n hx hb dX12_init_25 rfl (lv_at hl 0 rfl) ?_
  refine lv_iload hx hb dX12_init_26 (lv_at hl 5 rfl) ?_
  refine va_putF hx hb hts in_X12 tyX12 tyX12_ok nmX12 hown hK hP (va_D_of hD rfl) hS 0 rfl rfl 4 (by decide) (hts _ q1554) (fun _ h => h) rfl hnm rfl rfl rfl rfl (Nat.le_of_ble_eq_true rfl) dX12_init_28 (fun H locs hP _ hS => ?_)
  have hP : va_P D clA [(pr, .inr (10, [.int cr, .int ma, .int am, .int di, .int st, .int 0]))] H := hP
  refine lv_aload_n hx hb dX12_init_31 rfl (lv_at hl 0 rfl) ?_
  refine lv_iload hx hb dX12_init_32 (lv_at hl 6 rfl) ?_
  refine va_putF hx hb hts in_X12 tyX12 tyX12_ok nmX12 hown hK hP (va_D_of hD rfl) hS 0 rfl rfl 5 (by decide) (hts _ q1557) (fun _ h => h) rfl hnm rfl rfl rfl rfl (Nat.le_of_ble_eq_true rfl) dX12_init_34 (fun H locs hP _ hS => ?_)
  have hP : va_P D clA [(pr, .inr (10, [.int cr, .int ma, .int am, .int di, .int st, .int du]))] H := hP
  exact j_vret hAe C () rfl trivial hP (va_D_of hD rfl) hS (by first | exact Nat.le_of_ble_eq_true rfl | omega | (dsimp only [Rm]; omega)) (by first | exact Nat.le_of_ble_eq_true rfl | omega | (dsimp only [Rm]; omega)) dX12_init_37
set_option maxHeartbeats 4000000 in
theorem c_presIn (l : Launch) (D : va_G) (k : Nat → ClassId) (g : Nat → Nat) (pr : Nat) (cr ma am di st du : Int32) (a b : Int32) : jM l D k yX12_in cX12_in 3 (some (.object "DocumentaryCreditDesk$Presentation")) 2 46 1 6 [.ref pr, .int a, .int b] g [] (fun HH => FZ D [] [(pr, .inr (10, [.int cr, .int ma, .int am, .int di, .int st, .int du]))] HH) (fun xx : Nat => some (.ref xx)) (fun _ _ => True) (fun xx : Nat => [(xx, .inr (10, [.int cr, .int ma, .int am, .int di, .int a, .int b]))]) := by
  refine jM_of (by decide) (Nat.le_of_ble_eq_true rfl) ?_
  intro p e s m below meth c ls A hAe C hnm hmn hK hP hD hA hAN hF hX hS hl
  have hN : NW s := hX.nw
  obtain ⟨hx, hb, hr, hml, hown, hts, hlk⟩ := id C
  have hl : lv_has ls 3 [(0, .ref pr), (1, .int a), (2, .int b)] := hl
  refine n_new (fs := [.int 0, .int 0, .int 0, .int 0, .int 0, .int 0]) hx hb hts in_X12 tyX12 tyX12_ok hown (hts _ q1598) (hts _ q1538) (hts _ q105) hK hP (va_D_of hD rfl) hS hA (ci := 10) rfl (by decide +kernel) (by first | exact Nat.le_of_ble_eq_true rfl | omega | (dsimp only [Rm]; omega)) (by first | exact Nat.le_of_ble_eq_true rfl | omega | (dsimp only [Rm]; omega)) dX12_in_0 (fun q H _ hP hD hS => ?_)
  refine lv_dup hx hb dX12_in_3 rfl ?_
  refine lv_aload_n hx hb dX12_in_4 rfl (lv_at hl 0 rfl) ?_
  refine va_get hx hb hts in_X12 hown hK (FZ_at hAe hF hS) 0 rfl rfl 0 (by decide) (hts _ q1543) (fun _ h => h) rfl dX12_in_5 ?_
  refine lv_aload_n hx hb dX12_in_8 rfl (lv_at hl 0 rfl) ?_
  refine va_get hx hb hts in_X12 hown hK (FZ_at hAe hF hS) 0 rfl rfl 1 (by decide) (hts _ q1546) (fun _ h => h) rfl dX12_in_9 ?_
  refine lv_aload_n hx hb dX12_in_12 rfl (lv_at hl 0 rfl) ?_
  refine va_get hx hb hts in_X12 hown hK (FZ_at hAe hF hS) 0 rfl rfl 2 (by decide) (hts _ q1548) (fun _ h => h) rfl dX12_in_13 ?_
  refine lv_aload_n hx hb dX12_in_16 rfl (lv_at hl 0 rfl) ?_
  refine va_get hx hb hts in_X12 hown hK (FZ_at hAe hF hS) 0 rfl rfl 3 (by decide) (hts _ q1551) (fun _ h => h) rfl dX12_in_17 ?_
  refine lv_iload_n hx hb dX12_in_20 rfl (lv_at hl 1 rfl) ?_
  refine lv_iload_n hx hb dX12_in_21 rfl (lv_at hl 2 rfl) ?_
  refine j_after (w1 := [(q, .inr (10, [.int 0, .int 0, .int 0, .int 0, .int 0, .int 0]))]) (w2 := []) (va_runI (As := [.int cr, .int ma, .int am, .int di, .int a, .int b]) (rest := [.ref q]) (g := F0 m 22 ls [.int b, .int a, .int di, .int am, .int ma, .int cr, .ref q, .ref q]) C.fix (c_presInit l D k g q cr ma am di a b) (cwC 6 hts q1599 q1540 q105 q1541 rfl rfl rfl (by decide +kernel) ⟨Nat.le_of_ble_eq_true rfl, Nat.le_of_ble_eq_true rfl⟩) (preS mv2_jPre hK (fun U hU hW => jPre_at (w1 := [(q, .inr (10, [.int 0, .int 0, .int 0, .int 0, .int 0, .int 0]))]) (w2 := []) hP (va_D_of hD rfl) hAN hX hS trivial hU hW)) rfl rfl hl.1 rfl (lv_room (Nat.le_of_ble_eq_true rfl)) dX12_in_22 ⟨(by first | exact Nat.le_of_ble_eq_true rfl | omega | (dsimp only [Rm]; omega)), (by first | exact Nat.le_of_ble_eq_true rfl | omega | (dsimp only [Rm]; omega))⟩) hP (va_D_of hD rfl) hS hA (fun xx H locs hB hP hD hS hsz hk => ?_)
  have hP : va_P D clA [(q, .inr (10, [.int cr, .int ma, .int am, .int di, .int a, .int b]))] H := hP
  have hD : va_D A [(q, .inr (10, [.int cr, .int ma, .int am, .int di, .int a, .int b]))] := hD
  exact j_aret hAe C (Or.inl ⟨_, rfl⟩) q rfl trivial hP (va_D_of hD rfl) hS (by first | exact Nat.le_of_ble_eq_true rfl | omega | (dsimp only [Rm]; omega)) (by first | exact Nat.le_of_ble_eq_true rfl | omega | (dsimp only [Rm]; omega)) dX12_in_25
set_option maxHeartbeats 4000000 in
theorem c_credInit (l : Launch) (D : va_G) (k : Nat → ClassId) (g : Nat → Nat) (cr na : Nat) (nf : Nat → Int32) (pa ne ip it : Int32) (hip : ip = 0 ∨ ip = 1) (hit : it = 0 ∨ it = 1) : jM l D k yX10_init cX10_init 6 none 1 20 0 0 [.ref cr, .int pa, .ref na, .int ne, .int ip, .int it] g [(cr, .inr (8, [.int 0, .int 0, .int 0, .int 0, .int 0, .int 0, .int 0, .int 0, .int 0, .int 0, .int 0]))] (fun HH => FZ D [(cr, .inr (8, [.int 0, .int 0, .int 0, .int 0, .int 0, .int 0, .int 0, .int 0, .int 0, .int 0, .int 0]))] [(na, .inl (k 0, 7, .inl nf))] HH) (fun _ : Unit => none) (fun _ _ => True) (fun _ : Unit => [(cr, .inr (8, [.int pa, .int (nf 0), .int (nf 1), .int (nf 2), .int (nf 3), .int (nf 4), .int (nf 5), .int (nf 6), .int ne, .int ip, .int it]))]) := by
  refine jM_of (by decide) (Nat.le_of_ble_eq_true rfl) ?_
  intro p e s m below meth c ls A hAe C hnm hmn hK hP hD hA hAN hF hX hS hl
  have hN : NW s := hX.nw
  obtain ⟨hx, hb, hr, hml, hown, hts, hlk⟩ := id C
  have hl : lv_has ls 6 [(0, .ref cr), (1, .int pa), (2, .ref na), (3, .int ne), (4, .int ip), (5, .int it)] := hl
  refine lv_aload_n hx hb dX10_init_0 rfl (lv_at hl 0 rfl) ?_
  refine W.objInit hx hb hown (hts _ q961) (hts _ q112) (hts _ q113) rfl (by rw [hml]; exact hl.1) rfl dX10_init_1 (Nat.le_of_ble_eq_true rfl) (Nat.le_of_ble_eq_true rfl) ?_
  refine lv_aload_n hx hb dX10_init_4 rfl (lv_at hl 0 rfl) ?_
  refine lv_iload_n hx hb dX10_init_5 rfl (lv_at hl 1 rfl) ?_
  refine va_putF hx hb hts in_X10 tyX10 tyX10_ok nmX10 hown hK hP (va_D_of hD rfl) hS 0 rfl rfl 0 (by decide) (hts _ q962) (fun _ h => h) rfl hnm rfl rfl rfl rfl (Nat.le_of_ble_eq_true rfl) dX10_init_6 (fun H locs hP _ hS => ?_)
  have hP : va_P D clA [(cr, .inr (8, [.int pa, .int 0, .int 0, .int 0, .int 0, .int 0, .int 0, .int 0, .int 0, .int 0, .int 0]))] H := hP
  refine lv_aload_n hx hb dX10_init_9 rfl (lv_at hl 0 rfl) ?_
  refine lv_aload_n hx hb dX10_init_10 rfl (lv_at hl 2 rfl) ?_
  refine lv_iconst (v := 0) hx hb dX10_init_11 rfl ?_
  refine w_iald hx hb hK (FZ_at hAe hF hS) 0 rfl 0 rfl (Nat.le_of_ble_eq_true rfl) (Nat.le_of_ble_eq_true rfl) dX10_init_12 ?_
  refine va_putF hx hb hts in_X10 tyX10 tyX10_ok nmX10 hown hK hP (va_D_of hD rfl) hS 0 rfl rfl 1 (by decide) (hts _ q965) (fun _ h => h) rfl hnm rfl rfl rfl rfl (Nat.le_of_ble_eq_true rfl) dX10_init_13 (fun H locs hP _ hS => ?_)
  have hP : va_P D clA [(cr, .inr (8, [.int pa, .int (nf 0), .int 0, .int 0, .int 0, .int 0, .int 0, .int 0, .int 0, .int 0, .int 0]))] H := hP
  refine lv_aload_n hx hb dX10_init_16 rfl (lv_at hl 0 rfl) ?_
  refine lv_aload_n hx hb dX10_init_17 rfl (lv_at hl 2 rfl) ?_
  refine lv_iconst (v := 1) hx hb dX10_init_18 rfl ?_
  refine w_iald hx hb hK (FZ_at hAe hF hS) 0 rfl 1 rfl (Nat.le_of_ble_eq_true rfl) (Nat.le_of_ble_eq_true rfl) dX10_init_19 ?_
  refine va_putF hx hb hts in_X10 tyX10 tyX10_ok nmX10 hown hK hP (va_D_of hD rfl) hS 0 rfl rfl 2 (by decide) (hts _ q967) (fun _ h => h) rfl hnm rfl rfl rfl rfl (Nat.le_of_ble_eq_true rfl) dX10_init_20 (fun H locs hP _ hS => ?_)
  have hP : va_P D clA [(cr, .inr (8, [.int pa, .int (nf 0), .int (nf 1), .int 0, .int 0, .int 0, .int 0, .int 0, .int 0, .int 0, .int 0]))] H := hP
  refine lv_aload_n hx hb dX10_init_23 rfl (lv_at hl 0 rfl) ?_
  refine lv_aload_n hx hb dX10_init_24 rfl (lv_at hl 2 rfl) ?_
  refine lv_iconst (v := 2) hx hb dX10_init_25 rfl ?_
  refine w_iald hx hb hK (FZ_at hAe hF hS) 0 rfl 2 rfl (Nat.le_of_ble_eq_true rfl) (Nat.le_of_ble_eq_true rfl) dX10_init_26 ?_
  refine va_putF hx hb hts in_X10 tyX10 tyX10_ok nmX10 hown hK hP (va_D_of hD rfl) hS 0 rfl rfl 3 (by decide) (hts _ q968) (fun _ h => h) rfl hnm rfl rfl rfl rfl (Nat.le_of_ble_eq_true rfl) dX10_init_27 (fun H locs hP _ hS => ?_)
  have hP : va_P D clA [(cr, .inr (8, [.int pa, .int (nf 0), .int (nf 1), .int (nf 2), .int 0, .int 0, .int 0, .int 0, .int 0, .int 0, .int 0]))] H := hP
  refine lv_aload_n hx hb dX10_init_30 rfl (lv_at hl 0 rfl) ?_
  refine lv_aload_n hx hb dX10_init_31 rfl (lv_at hl 2 rfl) ?_
  refine lv_iconst (v := 3) hx hb dX10_init_32 rfl ?_
  refine w_iald hx hb hK (FZ_at hAe hF hS) 0 rfl 3 rfl (Nat.le_of_ble_eq_true rfl) (Nat.le_of_ble_eq_true rfl) dX10_init_33 ?_
  refine va_putF hx hb hts in_X10 tyX10 tyX10_ok nmX10 hown hK hP (va_D_of hD rfl) hS 0 rfl rfl 4 (by decide) (hts _ q969) (fun _ h => h) rfl hnm rfl rfl rfl rfl (Nat.le_of_ble_eq_true rfl) dX10_init_34 (fun H locs hP _ hS => ?_)
  have hP : va_P D clA [(cr, .inr (8, [.int pa, .int (nf 0), .int (nf 1), .int (nf 2), .int (nf 3), .int 0, .int 0, .int 0, .int 0, .int 0, .int 0]))] H := hP
  refine lv_aload_n hx hb dX10_init_37 rfl (lv_at hl 0 rfl) ?_
  refine lv_aload_n hx hb dX10_init_38 rfl (lv_at hl 2 rfl) ?_
  refine lv_iconst (v := 4) hx hb dX10_init_39 rfl ?_
  refine w_iald hx hb hK (FZ_at hAe hF hS) 0 rfl 4 rfl (Nat.le_of_ble_eq_true rfl) (Nat.le_of_ble_eq_true rfl) dX10_init_40 ?_
  refine va_putF hx hb hts in_X10 tyX10 tyX10_ok nmX10 hown hK hP (va_D_of hD rfl) hS 0 rfl rfl 5 (by decide) (hts _ q972) (fun _ h => h) rfl hnm rfl rfl rfl rfl (Nat.le_of_ble_eq_true rfl) dX10_init_41 (fun H locs hP _ hS => ?_)
  have hP : va_P D clA [(cr, .inr (8, [.int pa, .int (nf 0), .int (nf 1), .int (nf 2), .int (nf 3), .int (nf 4), .int 0, .int 0, .int 0, .int 0, .int 0]))] H := hP
  refine lv_aload_n hx hb dX10_init_44 rfl (lv_at hl 0 rfl) ?_
  refine lv_aload_n hx hb dX10_init_45 rfl (lv_at hl 2 rfl) ?_
  refine lv_iconst (v := 5) hx hb dX10_init_46 rfl ?_
  refine w_iald hx hb hK (FZ_at hAe hF hS) 0 rfl 5 rfl (Nat.le_of_ble_eq_true rfl) (Nat.le_of_ble_eq_true rfl) dX10_init_47 ?_
  refine va_putF hx hb hts in_X10 tyX10 tyX10_ok nmX10 hown hK hP (va_D_of hD rfl) hS 0 rfl rfl 6 (by decide) (hts _ q974) (fun _ h => h) rfl hnm rfl rfl rfl rfl (Nat.le_of_ble_eq_true rfl) dX10_init_48 (fun H locs hP _ hS => ?_)
  have hP : va_P D clA [(cr, .inr (8, [.int pa, .int (nf 0), .int (nf 1), .int (nf 2), .int (nf 3), .int (nf 4), .int (nf 5), .int 0, .int 0, .int 0, .int 0]))] H := hP
  refine lv_aload_n hx hb dX10_init_51 rfl (lv_at hl 0 rfl) ?_
  refine lv_aload_n hx hb dX10_init_52 rfl (lv_at hl 2 rfl) ?_
  refine lv_bipush (v := 6) hx hb dX10_init_53 rfl ?_
  refine w_iald hx hb hK (FZ_at hAe hF hS) 0 rfl 6 rfl (Nat.le_of_ble_eq_true rfl) (Nat.le_of_ble_eq_true rfl) dX10_init_55 ?_
  refine va_putF hx hb hts in_X10 tyX10 tyX10_ok nmX10 hown hK hP (va_D_of hD rfl) hS 0 rfl rfl 7 (by decide) (hts _ q976) (fun _ h => h) rfl hnm rfl rfl rfl rfl (Nat.le_of_ble_eq_true rfl) dX10_init_56 (fun H locs hP _ hS => ?_)
  have hP : va_P D clA [(cr, .inr (8, [.int pa, .int (nf 0), .int (nf 1), .int (nf 2), .int (nf 3), .int (nf 4), .int (nf 5), .int (nf 6), .int 0, .int 0, .int 0]))] H := hP
  refine lv_aload_n hx hb dX10_init_59 rfl (lv_at hl 0 rfl) ?_
  refine lv_iload_n hx hb dX10_init_60 rfl (lv_at hl 3 rfl) ?_
  refine va_putF hx hb hts in_X10 tyX10 tyX10_ok nmX10 hown hK hP (va_D_of hD rfl) hS 0 rfl rfl 8 (by decide) (hts _ q978) (fun _ h => h) rfl hnm rfl rfl rfl rfl (Nat.le_of_ble_eq_true rfl) dX10_init_61 (fun H locs hP _ hS => ?_)
  have hP : va_P D clA [(cr, .inr (8, [.int pa, .int (nf 0), .int (nf 1), .int (nf 2), .int (nf 3), .int (nf 4), .int (nf 5), .int (nf 6), .int ne, .int 0, .int 0]))] H := hP
  refine lv_aload_n hx hb dX10_init_64 rfl (lv_at hl 0 rfl) ?_
  refine lv_iload hx hb dX10_init_65 (lv_at hl 4 rfl) ?_
  refine va_putF hx hb hts in_X10 tyX10 tyX10_ok nmX10 hown hK hP (va_D_of hD rfl) hS 0 rfl rfl 9 (by decide) (hts _ q980) (fun _ h => h) rfl hnm rfl rfl (bo_n hip) (bo_f hip) (Nat.le_of_ble_eq_true rfl) dX10_init_67 (fun H locs hP _ hS => ?_)
  have hP : va_P D clA [(cr, .inr (8, [.int pa, .int (nf 0), .int (nf 1), .int (nf 2), .int (nf 3), .int (nf 4), .int (nf 5), .int (nf 6), .int ne, .int ip, .int 0]))] H := hP
  refine lv_aload_n hx hb dX10_init_70 rfl (lv_at hl 0 rfl) ?_
  refine lv_iload hx hb dX10_init_71 (lv_at hl 5 rfl) ?_
  refine va_putF hx hb hts in_X10 tyX10 tyX10_ok nmX10 hown hK hP (va_D_of hD rfl) hS 0 rfl rfl 10 (by decide) (hts _ q983) (fun _ h => h) rfl hnm rfl rfl (bo_n hit) (bo_f hit) (Nat.le_of_ble_eq_true rfl) dX10_init_73 (fun H locs hP _ hS => ?_)
  have hP : va_P D clA [(cr, .inr (8, [.int pa, .int (nf 0), .int (nf 1), .int (nf 2), .int (nf 3), .int (nf 4), .int (nf 5), .int (nf 6), .int ne, .int ip, .int it]))] H := hP
  exact j_vret hAe C () rfl trivial hP (va_D_of hD rfl) hS (by first | exact Nat.le_of_ble_eq_true rfl | omega | (dsimp only [Rm]; omega)) (by first | exact Nat.le_of_ble_eq_true rfl | omega | (dsimp only [Rm]; omega)) dX10_init_76
set_option maxHeartbeats 4000000 in
theorem c_part (l : Launch) (D : va_G) (k : Nat → ClassId) (g : Nat → Nat) (cr : Nat) (pa am up lo xp la pe te ne ip it : Int32) (hip : ip = 0 ∨ ip = 1) (a b c0 : Int32) : jM l D k yX10_part cX10_part 4 (some (.object "DocumentaryCreditDesk$Credit")) 2 45 2 18 [.ref cr, .int a, .int b, .int c0] g [] (fun HH => FZ D [] [(cr, .inr (8, [.int pa, .int am, .int up, .int lo, .int xp, .int la, .int pe, .int te, .int ne, .int ip, .int it]))] HH) (fun xx : Nat => some (.ref xx)) (fun _ _ => True) (fun xx : Nat => [(xx, .inr (8, [.int a, .int b, .int 0, .int 0, .int c0, .int (mn la c0), .int pe, .int te, .int ne, .int ip, .int 0]))]) := by
  refine jM_of (by decide) (Nat.le_of_ble_eq_true rfl) ?_
  intro p e s m below meth c ls A hAe C hnm hmn hK hP hD hA hAN hF hX hS hl
  have hN : NW s := hX.nw
  obtain ⟨hx, hb, hr, hml, hown, hts, hlk⟩ := id C
  have hl : lv_has ls 4 [(0, .ref cr), (1, .int a), (2, .int b), (3, .int c0)] := hl
  refine n_new (fs := [.int 0, .int 0, .int 0, .int 0, .int 0, .int 0, .int 0, .int 0, .int 0, .int 0, .int 0]) hx hb hts in_X10 tyX10 tyX10_ok hown (hts _ q1643) (hts _ q957) (hts _ q97) hK hP (va_D_of hD rfl) hS hA (ci := 8) rfl (by decide +kernel) (by first | exact Nat.le_of_ble_eq_true rfl | omega | (dsimp only [Rm]; omega)) (by first | exact Nat.le_of_ble_eq_true rfl | omega | (dsimp only [Rm]; omega)) dX10_part_0 (fun q H _ hP hD hS => ?_)
  refine lv_dup hx hb dX10_part_3 rfl ?_
  refine lv_iload_n hx hb dX10_part_4 rfl (lv_at hl 1 rfl) ?_
  refine lv_bipush (v := 7) hx hb dX10_part_5 rfl ?_
  refine n_newa (atype := .int) (a0 := (7, .inl (fun _ => 0))) hx hb (hts _ q152) hK hP (va_D_of hD rfl) hS hA 0 rfl (fun _ => rfl) (by decide) rfl (Nat.le_of_ble_eq_true rfl) (by first | exact Nat.le_of_ble_eq_true rfl | omega | (dsimp only [Rm]; omega)) (by first | exact Nat.le_of_ble_eq_true rfl | omega | (dsimp only [Rm]; omega)) dX10_part_7 (fun na H _ hP hD hS => ?_)
  refine lv_dup hx hb dX10_part_9 rfl ?_
  refine lv_iconst (v := 0) hx hb dX10_part_10 rfl ?_
  refine lv_iload_n hx hb dX10_part_11 rfl (lv_at hl 2 rfl) ?_
  refine w_iast hx hb hK hP (va_D_of hD rfl) hS 0 rfl 0 rfl (Nat.le_of_ble_eq_true rfl) (Nat.le_of_ble_eq_true rfl) dX10_part_12 (fun H locs hP _ hS => ?_)
  have hP : va_P D clA [(na, .inl (k 0, 7, .inl (upd (fun _ => 0) 0 b))), (q, .inr (8, [.int 0, .int 0, .int 0, .int 0, .int 0, .int 0, .int 0, .int 0, .int 0, .int 0, .int 0]))] H := hP
  refine lv_dup hx hb dX10_part_13 rfl ?_
  refine lv_iconst (v := 1) hx hb dX10_part_14 rfl ?_
  refine lv_iconst (v := 0) hx hb dX10_part_15 rfl ?_
  refine w_iast hx hb hK hP (va_D_of hD rfl) hS 0 rfl 1 rfl (Nat.le_of_ble_eq_true rfl) (Nat.le_of_ble_eq_true rfl) dX10_part_16 (fun H locs hP _ hS => ?_)
  have hP : va_P D clA [(na, .inl (k 0, 7, .inl (upd (upd (fun _ => 0) 0 b) 1 0))), (q, .inr (8, [.int 0, .int 0, .int 0, .int 0, .int 0, .int 0, .int 0, .int 0, .int 0, .int 0, .int 0]))] H := hP
  refine lv_dup hx hb dX10_part_17 rfl ?_
  refine lv_iconst (v := 2) hx hb dX10_part_18 rfl ?_
  refine lv_iconst (v := 0) hx hb dX10_part_19 rfl ?_
  refine w_iast hx hb hK hP (va_D_of hD rfl) hS 0 rfl 2 rfl (Nat.le_of_ble_eq_true rfl) (Nat.le_of_ble_eq_true rfl) dX10_part_20 (fun H locs hP _ hS => ?_)
  have hP : va_P D clA [(na, .inl (k 0, 7, .inl (upd (upd (upd (fun _ => 0) 0 b) 1 0) 2 0))), (q, .inr (8, [.int 0, .int 0, .int 0, .int 0, .int 0, .int 0, .int 0, .int 0, .int 0, .int 0, .int 0]))] H := hP
  refine lv_dup hx hb dX10_part_21 rfl ?_
  refine lv_iconst (v := 3) hx hb dX10_part_22 rfl ?_
  refine lv_iload_n hx hb dX10_part_23 rfl (lv_at hl 3 rfl) ?_
  refine w_iast hx hb hK hP (va_D_of hD rfl) hS 0 rfl 3 rfl (Nat.le_of_ble_eq_true rfl) (Nat.le_of_ble_eq_true rfl) dX10_part_24 (fun H locs hP _ hS => ?_)
  have hP : va_P D clA [(na, .inl (k 0, 7, .inl (upd (upd (upd (upd (fun _ => 0) 0 b) 1 0) 2 0) 3 c0))), (q, .inr (8, [.int 0, .int 0, .int 0, .int 0, .int 0, .int 0, .int 0, .int 0, .int 0, .int 0, .int 0]))] H := hP
  refine lv_dup hx hb dX10_part_25 rfl ?_
  refine lv_iconst (v := 4) hx hb dX10_part_26 rfl ?_
  refine lv_aload_n hx hb dX10_part_27 rfl (lv_at hl 0 rfl) ?_
  refine va_get hx hb hts in_X10 hown hK (FZ_at hAe hF hS) 0 rfl rfl 5 (by decide) (hts _ q972) (fun _ h => h) rfl dX10_part_28 ?_
  refine lv_iload_n hx hb dX10_part_31 rfl (lv_at hl 3 rfl) ?_
  refine va_mmin hx hb (hml.trans hl.1.symm) hown (hts _ q1644) (hts _ q578) (hts _ q87) (hts _ q579) (Nat.le_of_ble_eq_true rfl) (Nat.le_of_ble_eq_true rfl) (by first | exact Nat.le_of_ble_eq_true rfl | omega | (dsimp only [Rm]; omega)) (by first | exact Nat.le_of_ble_eq_true rfl | omega | (dsimp only [Rm]; omega)) dX10_part_32 ?_
  refine w_topi (y := mn la c0) (mn_if _ _) ?_
  refine w_iast hx hb hK hP (va_D_of hD rfl) hS 0 rfl 4 rfl (Nat.le_of_ble_eq_true rfl) (Nat.le_of_ble_eq_true rfl) dX10_part_35 (fun H locs hP _ hS => ?_)
  have hP : va_P D clA [(na, .inl (k 0, 7, .inl (upd (upd (upd (upd (upd (fun _ => 0) 0 b) 1 0) 2 0) 3 c0) 4 (mn la c0)))), (q, .inr (8, [.int 0, .int 0, .int 0, .int 0, .int 0, .int 0, .int 0, .int 0, .int 0, .int 0, .int 0]))] H := hP
  refine lv_dup hx hb dX10_part_36 rfl ?_
  refine lv_iconst (v := 5) hx hb dX10_part_37 rfl ?_
  refine lv_aload_n hx hb dX10_part_38 rfl (lv_at hl 0 rfl) ?_
  refine va_get hx hb hts in_X10 hown hK (FZ_at hAe hF hS) 0 rfl rfl 6 (by decide) (hts _ q974) (fun _ h => h) rfl dX10_part_39 ?_
  refine w_iast hx hb hK hP (va_D_of hD rfl) hS 0 rfl 5 rfl (Nat.le_of_ble_eq_true rfl) (Nat.le_of_ble_eq_true rfl) dX10_part_42 (fun H locs hP _ hS => ?_)
  have hP : va_P D clA [(na, .inl (k 0, 7, .inl (upd (upd (upd (upd (upd (upd (fun _ => 0) 0 b) 1 0) 2 0) 3 c0) 4 (mn la c0)) 5 pe))), (q, .inr (8, [.int 0, .int 0, .int 0, .int 0, .int 0, .int 0, .int 0, .int 0, .int 0, .int 0, .int 0]))] H := hP
  refine lv_dup hx hb dX10_part_43 rfl ?_
  refine lv_bipush (v := 6) hx hb dX10_part_44 rfl ?_
  refine lv_aload_n hx hb dX10_part_46 rfl (lv_at hl 0 rfl) ?_
  refine va_get hx hb hts in_X10 hown hK (FZ_at hAe hF hS) 0 rfl rfl 7 (by decide) (hts _ q976) (fun _ h => h) rfl dX10_part_47 ?_
  refine w_iast hx hb hK hP (va_D_of hD rfl) hS 0 rfl 6 rfl (Nat.le_of_ble_eq_true rfl) (Nat.le_of_ble_eq_true rfl) dX10_part_50 (fun H locs hP _ hS => ?_)
  have hP : va_P D clA [(na, .inl (k 0, 7, .inl (upd (upd (upd (upd (upd (upd (upd (fun _ => 0) 0 b) 1 0) 2 0) 3 c0) 4 (mn la c0)) 5 pe) 6 te))), (q, .inr (8, [.int 0, .int 0, .int 0, .int 0, .int 0, .int 0, .int 0, .int 0, .int 0, .int 0, .int 0]))] H := hP
  refine lv_aload_n hx hb dX10_part_51 rfl (lv_at hl 0 rfl) ?_
  refine va_get hx hb hts in_X10 hown hK (FZ_at hAe hF hS) 0 rfl rfl 8 (by decide) (hts _ q978) (fun _ h => h) rfl dX10_part_52 ?_
  refine lv_aload_n hx hb dX10_part_55 rfl (lv_at hl 0 rfl) ?_
  refine va_get hx hb hts in_X10 hown hK (FZ_at hAe hF hS) 0 rfl rfl 9 (by decide) (hts _ q980) (fun _ h => h) rfl dX10_part_56 ?_
  refine lv_iconst (v := 0) hx hb dX10_part_59 rfl ?_
  have hP : va_P D clA [(q, .inr (8, [.int 0, .int 0, .int 0, .int 0, .int 0, .int 0, .int 0, .int 0, .int 0, .int 0, .int 0])), (na, .inl (k 0, 7, .inl (upd (upd (upd (upd (upd (upd (upd (fun _ => 0) 0 b) 1 0) 2 0) 3 c0) 4 (mn la c0)) 5 pe) 6 te)))] H := P_prm [1, 0] 2 rfl (by decide) hP
  have hD : va_D A [(q, .inr (8, [.int 0, .int 0, .int 0, .int 0, .int 0, .int 0, .int 0, .int 0, .int 0, .int 0, .int 0])), (na, .inl (k 0, 7, .inl (upd (upd (upd (upd (upd (upd (upd (fun _ => 0) 0 b) 1 0) 2 0) 3 c0) 4 (mn la c0)) 5 pe) 6 te)))] := D_prm [1, 0] 2 rfl (by decide) (va_D_of (ws' := [(na, .inl (k 0, 7, .inl (upd (upd (upd (upd (upd (upd (upd (fun _ => 0) 0 b) 1 0) 2 0) 3 c0) 4 (mn la c0)) 5 pe) 6 te))), (q, .inr (8, [.int 0, .int 0, .int 0, .int 0, .int 0, .int 0, .int 0, .int 0, .int 0, .int 0, .int 0]))]) hD rfl)
  refine j_after (w1 := [(q, .inr (8, [.int 0, .int 0, .int 0, .int 0, .int 0, .int 0, .int 0, .int 0, .int 0, .int 0, .int 0]))]) (w2 := [(na, .inl (k 0, 7, .inl (upd (upd (upd (upd (upd (upd (upd (fun _ => 0) 0 b) 1 0) 2 0) 3 c0) 4 (mn la c0)) 5 pe) 6 te)))]) (va_runI (As := [.int a, .ref na, .int ne, .int ip, .int 0]) (rest := [.ref q]) (g := F0 m 60 ls [.int 0, .int ip, .int ne, .ref na, .int a, .ref q, .ref q]) C.fix (c_credInit l D k g q na (upd (upd (upd (upd (upd (upd (upd (fun _ => 0) 0 b) 1 0) 2 0) 3 c0) 4 (mn la c0)) 5 pe) 6 te) a ne ip 0 hip (Or.inl rfl)) (cwC 5 hts q1645 q959 q97 q960 rfl rfl rfl (by decide +kernel) ⟨Nat.le_of_ble_eq_true rfl, Nat.le_of_ble_eq_true rfl⟩) (preS mv2_jPre hK (fun U hU hW => jPre_at (w1 := [(q, .inr (8, [.int 0, .int 0, .int 0, .int 0, .int 0, .int 0, .int 0, .int 0, .int 0, .int 0, .int 0]))]) (w2 := [(na, .inl (k 0, 7, .inl (upd (upd (upd (upd (upd (upd (upd (fun _ => 0) 0 b) 1 0) 2 0) 3 c0) 4 (mn la c0)) 5 pe) 6 te)))]) hP (va_D_of hD rfl) hAN hX hS (FZ_w2 (w2 := [(na, .inl (k 0, 7, .inl (upd (upd (upd (upd (upd (upd (upd (fun _ => 0) 0 b) 1 0) 2 0) 3 c0) 4 (mn la c0)) 5 pe) 6 te)))]) hP (va_D_of hD rfl) [0] rfl) hU hW)) rfl rfl hl.1 rfl (lv_room (Nat.le_of_ble_eq_true rfl)) dX10_part_60 ⟨(by first | exact Nat.le_of_ble_eq_true rfl | omega | (dsimp only [Rm]; omega)), (by first | exact Nat.le_of_ble_eq_true rfl | omega | (dsimp only [Rm]; omega))⟩) hP (va_D_of hD rfl) hS hA (fun xx H locs hB hP hD hS hsz hk => ?_)
  have hP : va_P D clA [(q, .inr (8, [.int a, .int ((upd (upd (upd (upd (upd (upd (upd (fun _ => 0) 0 b) 1 0) 2 0) 3 c0) 4 (mn la c0)) 5 pe) 6 te) 0), .int ((upd (upd (upd (upd (upd (upd (upd (fun _ => 0) 0 b) 1 0) 2 0) 3 c0) 4 (mn la c0)) 5 pe) 6 te) 1), .int ((upd (upd (upd (upd (upd (upd (upd (fun _ => 0) 0 b) 1 0) 2 0) 3 c0) 4 (mn la c0)) 5 pe) 6 te) 2), .int ((upd (upd (upd (upd (upd (upd (upd (fun _ => 0) 0 b) 1 0) 2 0) 3 c0) 4 (mn la c0)) 5 pe) 6 te) 3), .int ((upd (upd (upd (upd (upd (upd (upd (fun _ => 0) 0 b) 1 0) 2 0) 3 c0) 4 (mn la c0)) 5 pe) 6 te) 4), .int ((upd (upd (upd (upd (upd (upd (upd (fun _ => 0) 0 b) 1 0) 2 0) 3 c0) 4 (mn la c0)) 5 pe) 6 te) 5), .int ((upd (upd (upd (upd (upd (upd (upd (fun _ => 0) 0 b) 1 0) 2 0) 3 c0) 4 (mn la c0)) 5 pe) 6 te) 6), .int ne, .int ip, .int 0])), (na, .inl (k 0, 7, .inl (upd (upd (upd (upd (upd (upd (upd (fun _ => 0) 0 b) 1 0) 2 0) 3 c0) 4 (mn la c0)) 5 pe) 6 te)))] H := hP
  have hD : va_D A [(q, .inr (8, [.int a, .int ((upd (upd (upd (upd (upd (upd (upd (fun _ => 0) 0 b) 1 0) 2 0) 3 c0) 4 (mn la c0)) 5 pe) 6 te) 0), .int ((upd (upd (upd (upd (upd (upd (upd (fun _ => 0) 0 b) 1 0) 2 0) 3 c0) 4 (mn la c0)) 5 pe) 6 te) 1), .int ((upd (upd (upd (upd (upd (upd (upd (fun _ => 0) 0 b) 1 0) 2 0) 3 c0) 4 (mn la c0)) 5 pe) 6 te) 2), .int ((upd (upd (upd (upd (upd (upd (upd (fun _ => 0) 0 b) 1 0) 2 0) 3 c0) 4 (mn la c0)) 5 pe) 6 te) 3), .int ((upd (upd (upd (upd (upd (upd (upd (fun _ => 0) 0 b) 1 0) 2 0) 3 c0) 4 (mn la c0)) 5 pe) 6 te) 4), .int ((upd (upd (upd (upd (upd (upd (upd (fun _ => 0) 0 b) 1 0) 2 0) 3 c0) 4 (mn la c0)) 5 pe) 6 te) 5), .int ((upd (upd (upd (upd (upd (upd (upd (fun _ => 0) 0 b) 1 0) 2 0) 3 c0) 4 (mn la c0)) 5 pe) 6 te) 6), .int ne, .int ip, .int 0])), (na, .inl (k 0, 7, .inl (upd (upd (upd (upd (upd (upd (upd (fun _ => 0) 0 b) 1 0) 2 0) 3 c0) 4 (mn la c0)) 5 pe) 6 te)))] := hD
  exact j_aret hAe C (Or.inl ⟨_, rfl⟩) q rfl trivial (hP.sub [0] rfl) (va_D_of (D_sub (ws' := [(q, .inr (8, [.int a, .int ((upd (upd (upd (upd (upd (upd (upd (fun _ => 0) 0 b) 1 0) 2 0) 3 c0) 4 (mn la c0)) 5 pe) 6 te) 0), .int ((upd (upd (upd (upd (upd (upd (upd (fun _ => 0) 0 b) 1 0) 2 0) 3 c0) 4 (mn la c0)) 5 pe) 6 te) 1), .int ((upd (upd (upd (upd (upd (upd (upd (fun _ => 0) 0 b) 1 0) 2 0) 3 c0) 4 (mn la c0)) 5 pe) 6 te) 2), .int ((upd (upd (upd (upd (upd (upd (upd (fun _ => 0) 0 b) 1 0) 2 0) 3 c0) 4 (mn la c0)) 5 pe) 6 te) 3), .int ((upd (upd (upd (upd (upd (upd (upd (fun _ => 0) 0 b) 1 0) 2 0) 3 c0) 4 (mn la c0)) 5 pe) 6 te) 4), .int ((upd (upd (upd (upd (upd (upd (upd (fun _ => 0) 0 b) 1 0) 2 0) 3 c0) 4 (mn la c0)) 5 pe) 6 te) 5), .int ((upd (upd (upd (upd (upd (upd (upd (fun _ => 0) 0 b) 1 0) 2 0) 3 c0) 4 (mn la c0)) 5 pe) 6 te) 6), .int ne, .int ip, .int 0]))]) (va_D_of (ws' := [(q, .inr (8, [.int a, .int ((upd (upd (upd (upd (upd (upd (upd (fun _ => 0) 0 b) 1 0) 2 0) 3 c0) 4 (mn la c0)) 5 pe) 6 te) 0), .int ((upd (upd (upd (upd (upd (upd (upd (fun _ => 0) 0 b) 1 0) 2 0) 3 c0) 4 (mn la c0)) 5 pe) 6 te) 1), .int ((upd (upd (upd (upd (upd (upd (upd (fun _ => 0) 0 b) 1 0) 2 0) 3 c0) 4 (mn la c0)) 5 pe) 6 te) 2), .int ((upd (upd (upd (upd (upd (upd (upd (fun _ => 0) 0 b) 1 0) 2 0) 3 c0) 4 (mn la c0)) 5 pe) 6 te) 3), .int ((upd (upd (upd (upd (upd (upd (upd (fun _ => 0) 0 b) 1 0) 2 0) 3 c0) 4 (mn la c0)) 5 pe) 6 te) 4), .int ((upd (upd (upd (upd (upd (upd (upd (fun _ => 0) 0 b) 1 0) 2 0) 3 c0) 4 (mn la c0)) 5 pe) 6 te) 5), .int ((upd (upd (upd (upd (upd (upd (upd (fun _ => 0) 0 b) 1 0) 2 0) 3 c0) 4 (mn la c0)) 5 pe) 6 te) 6), .int ne, .int ip, .int 0])), (na, .inl (k 0, 7, .inl (upd (upd (upd (upd (upd (upd (upd (fun _ => 0) 0 b) 1 0) 2 0) 3 c0) 4 (mn la c0)) 5 pe) 6 te)))]) hD rfl) [0] rfl rfl) rfl) hS (by first | exact Nat.le_of_ble_eq_true rfl | omega | (dsimp only [Rm]; omega)) (by first | exact Nat.le_of_ble_eq_true rfl | omega | (dsimp only [Rm]; omega)) dX10_part_63
