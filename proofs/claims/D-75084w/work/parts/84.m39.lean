/-! the component: documents, holidays (printed by gen/m39.py) -/
set_option maxRecDepth 100000
theorem and1 (x : Int32) : x &&& 1 = 0 ∨ x &&& 1 = 1 := by
  have h2 : (x &&& 1).toBitVec.toNat < 2 := by
    show (x.toBitVec &&& 1#32).toNat < 2
    rw [BitVec.toNat_and]
    exact Nat.lt_of_le_of_lt Nat.and_le_right (by decide)
  rcases Nat.lt_or_ge (x &&& 1).toBitVec.toNat 1 with q | q
  · left
    apply Int32.toBitVec_inj.mp
    apply BitVec.eq_of_toNat_eq
    show (x &&& 1).toBitVec.toNat = 0
    omega
  · right
    apply Int32.toBitVec_inj.mp
    apply BitVec.eq_of_toNat_eq
    show (x &&& 1).toBitVec.toNat = 1
    omega
section NEED
variable {fb : Nat → Int32} {L n : Nat} {b : Int32} {τ : PS}
theorem need_e1 (h : ¬ (nmS fb L 0 7 τ).2.2.1 = 0) : (needF fb L (n + 1) τ b).1 = (nmS fb L 0 7 τ).2 := by
  have e : n2s fb L b τ = n1s fb L τ := ifp_f (fun q => h q.1)
  rw [needF, e, ifp_f h]
theorem need_e2 (h : (nmS fb L 0 7 τ).2.2.1 = 0) (hb : ¬ (b >>> ((nmS fb L 0 7 τ).1 &&& 31)) &&& 1 = 0) : (needF fb L (n + 1) τ b).1 = ((nmS fb L 0 7 τ).2.1, -3, nI (nmS fb L 0 7 τ).2.2.2.2, (nmS fb L 0 7 τ).2.2.2.2) := by
  have hb := (and1 _).resolve_left hb
  have e : n2s fb L b τ = ((nmS fb L 0 7 τ).2.1, -3, nI (nmS fb L 0 7 τ).2.2.2.2, (nmS fb L 0 7 τ).2.2.2.2) := by
    show ifp _ _ _ = _
    rw [ifp_t ⟨h, hb⟩, rpS, ifp_t h]
  rw [needF, e, ifp_f (show ¬ (-3 : Int32) = 0 by decide)]
theorem need_n2 (hb : (b >>> ((nmS fb L 0 7 τ).1 &&& 31)) &&& 1 = 0) : n2s fb L b τ = (nmS fb L 0 7 τ).2 := ifp_f (fun q => by rw [hb] at q; exact absurd q.2 (by decide))
theorem need_go (h : (nmS fb L 0 7 τ).2.2.1 = 0) (hb : (b >>> ((nmS fb L 0 7 τ).1 &&& 31)) &&& 1 = 0) (hd : dig (byt fb L (sk fb L (nmS fb L 0 7 τ).2.1))) : needF fb L (n + 1) τ b = needF fb L n (sk fb L (nmS fb L 0 7 τ).2.1, (nmS fb L 0 7 τ).2.2) (b ||| ((1 : Int32) <<< ((nmS fb L 0 7 τ).1 &&& 31))) := by
  rw [needF, need_n2 hb, ifp_t h, ifp_t hd]
theorem need_st (h : (nmS fb L 0 7 τ).2.2.1 = 0) (hb : (b >>> ((nmS fb L 0 7 τ).1 &&& 31)) &&& 1 = 0) (hd : ¬ dig (byt fb L (sk fb L (nmS fb L 0 7 τ).2.1))) : needF fb L (n + 1) τ b = ((sk fb L (nmS fb L 0 7 τ).2.1, (nmS fb L 0 7 τ).2.2), b ||| ((1 : Int32) <<< ((nmS fb L 0 7 τ).1 &&& 31))) := by
  rw [needF, need_n2 hb, ifp_t h, ifp_f hd]
end NEED
set_option maxHeartbeats 4000000 in
theorem c_documents (l : Launch) (D : va_G) (k : Nat → ClassId) (g : Nat → Nat) (pa o bb dq cu ca ds L : Nat) (bl eo dp hfe : Int32) (fb : Nat → Int32) (hL : L ≤ 900) (hfb : okF fb) (σ : PS) (hσ : σ.2.1 = 0) (hok : okS L σ) (htr : l.stackTraces = false) : uM l D k yX6_documents cX6_documents 3 (some .int) 7 158 (3 * L + 6) (23 * L + 46) [.ref pa] g [(pa, .inr (5, [.int (nI L), .ref ca, .ref ds, .int (nI σ.1), .int (nI σ.2.2.2), .int dp, .int hfe, .ref o]))] (fun HH => FZ D [(pa, .inr (5, [.int (nI L), .ref ca, .ref ds, .int (nI σ.1), .int (nI σ.2.2.2), .int dp, .int hfe, .ref o]))] [(o, .inr (1, [.ref bb, .ref dq, .ref cu, .int bl, .int eo])), (bb, .inl (k 1, 900, .inl (cB fb)))] HH) (fun _ : Unit => some (.int ((needF fb L (L + 2) σ 0).2))) (fun (xx : Unit) HH => (needF fb L (L + 2) σ 0).1.2.1 = 0) (fun _ : Unit => [(pa, .inr (5, [.int (nI L), .ref ca, .ref ds, .int (nI ((needF fb L (L + 2) σ 0).1).1), .int (nI ((needF fb L (L + 2) σ 0).1).2.2.2), .int dp, .int hfe, .ref o]))]) (rdT D (needF fb L (L + 2) σ 0).1) := by
  refine uM_of (by decide) (Nat.le_of_ble_eq_true rfl) ?_
  intro p e s m below meth c ls A hAe C hnt hnm hmn hK hP hD hA hAN hF hX hS hl
  have hN : NW s := hX.nw
  obtain ⟨hx, hb, hr, hml, hown, hts, hlk⟩ := id C
  have hl : lv_has ls 3 [(0, .ref pa)] := hl
  refine lv_iconst (v := 0) hx hb dX6_documents_0 rfl ?_
  refine lv_istore_n (lv' := [(1, .int 0), (0, .ref pa)]) hx hb dX6_documents_1 rfl hl (by decide) rfl (fun ls hl => ?_)
  have loop_2 : ∀ (n : Nat) (τ : PS) (b : Int32), (τ.2.1 = 0) → (okS L τ) → (needF fb L n τ b = needF fb L (L + 2) σ 0) → (L + 2 ≤ τ.1 + n) → (σ.1 ≤ τ.1) → ∀ (H : Heap) (locs : List Loc), va_P D clA [(pa, .inr (5, [.int (nI L), .ref ca, .ref ds, .int (nI τ.1), .int (nI τ.2.2.2), .int dp, .int hfe, .ref o]))] H → va_D A [(pa, .inr (5, [.int (nI L), .ref ca, .ref ds, .int (nI τ.1), .int (nI τ.2.2.2), .int dp, .int hfe, .ref o]))] → va_S A s.heap H locs → ∀ (ls : Array Slot), lv_has ls 3 [(0, .ref pa), (1, .int b)] → W p l e (Rm 7 158 (3 * L + 6) (23 * L + 46)) s m ([.ref pa] : List Value).toArray below meth c H locs (3 * (τ.1 - σ.1)) (23 * (τ.1 - σ.1)) (vy_MQ below (jQ D (fun _ : Unit => some (.int ((needF fb L (L + 2) σ 0).2))) (fun (xx : Unit) HH => (needF fb L (L + 2) σ 0).1.2.1 = 0) (fun _ : Unit => [(pa, .inr (5, [.int (nI L), .ref ca, .ref ds, .int (nI ((needF fb L (L + 2) σ 0).1).1), .int (nI ((needF fb L (L + 2) σ 0).1).2.2.2), .int dp, .int hfe, .ref o]))]) (inL [(pa, .inr (5, [.int (nI L), .ref ca, .ref ds, .int (nI σ.1), .int (nI σ.2.2.2), .int dp, .int hfe, .ref o]))])) (uX (rdT D (needF fb L (L + 2) σ 0).1) (inL [(pa, .inr (5, [.int (nI L), .ref ca, .ref ds, .int (nI σ.1), .int (nI σ.2.2.2), .int dp, .int hfe, .ref o]))])) ([.ref pa] : List Value).toArray s (3 * L + 6) (23 * L + 46) (inL [(pa, .inr (5, [.int (nI L), .ref ca, .ref ds, .int (nI σ.1), .int (nI σ.2.2.2), .int dp, .int hfe, .ref o]))])) (F0 m 2 ls []) := by
    intro n
    induction n with
    | zero =>
      intro τ b hτ hokτ hfu hn hge
      exact absurd (hokτ.1 hτ) (by omega)
    | succ n ih_2 =>
      intro τ b hτ hokτ hfu hn hge H locs hP hD hS ls hl
      have hpl := hokτ.1 hτ
      refine lv_aload_n hx hb dX6_documents_2 rfl (lv_at hl 0 rfl) ?_
      refine lv_iconst (v := 0) hx hb dX6_documents_3 rfl ?_
      refine lv_bipush (v := 7) hx hb dX6_documents_4 rfl ?_
      refine u_after (w1 := [(pa, .inr (5, [.int (nI L), .ref ca, .ref ds, .int (nI τ.1), .int (nI τ.2.2.2), .int dp, .int hfe, .ref o]))]) (w2 := []) (vy_runV (As := [.int 0, .int 7]) (rest := []) (g := F0 m 6 ls [.int 7, .int 0, .ref pa]) C.fix (c_number l D k g pa o bb dq cu ca ds L bl eo dp hfe fb hL hfb τ hτ hokτ 0 7 htr) (cwV 2 hts (lw_V q862 q864 qs7 q81 q865) rfl rfl rfl (by decide +kernel) ⟨Nat.le_of_ble_eq_true rfl, Nat.le_of_ble_eq_true rfl⟩) (preV mv2_jPre hK (va_recv hK hP (ci := 5) (q0 := 0) rfl rfl) (fun U hU hW => jPre_at (w1 := [(pa, .inr (5, [.int (nI L), .ref ca, .ref ds, .int (nI τ.1), .int (nI τ.2.2.2), .int dp, .int hfe, .ref o]))]) (w2 := []) hP (va_D_of hD rfl) hAN hX hS (FZ.sub (FZ_call (w1 := [(pa, .inr (5, [.int (nI L), .ref ca, .ref ds, .int (nI τ.1), .int (nI τ.2.2.2), .int dp, .int hfe, .ref o]))]) (w2 := []) hAe hF hS (va_D_of hD rfl)) [0, 1] rfl) hU hW)) rfl rfl hl.1 rfl (lv_room (Nat.le_of_ble_eq_true rfl)) dX6_documents_6 ⟨(by first | exact Nat.le_of_ble_eq_true rfl | omega | (dsimp only [Rm]; omega)), (by first | exact Nat.le_of_ble_eq_true rfl | omega | (dsimp only [Rm]; omega))⟩) hP (va_D_of hD rfl) hS hA (fun E ce q9 H locs hth hS hsz hk hce hcv hcl => u_out hAe hnt hlk ((by rw [← hfu, need_e1 hth.1]; exact hth)) hS hce hcv hcl (by first | exact Nat.le_of_ble_eq_true rfl | omega | (dsimp only [Rm]; omega)) (by first | exact Nat.le_of_ble_eq_true rfl | omega | (dsimp only [Rm]; omega))) (fun xx H locs hB hP hD hS hsz hk => ?_)
      have hP : va_P D clA [(pa, .inr (5, [.int (nI L), .ref ca, .ref ds, .int (nI ((nmS fb L 0 7 τ).2).1), .int (nI ((nmS fb L 0 7 τ).2).2.2.2), .int dp, .int hfe, .ref o]))] H := hP
      have hD : va_D A [(pa, .inr (5, [.int (nI L), .ref ca, .ref ds, .int (nI ((nmS fb L 0 7 τ).2).1), .int (nI ((nmS fb L 0 7 τ).2).2.2.2), .int dp, .int hfe, .ref o]))] := hD
      have h7 : (nmS fb L 0 7 τ).2.2.1 = 0 := hB
      have hok7 := okS_nm (fb := fb) (lo := 0) (hi := 7) hL hokτ
      have hfw := nm_fwd hokτ h7
      have hp7 : (nmS fb L 0 7 τ).2.1 ≤ L := hok7.1 h7
      have hsk7 := sk_in (fb := fb) hp7
      refine lv_istore_n (lv' := [(2, .int ((nmS fb L 0 7 τ).1)), (0, .ref pa), (1, .int b)]) hx hb dX6_documents_9 rfl hl (by decide) rfl (fun ls hl => ?_)
      refine lv_aload_n hx hb dX6_documents_10 rfl (lv_at hl 1 rfl) ?_
      refine lv_iload_n hx hb dX6_documents_11 rfl (lv_at hl 2 rfl) ?_
      refine lv_iload_n hx hb dX6_documents_12 rfl (lv_at hl 0 rfl) ?_
      refine lv_ishr hx hb dX6_documents_13 ?_
      refine lv_iconst (v := 1) hx hb dX6_documents_14 rfl ?_
      refine lv_iand hx hb dX6_documents_15 ?_
      have J_24 : ∀ (zz : Int32), (zz = bI ((b >>> ((nmS fb L 0 7 τ).1 &&& 31)) &&& 1 = 0)) → ∀ (ls : Array Slot), lv_has ls 3 [(2, .int ((nmS fb L 0 7 τ).1)), (0, .ref pa), (1, .int b)] → W p l e (Rm 7 158 (3 * L + 6) (23 * L + 46)) s m ([.ref pa] : List Value).toArray below meth c H locs (3 * (τ.1 - σ.1) + 2) (23 * (τ.1 - σ.1) + 15) (vy_MQ below (jQ D (fun _ : Unit => some (.int ((needF fb L (L + 2) σ 0).2))) (fun (xx : Unit) HH => (needF fb L (L + 2) σ 0).1.2.1 = 0) (fun _ : Unit => [(pa, .inr (5, [.int (nI L), .ref ca, .ref ds, .int (nI ((needF fb L (L + 2) σ 0).1).1), .int (nI ((needF fb L (L + 2) σ 0).1).2.2.2), .int dp, .int hfe, .ref o]))]) (inL [(pa, .inr (5, [.int (nI L), .ref ca, .ref ds, .int (nI σ.1), .int (nI σ.2.2.2), .int dp, .int hfe, .ref o]))])) (uX (rdT D (needF fb L (L + 2) σ 0).1) (inL [(pa, .inr (5, [.int (nI L), .ref ca, .ref ds, .int (nI σ.1), .int (nI σ.2.2.2), .int dp, .int hfe, .ref o]))])) ([.ref pa] : List Value).toArray s (3 * L + 6) (23 * L + 46) (inL [(pa, .inr (5, [.int (nI L), .ref ca, .ref ds, .int (nI σ.1), .int (nI σ.2.2.2), .int dp, .int hfe, .ref o]))])) (F0 m 24 ls [.int zz, .ref pa]) := by
        intro zz h_zz ls hl
        refine lv_bipush (v := (-3)) hx hb dX6_documents_24 rfl ?_
        refine lv_aload_n hx hb dX6_documents_26 rfl (lv_at hl 1 rfl) ?_
        refine va_get hx hb hts in_X6 hown hK hP 0 rfl rfl 4 (by decide) (hts _ q466) (fun _ h => h) rfl dX6_documents_27 ?_
        subst h_zz
        refine u_after (w1 := []) (w2 := [(pa, .inr (5, [.int (nI L), .ref ca, .ref ds, .int (nI ((nmS fb L 0 7 τ).2).1), .int (nI ((nmS fb L 0 7 τ).2).2.2.2), .int dp, .int hfe, .ref o]))]) (vy_runV (As := [.int (bI ((b >>> ((nmS fb L 0 7 τ).1 &&& 31)) &&& 1 = 0)), .int (-3), .int (nI ((nmS fb L 0 7 τ).2).2.2.2)]) (rest := []) (g := F0 m 30 ls [.int (nI ((nmS fb L 0 7 τ).2).2.2.2), .int (-3), .int (bI ((b >>> ((nmS fb L 0 7 τ).1 &&& 31)) &&& 1 = 0)), .ref pa]) C.fix (c_reqLimit l D k g pa ((b >>> ((nmS fb L 0 7 τ).1 &&& 31)) &&& 1 = 0) (-3) (nI (nmS fb L 0 7 τ).2.2.2.2) htr) (cwV 3 hts (lw_V q905 q907 qs10 q81 q908) rfl rfl rfl (by decide +kernel) ⟨Nat.le_of_ble_eq_true rfl, Nat.le_of_ble_eq_true rfl⟩) (preV mv2_jPre hK (va_recv hK hP (ci := 5) (q0 := 0) rfl rfl) (fun U hU hW => jPre_at (w1 := []) (w2 := [(pa, .inr (5, [.int (nI L), .ref ca, .ref ds, .int (nI ((nmS fb L 0 7 τ).2).1), .int (nI ((nmS fb L 0 7 τ).2).2.2.2), .int dp, .int hfe, .ref o]))]) hP (va_D_of hD rfl) hAN hX hS trivial hU hW)) rfl rfl hl.1 rfl (lv_room (Nat.le_of_ble_eq_true rfl)) dX6_documents_30 ⟨(by first | exact Nat.le_of_ble_eq_true rfl | omega | (dsimp only [Rm]; omega)), (by first | exact Nat.le_of_ble_eq_true rfl | omega | (dsimp only [Rm]; omega))⟩) hP (va_D_of hD rfl) hS hA (fun E ce q9 H locs hth hS hsz hk hce hcv hcl => u_out hAe hnt hlk ((by rw [← hfu]; exact rdT_of (need_e2 h7 hth.1) (show ¬ (-3 : Int32) = 0 by decide) hth.2)) hS hce hcv hcl (by first | exact Nat.le_of_ble_eq_true rfl | omega | (dsimp only [Rm]; omega)) (by first | exact Nat.le_of_ble_eq_true rfl | omega | (dsimp only [Rm]; omega))) (fun xx H locs hB hP hD hS hsz hk => ?_)
        have hP : va_P D clA [(pa, .inr (5, [.int (nI L), .ref ca, .ref ds, .int (nI ((nmS fb L 0 7 τ).2).1), .int (nI ((nmS fb L 0 7 τ).2).2.2.2), .int dp, .int hfe, .ref o]))] H := hP
        have hD : va_D A [(pa, .inr (5, [.int (nI L), .ref ca, .ref ds, .int (nI ((nmS fb L 0 7 τ).2).1), .int (nI ((nmS fb L 0 7 τ).2).2.2.2), .int dp, .int hfe, .ref o]))] := hD
        have hb2 : (b >>> ((nmS fb L 0 7 τ).1 &&& 31)) &&& 1 = 0 := hB
        refine lv_iload_n hx hb dX6_documents_33 rfl (lv_at hl 2 rfl) ?_
        refine lv_iconst (v := 1) hx hb dX6_documents_34 rfl ?_
        refine lv_iload_n hx hb dX6_documents_35 rfl (lv_at hl 0 rfl) ?_
        refine lv_ishl hx hb dX6_documents_36 ?_
        refine lv_ior hx hb dX6_documents_37 ?_
        refine lv_istore_n (lv' := [(1, .int (b ||| ((1 : Int32) <<< (((nmS fb L 0 7 τ).1) &&& 31)))), (2, .int ((nmS fb L 0 7 τ).1)), (0, .ref pa)]) hx hb dX6_documents_38 rfl hl (by decide) rfl (fun ls hl => ?_)
        refine lv_aload_n hx hb dX6_documents_39 rfl (lv_at hl 2 rfl) ?_
        refine j_after (w1 := [(pa, .inr (5, [.int (nI L), .ref ca, .ref ds, .int (nI ((nmS fb L 0 7 τ).2).1), .int (nI ((nmS fb L 0 7 τ).2).2.2.2), .int dp, .int hfe, .ref o]))]) (w2 := []) (va_runV (As := []) (rest := []) (g := F0 m 40 ls [.ref pa]) C.fix (c_isDigitNext l D k g pa o bb dq cu ca ds L (((nmS fb L 0 7 τ).2).1) bl eo (nI ((nmS fb L 0 7 τ).2).2.2.2) dp hfe fb hL (by omega) hfb) (cwV 0 hts (lw_V q866 q868 qs8 q81 q869) rfl rfl rfl (by decide +kernel) ⟨Nat.le_of_ble_eq_true rfl, Nat.le_of_ble_eq_true rfl⟩) (preV mv2_jPre hK (va_recv hK hP (ci := 5) (q0 := 0) rfl rfl) (fun U hU hW => jPre_at (w1 := [(pa, .inr (5, [.int (nI L), .ref ca, .ref ds, .int (nI ((nmS fb L 0 7 τ).2).1), .int (nI ((nmS fb L 0 7 τ).2).2.2.2), .int dp, .int hfe, .ref o]))]) (w2 := []) hP (va_D_of hD rfl) hAN hX hS (FZ.sub (FZ_call (w1 := [(pa, .inr (5, [.int (nI L), .ref ca, .ref ds, .int (nI ((nmS fb L 0 7 τ).2).1), .int (nI ((nmS fb L 0 7 τ).2).2.2.2), .int dp, .int hfe, .ref o]))]) (w2 := []) hAe hF hS (va_D_of hD rfl)) [0, 1] rfl) hU hW)) rfl rfl hl.1 rfl (lv_room (Nat.le_of_ble_eq_true rfl)) dX6_documents_40 ⟨(by first | exact Nat.le_of_ble_eq_true rfl | omega | (dsimp only [Rm]; omega)), (by first | exact Nat.le_of_ble_eq_true rfl | omega | (dsimp only [Rm]; omega))⟩) hP (va_D_of hD rfl) hS hA (fun xx H locs hB hP hD hS hsz hk => ?_)
        have hP : va_P D clA [(pa, .inr (5, [.int (nI L), .ref ca, .ref ds, .int (nI (sk fb L (((nmS fb L 0 7 τ).2).1))), .int (nI ((nmS fb L 0 7 τ).2).2.2.2), .int dp, .int hfe, .ref o]))] H := hP
        have hD : va_D A [(pa, .inr (5, [.int (nI L), .ref ca, .ref ds, .int (nI (sk fb L (((nmS fb L 0 7 τ).2).1))), .int (nI ((nmS fb L 0 7 τ).2).2.2.2), .int dp, .int hfe, .ref o]))] := hD
        refine lv_if_ne (tgt := 2) hx hb dX6_documents_43 (by decide) (fun c_43 => ?_) (fun c_43 => ?_)
        · have b_43 := bI_nz c_43
          exact W_more (by first | exact Nat.le_of_ble_eq_true rfl | omega | (dsimp only [Rm]; omega)) (by first | exact Nat.le_of_ble_eq_true rfl | omega | (dsimp only [Rm]; omega)) (ih_2 (sk fb L (nmS fb L 0 7 τ).2.1, (nmS fb L 0 7 τ).2.2) _ h7 (okS_sk hL hok7 h7) ((need_go h7 hb2 (bI_nz c_43)).symm.trans hfu) (by show L + 2 ≤ sk fb L (nmS fb L 0 7 τ).2.1 + n; omega) (by show σ.1 ≤ sk fb L (nmS fb L 0 7 τ).2.1; omega) _ _ hP (va_D_of hD rfl) hS ls (lv_sub hl [2, 0] rfl))
        · have b_43 := bI_0.mp c_43
          refine lv_iload_n hx hb dX6_documents_46 rfl (lv_at hl 0 rfl) ?_
          exact vy_ret (j_iret hAe C () (by rw [← hfu, need_st h7 hb2 (bI_0.mp c_43)]) (by rw [← hfu, need_st h7 hb2 (bI_0.mp c_43)]; exact h7) (by rw [← hfu, need_st h7 hb2 (bI_0.mp c_43)]; exact hP) (va_D_of hD rfl) hS (by first | exact Nat.le_of_ble_eq_true rfl | omega | (dsimp only [Rm]; omega)) (by first | exact Nat.le_of_ble_eq_true rfl | omega | (dsimp only [Rm]; omega)) dX6_documents_47)
      refine lv_if_ne (tgt := 23) hx hb dX6_documents_16 (by decide) (fun c_16 => ?_) (fun c_16 => ?_)
      · refine lv_iconst (v := 0) hx hb dX6_documents_23 rfl ?_
        exact J_24 0 (by first | exact bI_t (Classical.not_not.mp c_16) | exact bI_t c_16 | exact bI_f c_16) ls hl
      · refine lv_iconst (v := 1) hx hb dX6_documents_19 rfl ?_
        refine lv_goto (tgt := 24) hx hb dX6_documents_20 (by decide) ?_
        exact J_24 1 (by first | exact bI_t (Classical.not_not.mp c_16) | exact bI_t c_16 | exact bI_f c_16) ls hl
  exact W_more (by first | exact Nat.le_of_ble_eq_true rfl | omega | (dsimp only [Rm]; omega)) (by first | exact Nat.le_of_ble_eq_true rfl | omega | (dsimp only [Rm]; omega)) (loop_2 (L + 2) σ 0 hσ hok rfl (by omega) (Nat.le_refl _) _ _ hP (va_D_of hD rfl) hS ls (lv_sub hl [1, 0] rfl))
theorem ho16 {dr : Nat → Int32} (h : isN dr 2 16) (h2 : (16 : Int32) ≤ dr 2) : dr 2 = 16 := by
  obtain ⟨e, hb⟩ := h
  rw [e] at h2 ⊢
  have h3 : 16 ≤ dN dr 2 := nI_le' (a := 16) h2 (by omega) (by omega)
  rw [show dN dr 2 = 16 by omega]
  rfl
section HOL
variable {fb : Nat → Int32} {L n : Nat} {dr : Nat → Int32} {τ : PS}
theorem hol_e1 (h : ¬ (nmS fb L 0 999 τ).2.2.1 = 0) : holF fb L (n + 1) τ dr = ((nmS fb L 0 999 τ).2, dr) := by
  have e0 : rpS (-3) (nI (h1s fb L τ).2.2.2) (h1s fb L τ) = h1s fb L τ := rp_bad h
  have e1 : hk fb L dr τ (dN dr 2) = h1s fb L τ := by
    show ifp _ _ _ = _
    rw [e0]
    by_cases hc : ∃ a, a < dN dr 2 ∧ dr (6 + a) = hv fb L τ
    · rw [ifp_t hc]
    · rw [ifp_f hc]
  have e2 : h3s fb L dr τ = h1s fb L τ := by
    show ifp _ _ _ = _
    rw [e1, rp_bad h]
    by_cases hc : dr 2 = 16
    · rw [ifp_t hc]
    · rw [ifp_f hc]
  rw [holF, e2, ifp_f h]
theorem hol_e2 (h : (nmS fb L 0 999 τ).2.2.1 = 0) (hx : ∃ j, j < dN dr 2 ∧ dr (6 + j) = (nmS fb L 0 999 τ).1) : (holF fb L (n + 1) τ dr).1 = ((nmS fb L 0 999 τ).2.1, -3, nI (nmS fb L 0 999 τ).2.2.2.2, (nmS fb L 0 999 τ).2.2.2.2) := by
  have e1 : hk fb L dr τ (dN dr 2) = ((nmS fb L 0 999 τ).2.1, -3, nI (nmS fb L 0 999 τ).2.2.2.2, (nmS fb L 0 999 τ).2.2.2.2) := by
    show ifp _ _ _ = _
    rw [ifp_t hx, rpS, ifp_t h]
  have e2 : h3s fb L dr τ = ((nmS fb L 0 999 τ).2.1, -3, nI (nmS fb L 0 999 τ).2.2.2.2, (nmS fb L 0 999 τ).2.2.2.2) := by
    show ifp _ _ _ = _
    rw [e1, rp_bad (show ¬ (-3 : Int32) = 0 by decide)]
    by_cases hc : dr 2 = 16
    · rw [ifp_t hc]
    · rw [ifp_f hc]
  rw [holF, e2, ifp_f (show ¬ (-3 : Int32) = 0 by decide)]
theorem hol_e3 (h : (nmS fb L 0 999 τ).2.2.1 = 0) (hx : ¬ ∃ j, j < dN dr 2 ∧ dr (6 + j) = (nmS fb L 0 999 τ).1) (h16 : dr 2 = 16) : (holF fb L (n + 1) τ dr).1 = ((nmS fb L 0 999 τ).2.1, -4, nI (nmS fb L 0 999 τ).2.2.2.2, (nmS fb L 0 999 τ).2.2.2.2) := by
  have e1 : hk fb L dr τ (dN dr 2) = (nmS fb L 0 999 τ).2 := ifp_f hx
  have e2 : h3s fb L dr τ = ((nmS fb L 0 999 τ).2.1, -4, nI (nmS fb L 0 999 τ).2.2.2.2, (nmS fb L 0 999 τ).2.2.2.2) := by
    show ifp _ _ _ = _
    rw [ifp_t h16, e1, rpS, ifp_t h]
  rw [holF, e2, ifp_f (show ¬ (-4 : Int32) = 0 by decide)]
theorem hol_3 (hx : ¬ ∃ j, j < dN dr 2 ∧ dr (6 + j) = (nmS fb L 0 999 τ).1) (h16 : ¬ dr 2 = 16) : h3s fb L dr τ = (nmS fb L 0 999 τ).2 := by
  show ifp _ _ _ = _
  rw [ifp_f h16]
  exact ifp_f hx
theorem hol_go (h : (nmS fb L 0 999 τ).2.2.1 = 0) (hx : ¬ ∃ j, j < dN dr 2 ∧ dr (6 + j) = (nmS fb L 0 999 τ).1) (h16 : ¬ dr 2 = 16) (hd : dig (byt fb L (sk fb L (nmS fb L 0 999 τ).2.1))) : holF fb L (n + 1) τ dr = holF fb L n (sk fb L (nmS fb L 0 999 τ).2.1, (nmS fb L 0 999 τ).2.2) (hdr fb L dr τ) := by
  rw [holF, hol_3 hx h16, ifp_t h, ifp_t hd]
theorem hol_st (h : (nmS fb L 0 999 τ).2.2.1 = 0) (hx : ¬ ∃ j, j < dN dr 2 ∧ dr (6 + j) = (nmS fb L 0 999 τ).1) (h16 : ¬ dr 2 = 16) (hd : ¬ dig (byt fb L (sk fb L (nmS fb L 0 999 τ).2.1))) : holF fb L (n + 1) τ dr = ((sk fb L (nmS fb L 0 999 τ).2.1, (nmS fb L 0 999 τ).2.2), hdr fb L dr τ) := by
  rw [holF, hol_3 hx h16, ifp_t h, ifp_f hd]
/-- the calendar's cells stand for the draft's days -/
def hoR (dr hf : Nat → Int32) : Prop := (∀ j, j < dN dr 2 → hf j = dr (6 + j)) ∧ isN dr 2 16
theorem hoR_add {hf : Nat → Int32} {x : Int32} (h : hoR dr hf) (h16 : ¬ dr 2 = 16) : dN dr 2 < 16 ∧ hoR (upd (upd dr (6 + dN dr 2) x) 2 (nI (dN dr 2 + 1))) (upd hf (dN dr 2) x) ∧ (upd (upd dr (6 + dN dr 2) x) 2 (nI (dN dr 2 + 1))) 2 = nI (dN dr 2 + 1) := by
  obtain ⟨h1, h2, h3⟩ := h
  have hlt : dN dr 2 < 16 := by
    rcases Nat.lt_or_ge (dN dr 2) 16 with q | q
    · exact q
    · exact absurd (h2.trans (by rw [show dN dr 2 = 16 by omega]; rfl)) h16
  have e2 : (upd (upd dr (6 + dN dr 2) x) 2 (nI (dN dr 2 + 1))) 2 = nI (dN dr 2 + 1) := pk_us
  have e3 : dN (upd (upd dr (6 + dN dr 2) x) 2 (nI (dN dr 2 + 1))) 2 = dN dr 2 + 1 := dN_nI (by omega)
  refine ⟨hlt, ⟨?_, ?_⟩, e2⟩
  · intro j hj
    rw [e3] at hj
    have r1 : upd (upd dr (6 + dN dr 2) x) 2 (nI (dN dr 2 + 1)) (6 + j) = upd dr (6 + dN dr 2) x (6 + j) := pk_un (by omega)
    rw [r1]
    by_cases e : j = dN dr 2
    · subst e; rw [pk_us, pk_us]
    · have r2 : upd dr (6 + dN dr 2) x (6 + j) = dr (6 + j) := pk_un (by omega)
      rw [r2, pk_un e, h1 j (by omega)]
  · exact ⟨by rw [e3]; exact e2, by rw [e3]; omega⟩
end HOL
set_option maxHeartbeats 4000000 in
theorem c_holidays (l : Launch) (D : va_G) (k : Nat → ClassId) (g : Nat → Nat) (ha : Nat) (pa o bb dq cu ca ds L : Nat) (bl eo dp hfe : Int32) (fb : Nat → Int32) (hL : L ≤ 900) (hfb : okF fb) (σ : PS) (hσ : σ.2.1 = 0) (hok : okS L σ) (dr hf : Nat → Int32) (hho : hoR dr hf) (htr : l.stackTraces = false) : uM l D k yX6_holidays cX6_holidays 2 none 7 158 (4 * L + 8) (31 * L + 62) [.ref pa] g [(pa, .inr (5, [.int (nI L), .ref ca, .ref ds, .int (nI σ.1), .int (nI σ.2.2.2), .int dp, .int hfe, .ref o])), (ca, .inr (3, [.ref ha, .int (dr 2)])), (ha, .inl (k 0, 16, .inl hf))] (fun HH => FZ D [(pa, .inr (5, [.int (nI L), .ref ca, .ref ds, .int (nI σ.1), .int (nI σ.2.2.2), .int dp, .int hfe, .ref o])), (ca, .inr (3, [.ref ha, .int (dr 2)])), (ha, .inl (k 0, 16, .inl hf))] [(o, .inr (1, [.ref bb, .ref dq, .ref cu, .int bl, .int eo])), (bb, .inl (k 1, 900, .inl (cB fb)))] HH) (fun xx : (Nat → Int32) => none) (fun (xx : (Nat → Int32)) HH => ((holF fb L (L + 2) σ dr).1.2.1 = 0 ∧ hoR (holF fb L (L + 2) σ dr).2 xx)) (fun xx : (Nat → Int32) => [(pa, .inr (5, [.int (nI L), .ref ca, .ref ds, .int (nI ((holF fb L (L + 2) σ dr).1).1), .int (nI ((holF fb L (L + 2) σ dr).1).2.2.2), .int dp, .int hfe, .ref o])), (ca, .inr (3, [.ref ha, .int (((holF fb L (L + 2) σ dr).2) 2)])), (ha, .inl (k 0, 16, .inl xx))]) (rdT D (holF fb L (L + 2) σ dr).1) := by
  refine uM_of (by decide) (Nat.le_of_ble_eq_true rfl) ?_
  intro p e s m below meth c ls A hAe C hnt hnm hmn hK hP hD hA hAN hF hX hS hl
  have hN : NW s := hX.nw
  obtain ⟨hx, hb, hr, hml, hown, hts, hlk⟩ := id C
  have hl : lv_has ls 2 [(0, .ref pa)] := hl
  have loop_0 : ∀ (n : Nat) (τ : PS) (dr1 : Nat → Int32) (hf1 : Nat → Int32), (τ.2.1 = 0) → (okS L τ) → (holF fb L n τ dr1 = holF fb L (L + 2) σ dr) → (hoR dr1 hf1) → (L + 2 ≤ τ.1 + n) → (σ.1 ≤ τ.1) → ∀ (H : Heap) (locs : List Loc), va_P D clA [(pa, .inr (5, [.int (nI L), .ref ca, .ref ds, .int (nI τ.1), .int (nI τ.2.2.2), .int dp, .int hfe, .ref o])), (ca, .inr (3, [.ref ha, .int (dr1 2)])), (ha, .inl (k 0, 16, .inl hf1))] H → va_D A [(pa, .inr (5, [.int (nI L), .ref ca, .ref ds, .int (nI τ.1), .int (nI τ.2.2.2), .int dp, .int hfe, .ref o])), (ca, .inr (3, [.ref ha, .int (dr1 2)])), (ha, .inl (k 0, 16, .inl hf1))] → va_S A s.heap H locs → ∀ (ls : Array Slot), lv_has ls 2 [(0, .ref pa)] → W p l e (Rm 7 158 (4 * L + 8) (31 * L + 62)) s m ([.ref pa] : List Value).toArray below meth c H locs (4 * (τ.1 - σ.1)) (31 * (τ.1 - σ.1)) (vy_MQ below (jQ D (fun xx : (Nat → Int32) => none) (fun (xx : (Nat → Int32)) HH => ((holF fb L (L + 2) σ dr).1.2.1 = 0 ∧ hoR (holF fb L (L + 2) σ dr).2 xx)) (fun xx : (Nat → Int32) => [(pa, .inr (5, [.int (nI L), .ref ca, .ref ds, .int (nI ((holF fb L (L + 2) σ dr).1).1), .int (nI ((holF fb L (L + 2) σ dr).1).2.2.2), .int dp, .int hfe, .ref o])), (ca, .inr (3, [.ref ha, .int (((holF fb L (L + 2) σ dr).2) 2)])), (ha, .inl (k 0, 16, .inl xx))]) (inL [(pa, .inr (5, [.int (nI L), .ref ca, .ref ds, .int (nI σ.1), .int (nI σ.2.2.2), .int dp, .int hfe, .ref o])), (ca, .inr (3, [.ref ha, .int (dr 2)])), (ha, .inl (k 0, 16, .inl hf))])) (uX (rdT D (holF fb L (L + 2) σ dr).1) (inL [(pa, .inr (5, [.int (nI L), .ref ca, .ref ds, .int (nI σ.1), .int (nI σ.2.2.2), .int dp, .int hfe, .ref o])), (ca, .inr (3, [.ref ha, .int (dr 2)])), (ha, .inl (k 0, 16, .inl hf))])) ([.ref pa] : List Value).toArray s (4 * L + 8) (31 * L + 62) (inL [(pa, .inr (5, [.int (nI L), .ref ca, .ref ds, .int (nI σ.1), .int (nI σ.2.2.2), .int dp, .int hfe, .ref o])), (ca, .inr (3, [.ref ha, .int (dr 2)])), (ha, .inl (k 0, 16, .inl hf))])) (F0 m 0 ls []) := by
    intro n
    induction n with
    | zero =>
      intro τ dr1 hf1 hτ hokτ hfu hho1 hn hge
      exact absurd (hokτ.1 hτ) (by omega)
    | succ n ih_0 =>
      intro τ dr1 hf1 hτ hokτ hfu hho1 hn hge H locs hP hD hS ls hl
      have hpl := hokτ.1 hτ
      refine lv_aload_n hx hb dX6_holidays_0 rfl (lv_at hl 0 rfl) ?_
      refine lv_iconst (v := 0) hx hb dX6_holidays_1 rfl ?_
      refine lv_sipush (v := 999) hx hb dX6_holidays_2 rfl ?_
      refine u_after (w1 := [(pa, .inr (5, [.int (nI L), .ref ca, .ref ds, .int (nI τ.1), .int (nI τ.2.2.2), .int dp, .int hfe, .ref o]))]) (w2 := [(ca, .inr (3, [.ref ha, .int (dr1 2)])), (ha, .inl (k 0, 16, .inl hf1))]) (vy_runV (As := [.int 0, .int 999]) (rest := []) (g := F0 m 5 ls [.int 999, .int 0, .ref pa]) C.fix (c_number l D k g pa o bb dq cu ca ds L bl eo dp hfe fb hL hfb τ hτ hokτ 0 999 htr) (cwV 2 hts (lw_V q862 q864 qs7 q81 q865) rfl rfl rfl (by decide +kernel) ⟨Nat.le_of_ble_eq_true rfl, Nat.le_of_ble_eq_true rfl⟩) (preV mv2_jPre hK (va_recv hK hP (ci := 5) (q0 := 0) rfl rfl) (fun U hU hW => jPre_at (w1 := [(pa, .inr (5, [.int (nI L), .ref ca, .ref ds, .int (nI τ.1), .int (nI τ.2.2.2), .int dp, .int hfe, .ref o]))]) (w2 := [(ca, .inr (3, [.ref ha, .int (dr1 2)])), (ha, .inl (k 0, 16, .inl hf1))]) hP (va_D_of hD rfl) hAN hX hS (FZ.sub (FZ_call (w1 := [(pa, .inr (5, [.int (nI L), .ref ca, .ref ds, .int (nI τ.1), .int (nI τ.2.2.2), .int dp, .int hfe, .ref o]))]) (w2 := [(ca, .inr (3, [.ref ha, .int (dr1 2)])), (ha, .inl (k 0, 16, .inl hf1))]) hAe hF hS (va_D_of hD rfl)) [0, 1] rfl) hU hW)) rfl rfl hl.1 rfl (lv_room (Nat.le_of_ble_eq_true rfl)) dX6_holidays_5 ⟨(by first | exact Nat.le_of_ble_eq_true rfl | omega | (dsimp only [Rm]; omega)), (by first | exact Nat.le_of_ble_eq_true rfl | omega | (dsimp only [Rm]; omega))⟩) hP (va_D_of hD rfl) hS hA (fun E ce q9 H locs hth hS hsz hk hce hcv hcl => u_out hAe hnt hlk ((by rw [← hfu, hol_e1 hth.1]; exact hth)) hS hce hcv hcl (by first | exact Nat.le_of_ble_eq_true rfl | omega | (dsimp only [Rm]; omega)) (by first | exact Nat.le_of_ble_eq_true rfl | omega | (dsimp only [Rm]; omega))) (fun xx H locs hB hP hD hS hsz hk => ?_)
      have hP : va_P D clA [(pa, .inr (5, [.int (nI L), .ref ca, .ref ds, .int (nI ((nmS fb L 0 999 τ).2).1), .int (nI ((nmS fb L 0 999 τ).2).2.2.2), .int dp, .int hfe, .ref o])), (ca, .inr (3, [.ref ha, .int (dr1 2)])), (ha, .inl (k 0, 16, .inl hf1))] H := hP
      have hD : va_D A [(pa, .inr (5, [.int (nI L), .ref ca, .ref ds, .int (nI ((nmS fb L 0 999 τ).2).1), .int (nI ((nmS fb L 0 999 τ).2).2.2.2), .int dp, .int hfe, .ref o])), (ca, .inr (3, [.ref ha, .int (dr1 2)])), (ha, .inl (k 0, 16, .inl hf1))] := hD
      have h7 : (nmS fb L 0 999 τ).2.2.1 = 0 := hB
      have hok7 := okS_nm (fb := fb) (lo := 0) (hi := 999) hL hokτ
      have hfw := nm_fwd hokτ h7
      have hp7 : (nmS fb L 0 999 τ).2.1 ≤ L := hok7.1 h7
      have hsk7 := sk_in (fb := fb) hp7
      refine lv_istore_n (lv' := [(1, .int ((nmS fb L 0 999 τ).1)), (0, .ref pa)]) hx hb dX6_holidays_8 rfl hl (by decide) rfl (fun ls hl => ?_)
      refine lv_aload_n hx hb dX6_holidays_9 rfl (lv_at hl 1 rfl) ?_
      refine lv_aload_n hx hb dX6_holidays_10 rfl (lv_at hl 1 rfl) ?_
      refine va_get hx hb hts in_X6 hown hK hP 0 rfl rfl 1 (by decide) (hts _ q463) (fun _ h => h) rfl dX6_holidays_11 ?_
      refine lv_iload_n hx hb dX6_holidays_14 rfl (lv_at hl 0 rfl) ?_
      refine r_after (va_runV (As := [.int ((nmS fb L 0 999 τ).1)]) (rest := [.ref pa]) (g := F0 m 15 ls [.int ((nmS fb L 0 999 τ).1), .ref ca, .ref pa]) C.fix (c_isHoliday l D k ca ha hf1 dr1 [] hho1.1 hho1.2 ((nmS fb L 0 999 τ).1)) (cwV 1 hts (lw_V q928 q929 q930 q72 q931) rfl rfl rfl (by decide +kernel) ⟨Nat.le_of_ble_eq_true rfl, Nat.le_of_ble_eq_true rfl⟩) (preRV hK (va_recv hK hP (ci := 3) (q0 := 1) rfl rfl) (va_cons (hP 1 _ rfl) (va_cons (hP 2 _ rfl) va_nil))) rfl rfl hl.1 rfl (lv_room (Nat.le_of_ble_eq_true rfl)) dX6_holidays_15 ⟨(by first | exact Nat.le_of_ble_eq_true rfl | omega | (dsimp only [Rm]; omega)), (by first | exact Nat.le_of_ble_eq_true rfl | omega | (dsimp only [Rm]; omega))⟩) ?_
      have J_26 : ∀ (zz : Int32), (zz = bI (¬ ∃ j, j < dN dr1 2 ∧ dr1 (6 + j) = (nmS fb L 0 999 τ).1)) → ∀ (ls : Array Slot), lv_has ls 2 [(1, .int ((nmS fb L 0 999 τ).1)), (0, .ref pa)] → W p l e (Rm 7 158 (4 * L + 8) (31 * L + 62)) s m ([.ref pa] : List Value).toArray below meth c H locs (4 * (τ.1 - σ.1) + 2 + 0) (31 * (τ.1 - σ.1) + 15 + 0) (vy_MQ below (jQ D (fun xx : (Nat → Int32) => none) (fun (xx : (Nat → Int32)) HH => ((holF fb L (L + 2) σ dr).1.2.1 = 0 ∧ hoR (holF fb L (L + 2) σ dr).2 xx)) (fun xx : (Nat → Int32) => [(pa, .inr (5, [.int (nI L), .ref ca, .ref ds, .int (nI ((holF fb L (L + 2) σ dr).1).1), .int (nI ((holF fb L (L + 2) σ dr).1).2.2.2), .int dp, .int hfe, .ref o])), (ca, .inr (3, [.ref ha, .int (((holF fb L (L + 2) σ dr).2) 2)])), (ha, .inl (k 0, 16, .inl xx))]) (inL [(pa, .inr (5, [.int (nI L), .ref ca, .ref ds, .int (nI σ.1), .int (nI σ.2.2.2), .int dp, .int hfe, .ref o])), (ca, .inr (3, [.ref ha, .int (dr 2)])), (ha, .inl (k 0, 16, .inl hf))])) (uX (rdT D (holF fb L (L + 2) σ dr).1) (inL [(pa, .inr (5, [.int (nI L), .ref ca, .ref ds, .int (nI σ.1), .int (nI σ.2.2.2), .int dp, .int hfe, .ref o])), (ca, .inr (3, [.ref ha, .int (dr 2)])), (ha, .inl (k 0, 16, .inl hf))])) ([.ref pa] : List Value).toArray s (4 * L + 8) (31 * L + 62) (inL [(pa, .inr (5, [.int (nI L), .ref ca, .ref ds, .int (nI σ.1), .int (nI σ.2.2.2), .int dp, .int hfe, .ref o])), (ca, .inr (3, [.ref ha, .int (dr 2)])), (ha, .inl (k 0, 16, .inl hf))])) (F0 m 26 ls [.int zz, .ref pa]) := by
        intro zz h_zz ls hl
        refine lv_bipush (v := (-3)) hx hb dX6_holidays_26 rfl ?_
        refine lv_aload_n hx hb dX6_holidays_28 rfl (lv_at hl 1 rfl) ?_
        refine va_get hx hb hts in_X6 hown hK hP 0 rfl rfl 4 (by decide) (hts _ q466) (fun _ h => h) rfl dX6_holidays_29 ?_
        subst h_zz
        refine u_after (w1 := []) (w2 := [(pa, .inr (5, [.int (nI L), .ref ca, .ref ds, .int (nI ((nmS fb L 0 999 τ).2).1), .int (nI ((nmS fb L 0 999 τ).2).2.2.2), .int dp, .int hfe, .ref o])), (ca, .inr (3, [.ref ha, .int (dr1 2)])), (ha, .inl (k 0, 16, .inl hf1))]) (vy_runV (As := [.int (bI (¬ ∃ j, j < dN dr1 2 ∧ dr1 (6 + j) = (nmS fb L 0 999 τ).1)), .int (-3), .int (nI ((nmS fb L 0 999 τ).2).2.2.2)]) (rest := []) (g := F0 m 32 ls [.int (nI ((nmS fb L 0 999 τ).2).2.2.2), .int (-3), .int (bI (¬ ∃ j, j < dN dr1 2 ∧ dr1 (6 + j) = (nmS fb L 0 999 τ).1)), .ref pa]) C.fix (c_reqLimit l D k g pa (¬ ∃ j, j < dN dr1 2 ∧ dr1 (6 + j) = (nmS fb L 0 999 τ).1) (-3) (nI (nmS fb L 0 999 τ).2.2.2.2) htr) (cwV 3 hts (lw_V q905 q907 qs10 q81 q908) rfl rfl rfl (by decide +kernel) ⟨Nat.le_of_ble_eq_true rfl, Nat.le_of_ble_eq_true rfl⟩) (preV mv2_jPre hK (va_recv hK hP (ci := 5) (q0 := 0) rfl rfl) (fun U hU hW => jPre_at (w1 := []) (w2 := [(pa, .inr (5, [.int (nI L), .ref ca, .ref ds, .int (nI ((nmS fb L 0 999 τ).2).1), .int (nI ((nmS fb L 0 999 τ).2).2.2.2), .int dp, .int hfe, .ref o])), (ca, .inr (3, [.ref ha, .int (dr1 2)])), (ha, .inl (k 0, 16, .inl hf1))]) hP (va_D_of hD rfl) hAN hX hS trivial hU hW)) rfl rfl hl.1 rfl (lv_room (Nat.le_of_ble_eq_true rfl)) dX6_holidays_32 ⟨(by first | exact Nat.le_of_ble_eq_true rfl | omega | (dsimp only [Rm]; omega)), (by first | exact Nat.le_of_ble_eq_true rfl | omega | (dsimp only [Rm]; omega))⟩) hP (va_D_of hD rfl) hS hA (fun E ce q9 H locs hth hS hsz hk hce hcv hcl => u_out hAe hnt hlk ((by rw [← hfu]; exact rdT_of (hol_e2 h7 (Classical.not_not.mp hth.1)) (show ¬ (-3 : Int32) = 0 by decide) hth.2)) hS hce hcv hcl (by first | exact Nat.le_of_ble_eq_true rfl | omega | (dsimp only [Rm]; omega)) (by first | exact Nat.le_of_ble_eq_true rfl | omega | (dsimp only [Rm]; omega))) (fun xx H locs hB hP hD hS hsz hk => ?_)
        have hP : va_P D clA [(pa, .inr (5, [.int (nI L), .ref ca, .ref ds, .int (nI ((nmS fb L 0 999 τ).2).1), .int (nI ((nmS fb L 0 999 τ).2).2.2.2), .int dp, .int hfe, .ref o])), (ca, .inr (3, [.ref ha, .int (dr1 2)])), (ha, .inl (k 0, 16, .inl hf1))] H := hP
        have hD : va_D A [(pa, .inr (5, [.int (nI L), .ref ca, .ref ds, .int (nI ((nmS fb L 0 999 τ).2).1), .int (nI ((nmS fb L 0 999 τ).2).2.2.2), .int dp, .int hfe, .ref o])), (ca, .inr (3, [.ref ha, .int (dr1 2)])), (ha, .inl (k 0, 16, .inl hf1))] := hD
        have hb2 : ¬ ∃ j, j < dN dr1 2 ∧ dr1 (6 + j) = (nmS fb L 0 999 τ).1 := hB
        refine lv_aload_n hx hb dX6_holidays_35 rfl (lv_at hl 1 rfl) ?_
        refine lv_aload_n hx hb dX6_holidays_36 rfl (lv_at hl 1 rfl) ?_
        refine va_get hx hb hts in_X6 hown hK hP 0 rfl rfl 1 (by decide) (hts _ q463) (fun _ h => h) rfl dX6_holidays_37 ?_
        refine va_getN hx hb hts in_X3 hown hK hP 1 rfl rfl 1 (by decide) ((hN _ q146 rfl).use rfl) (fun _ h => h) rfl dX6_holidays_40 ?_
        refine lv_bipush (v := 16) hx hb dX6_holidays_43 rfl ?_
        have J_53 : ∀ (zz : Int32), (zz = bI (¬ dr1 2 = 16)) → ∀ (ls : Array Slot), lv_has ls 2 [(1, .int ((nmS fb L 0 999 τ).1)), (0, .ref pa)] → W p l e (Rm 7 158 (4 * L + 8) (31 * L + 62)) s m ([.ref pa] : List Value).toArray below meth c H locs (4 * (τ.1 - σ.1) + 2 + 0 + 1) (31 * (τ.1 - σ.1) + 15 + 0 + 8) (vy_MQ below (jQ D (fun xx : (Nat → Int32) => none) (fun (xx : (Nat → Int32)) HH => ((holF fb L (L + 2) σ dr).1.2.1 = 0 ∧ hoR (holF fb L (L + 2) σ dr).2 xx)) (fun xx : (Nat → Int32) => [(pa, .inr (5, [.int (nI L), .ref ca, .ref ds, .int (nI ((holF fb L (L + 2) σ dr).1).1), .int (nI ((holF fb L (L + 2) σ dr).1).2.2.2), .int dp, .int hfe, .ref o])), (ca, .inr (3, [.ref ha, .int (((holF fb L (L + 2) σ dr).2) 2)])), (ha, .inl (k 0, 16, .inl xx))]) (inL [(pa, .inr (5, [.int (nI L), .ref ca, .ref ds, .int (nI σ.1), .int (nI σ.2.2.2), .int dp, .int hfe, .ref o])), (ca, .inr (3, [.ref ha, .int (dr 2)])), (ha, .inl (k 0, 16, .inl hf))])) (uX (rdT D (holF fb L (L + 2) σ dr).1) (inL [(pa, .inr (5, [.int (nI L), .ref ca, .ref ds, .int (nI σ.1), .int (nI σ.2.2.2), .int dp, .int hfe, .ref o])), (ca, .inr (3, [.ref ha, .int (dr 2)])), (ha, .inl (k 0, 16, .inl hf))])) ([.ref pa] : List Value).toArray s (4 * L + 8) (31 * L + 62) (inL [(pa, .inr (5, [.int (nI L), .ref ca, .ref ds, .int (nI σ.1), .int (nI σ.2.2.2), .int dp, .int hfe, .ref o])), (ca, .inr (3, [.ref ha, .int (dr 2)])), (ha, .inl (k 0, 16, .inl hf))])) (F0 m 53 ls [.int zz, .ref pa]) := by
          intro zz h_zz ls hl
          refine lv_bipush (v := (-4)) hx hb dX6_holidays_53 rfl ?_
          refine lv_aload_n hx hb dX6_holidays_55 rfl (lv_at hl 1 rfl) ?_
          refine va_get hx hb hts in_X6 hown hK hP 0 rfl rfl 4 (by decide) (hts _ q466) (fun _ h => h) rfl dX6_holidays_56 ?_
          subst h_zz
          refine u_after (w1 := []) (w2 := [(pa, .inr (5, [.int (nI L), .ref ca, .ref ds, .int (nI ((nmS fb L 0 999 τ).2).1), .int (nI ((nmS fb L 0 999 τ).2).2.2.2), .int dp, .int hfe, .ref o])), (ca, .inr (3, [.ref ha, .int (dr1 2)])), (ha, .inl (k 0, 16, .inl hf1))]) (vy_runV (As := [.int (bI (¬ dr1 2 = 16)), .int (-4), .int (nI ((nmS fb L 0 999 τ).2).2.2.2)]) (rest := []) (g := F0 m 59 ls [.int (nI ((nmS fb L 0 999 τ).2).2.2.2), .int (-4), .int (bI (¬ dr1 2 = 16)), .ref pa]) C.fix (c_reqLimit l D k g pa (¬ dr1 2 = 16) (-4) (nI (nmS fb L 0 999 τ).2.2.2.2) htr) (cwV 3 hts (lw_V q905 q907 qs10 q81 q908) rfl rfl rfl (by decide +kernel) ⟨Nat.le_of_ble_eq_true rfl, Nat.le_of_ble_eq_true rfl⟩) (preV mv2_jPre hK (va_recv hK hP (ci := 5) (q0 := 0) rfl rfl) (fun U hU hW => jPre_at (w1 := []) (w2 := [(pa, .inr (5, [.int (nI L), .ref ca, .ref ds, .int (nI ((nmS fb L 0 999 τ).2).1), .int (nI ((nmS fb L 0 999 τ).2).2.2.2), .int dp, .int hfe, .ref o])), (ca, .inr (3, [.ref ha, .int (dr1 2)])), (ha, .inl (k 0, 16, .inl hf1))]) hP (va_D_of hD rfl) hAN hX hS trivial hU hW)) rfl rfl hl.1 rfl (lv_room (Nat.le_of_ble_eq_true rfl)) dX6_holidays_59 ⟨(by first | exact Nat.le_of_ble_eq_true rfl | omega | (dsimp only [Rm]; omega)), (by first | exact Nat.le_of_ble_eq_true rfl | omega | (dsimp only [Rm]; omega))⟩) hP (va_D_of hD rfl) hS hA (fun E ce q9 H locs hth hS hsz hk hce hcv hcl => u_out hAe hnt hlk ((by rw [← hfu]; exact rdT_of (hol_e3 h7 hb2 (Classical.not_not.mp hth.1)) (show ¬ (-4 : Int32) = 0 by decide) hth.2)) hS hce hcv hcl (by first | exact Nat.le_of_ble_eq_true rfl | omega | (dsimp only [Rm]; omega)) (by first | exact Nat.le_of_ble_eq_true rfl | omega | (dsimp only [Rm]; omega))) (fun xx H locs hB hP hD hS hsz hk => ?_)
          have hP : va_P D clA [(pa, .inr (5, [.int (nI L), .ref ca, .ref ds, .int (nI ((nmS fb L 0 999 τ).2).1), .int (nI ((nmS fb L 0 999 τ).2).2.2.2), .int dp, .int hfe, .ref o])), (ca, .inr (3, [.ref ha, .int (dr1 2)])), (ha, .inl (k 0, 16, .inl hf1))] H := hP
          have hD : va_D A [(pa, .inr (5, [.int (nI L), .ref ca, .ref ds, .int (nI ((nmS fb L 0 999 τ).2).1), .int (nI ((nmS fb L 0 999 τ).2).2.2.2), .int dp, .int hfe, .ref o])), (ca, .inr (3, [.ref ha, .int (dr1 2)])), (ha, .inl (k 0, 16, .inl hf1))] := hD
          have hb3 : ¬ dr1 2 = 16 := hB
          refine lv_aload_n hx hb dX6_holidays_62 rfl (lv_at hl 1 rfl) ?_
          refine va_get hx hb hts in_X6 hown hK hP 0 rfl rfl 1 (by decide) (hts _ q463) (fun _ h => h) rfl dX6_holidays_63 ?_
          refine lv_iload_n hx hb dX6_holidays_66 rfl (lv_at hl 0 rfl) ?_
          obtain ⟨hlt, hho2, hdr2⟩ := hoR_add (x := (nmS fb L 0 999 τ).1) hho1 hb3
          have hP : va_P D clA [(pa, .inr (5, [.int (nI L), .ref ca, .ref ds, .int (nI ((nmS fb L 0 999 τ).2).1), .int (nI ((nmS fb L 0 999 τ).2).2.2.2), .int dp, .int hfe, .ref o])), (ca, .inr (3, [.ref ha, .int (nI (dN dr1 2))])), (ha, .inl (k 0, 16, .inl hf1))] H := by have := hho1.2.1; rw [this] at hP; exact hP
          have hP : va_P D clA [(ca, .inr (3, [.ref ha, .int (nI (dN dr1 2))])), (ha, .inl (k 0, 16, .inl hf1)), (pa, .inr (5, [.int (nI L), .ref ca, .ref ds, .int (nI ((nmS fb L 0 999 τ).2).1), .int (nI ((nmS fb L 0 999 τ).2).2.2.2), .int dp, .int hfe, .ref o]))] H := P_prm [1, 2, 0] 3 rfl (by decide) hP
          have hD : va_D A [(ca, .inr (3, [.ref ha, .int (nI (dN dr1 2))])), (ha, .inl (k 0, 16, .inl hf1)), (pa, .inr (5, [.int (nI L), .ref ca, .ref ds, .int (nI ((nmS fb L 0 999 τ).2).1), .int (nI ((nmS fb L 0 999 τ).2).2.2.2), .int dp, .int hfe, .ref o]))] := D_prm [1, 2, 0] 3 rfl (by decide) (va_D_of (ws' := [(pa, .inr (5, [.int (nI L), .ref ca, .ref ds, .int (nI ((nmS fb L 0 999 τ).2).1), .int (nI ((nmS fb L 0 999 τ).2).2.2.2), .int dp, .int hfe, .ref o])), (ca, .inr (3, [.ref ha, .int (nI (dN dr1 2))])), (ha, .inl (k 0, 16, .inl hf1))]) hD rfl)
          refine k_after (va_runV (As := [.int ((nmS fb L 0 999 τ).1)]) (rest := []) (g := F0 m 67 ls [.int ((nmS fb L 0 999 τ).1), .ref ca]) C.fix (c_addHol l D k g ca ha (dN dr1 2) hlt hf1 ((nmS fb L 0 999 τ).1) ([(pa, .inr (5, [.int (nI L), .ref ca, .ref ds, .int (nI ((nmS fb L 0 999 τ).2).1), .int (nI ((nmS fb L 0 999 τ).2).2.2.2), .int dp, .int hfe, .ref o]))]) A (va_D_of hD rfl) hAN) (cwV 1 hts (lw_V q932 q933 q934 q72 q935) rfl rfl rfl (by decide +kernel) ⟨Nat.le_of_ble_eq_true rfl, Nat.le_of_ble_eq_true rfl⟩) (preV (mv2_hPre mv2_hKX) hK (va_recv hK hP (ci := 3) (q0 := 0) rfl rfl) (fun U hU hW => ⟨by rw [hU]; exact hP, by rw [hU]; exact fun q h => hA q (Nat.le_trans hS.1 h), (hKX_at hX hS hAN trivial hU hW)⟩)) rfl rfl hl.1 rfl (lv_room (Nat.le_of_ble_eq_true rfl)) dX6_holidays_67 ⟨(by first | exact Nat.le_of_ble_eq_true rfl | omega | (dsimp only [Rm]; omega)), (by first | exact Nat.le_of_ble_eq_true rfl | omega | (dsimp only [Rm]; omega))⟩) hS (fun _ h => h) (fun xx H locs hB hP hD hS hsz hk => ?_)
          have hP : va_P D clA [(ca, .inr (3, [.ref ha, .int ((hdr fb L dr1 τ) 2)])), (ha, .inl (k 0, 16, .inl (upd hf1 (dN dr1 2) ((nmS fb L 0 999 τ).1)))), (pa, .inr (5, [.int (nI L), .ref ca, .ref ds, .int (nI ((nmS fb L 0 999 τ).2).1), .int (nI ((nmS fb L 0 999 τ).2).2.2.2), .int dp, .int hfe, .ref o]))] H := hP
          have hD : va_D A [(ca, .inr (3, [.ref ha, .int ((hdr fb L dr1 τ) 2)])), (ha, .inl (k 0, 16, .inl (upd hf1 (dN dr1 2) ((nmS fb L 0 999 τ).1)))), (pa, .inr (5, [.int (nI L), .ref ca, .ref ds, .int (nI ((nmS fb L 0 999 τ).2).1), .int (nI ((nmS fb L 0 999 τ).2).2.2.2), .int dp, .int hfe, .ref o]))] := hD
          refine lv_aload_n hx hb dX6_holidays_70 rfl (lv_at hl 1 rfl) ?_
          have hP : va_P D clA [(pa, .inr (5, [.int (nI L), .ref ca, .ref ds, .int (nI ((nmS fb L 0 999 τ).2).1), .int (nI ((nmS fb L 0 999 τ).2).2.2.2), .int dp, .int hfe, .ref o])), (ca, .inr (3, [.ref ha, .int ((hdr fb L dr1 τ) 2)])), (ha, .inl (k 0, 16, .inl (upd hf1 (dN dr1 2) ((nmS fb L 0 999 τ).1))))] H := P_prm [2, 0, 1] 3 rfl (by decide) hP
          have hD : va_D A [(pa, .inr (5, [.int (nI L), .ref ca, .ref ds, .int (nI ((nmS fb L 0 999 τ).2).1), .int (nI ((nmS fb L 0 999 τ).2).2.2.2), .int dp, .int hfe, .ref o])), (ca, .inr (3, [.ref ha, .int ((hdr fb L dr1 τ) 2)])), (ha, .inl (k 0, 16, .inl (upd hf1 (dN dr1 2) ((nmS fb L 0 999 τ).1))))] := D_prm [2, 0, 1] 3 rfl (by decide) (va_D_of (ws' := [(ca, .inr (3, [.ref ha, .int ((hdr fb L dr1 τ) 2)])), (ha, .inl (k 0, 16, .inl (upd hf1 (dN dr1 2) ((nmS fb L 0 999 τ).1)))), (pa, .inr (5, [.int (nI L), .ref ca, .ref ds, .int (nI ((nmS fb L 0 999 τ).2).1), .int (nI ((nmS fb L 0 999 τ).2).2.2.2), .int dp, .int hfe, .ref o]))]) hD rfl)
          refine j_after (w1 := [(pa, .inr (5, [.int (nI L), .ref ca, .ref ds, .int (nI ((nmS fb L 0 999 τ).2).1), .int (nI ((nmS fb L 0 999 τ).2).2.2.2), .int dp, .int hfe, .ref o]))]) (w2 := [(ca, .inr (3, [.ref ha, .int ((hdr fb L dr1 τ) 2)])), (ha, .inl (k 0, 16, .inl (upd hf1 (dN dr1 2) ((nmS fb L 0 999 τ).1))))]) (va_runV (As := []) (rest := []) (g := F0 m 71 ls [.ref pa]) C.fix (c_isDigitNext l D k g pa o bb dq cu ca ds L (((nmS fb L 0 999 τ).2).1) bl eo (nI ((nmS fb L 0 999 τ).2).2.2.2) dp hfe fb hL (by omega) hfb) (cwV 0 hts (lw_V q866 q868 qs8 q81 q869) rfl rfl rfl (by decide +kernel) ⟨Nat.le_of_ble_eq_true rfl, Nat.le_of_ble_eq_true rfl⟩) (preV mv2_jPre hK (va_recv hK hP (ci := 5) (q0 := 0) rfl rfl) (fun U hU hW => jPre_at (w1 := [(pa, .inr (5, [.int (nI L), .ref ca, .ref ds, .int (nI ((nmS fb L 0 999 τ).2).1), .int (nI ((nmS fb L 0 999 τ).2).2.2.2), .int dp, .int hfe, .ref o]))]) (w2 := [(ca, .inr (3, [.ref ha, .int ((hdr fb L dr1 τ) 2)])), (ha, .inl (k 0, 16, .inl (upd hf1 (dN dr1 2) ((nmS fb L 0 999 τ).1))))]) hP (va_D_of hD rfl) hAN hX hS (FZ.sub (FZ_call (w1 := [(pa, .inr (5, [.int (nI L), .ref ca, .ref ds, .int (nI ((nmS fb L 0 999 τ).2).1), .int (nI ((nmS fb L 0 999 τ).2).2.2.2), .int dp, .int hfe, .ref o]))]) (w2 := [(ca, .inr (3, [.ref ha, .int ((hdr fb L dr1 τ) 2)])), (ha, .inl (k 0, 16, .inl (upd hf1 (dN dr1 2) ((nmS fb L 0 999 τ).1))))]) hAe hF hS (va_D_of hD rfl)) [0, 1] rfl) hU hW)) rfl rfl hl.1 rfl (lv_room (Nat.le_of_ble_eq_true rfl)) dX6_holidays_71 ⟨(by first | exact Nat.le_of_ble_eq_true rfl | omega | (dsimp only [Rm]; omega)), (by first | exact Nat.le_of_ble_eq_true rfl | omega | (dsimp only [Rm]; omega))⟩) hP (va_D_of hD rfl) hS hA (fun xx H locs hB hP hD hS hsz hk => ?_)
          have hP : va_P D clA [(pa, .inr (5, [.int (nI L), .ref ca, .ref ds, .int (nI (sk fb L (((nmS fb L 0 999 τ).2).1))), .int (nI ((nmS fb L 0 999 τ).2).2.2.2), .int dp, .int hfe, .ref o])), (ca, .inr (3, [.ref ha, .int ((hdr fb L dr1 τ) 2)])), (ha, .inl (k 0, 16, .inl (upd hf1 (dN dr1 2) ((nmS fb L 0 999 τ).1))))] H := hP
          have hD : va_D A [(pa, .inr (5, [.int (nI L), .ref ca, .ref ds, .int (nI (sk fb L (((nmS fb L 0 999 τ).2).1))), .int (nI ((nmS fb L 0 999 τ).2).2.2.2), .int dp, .int hfe, .ref o])), (ca, .inr (3, [.ref ha, .int ((hdr fb L dr1 τ) 2)])), (ha, .inl (k 0, 16, .inl (upd hf1 (dN dr1 2) ((nmS fb L 0 999 τ).1))))] := hD
          refine lv_if_ne (tgt := 0) hx hb dX6_holidays_74 (by decide) (fun c_74 => ?_) (fun c_74 => ?_)
          · have b_74 := bI_nz c_74
            exact W_more (by first | exact Nat.le_of_ble_eq_true rfl | omega | (dsimp only [Rm]; omega)) (by first | exact Nat.le_of_ble_eq_true rfl | omega | (dsimp only [Rm]; omega)) (ih_0 (sk fb L (nmS fb L 0 999 τ).2.1, (nmS fb L 0 999 τ).2.2) (hdr fb L dr1 τ) _ h7 (okS_sk hL hok7 h7) ((hol_go h7 hb2 hb3 (bI_nz c_74)).symm.trans hfu) hho2 (by show L + 2 ≤ sk fb L (nmS fb L 0 999 τ).2.1 + n; omega) (by show σ.1 ≤ sk fb L (nmS fb L 0 999 τ).2.1; omega) _ _ hP (va_D_of hD rfl) hS ls (lv_sub hl [1] rfl))
          · have b_74 := bI_0.mp c_74
            exact vy_ret (j_vret hAe C (upd hf1 (dN dr1 2) (nmS fb L 0 999 τ).1) rfl (by rw [← hfu, hol_st h7 hb2 hb3 (bI_0.mp c_74)]; exact ⟨h7, hho2⟩) (by rw [← hfu, hol_st h7 hb2 hb3 (bI_0.mp c_74)]; exact hP) (va_D_of hD rfl) hS (by first | exact Nat.le_of_ble_eq_true rfl | omega | (dsimp only [Rm]; omega)) (by first | exact Nat.le_of_ble_eq_true rfl | omega | (dsimp only [Rm]; omega)) dX6_holidays_77)
        refine lv_icmp_ge (tgt := 52) hx hb dX6_holidays_45 (by decide) (fun c_45 => ?_) (fun c_45 => ?_)
        · refine lv_iconst (v := 0) hx hb dX6_holidays_52 rfl ?_
          exact J_53 0 (by first | exact bI_f (fun h => h (ho16 hho1.2 c_45)) | exact bI_t (fun h => c_45 (by rw [h]; decide))) ls hl
        · refine lv_iconst (v := 1) hx hb dX6_holidays_48 rfl ?_
          refine lv_goto (tgt := 53) hx hb dX6_holidays_49 (by decide) ?_
          exact J_53 1 (by first | exact bI_f (fun h => h (ho16 hho1.2 c_45)) | exact bI_t (fun h => c_45 (by rw [h]; decide))) ls hl
      refine lv_if_ne (tgt := 25) hx hb dX6_holidays_18 (by decide) (fun c_18 => ?_) (fun c_18 => ?_)
      · have b_18 := bI_nz c_18
        refine lv_iconst (v := 0) hx hb dX6_holidays_25 rfl ?_
        exact J_26 0 (by first | exact bI_f (fun h => h (bI_nz c_18)) | exact bI_t (bI_0.mp c_18)) ls hl
      · have b_18 := bI_0.mp c_18
        refine lv_iconst (v := 1) hx hb dX6_holidays_21 rfl ?_
        refine lv_goto (tgt := 26) hx hb dX6_holidays_22 (by decide) ?_
        exact J_26 1 (by first | exact bI_f (fun h => h (bI_nz c_18)) | exact bI_t (bI_0.mp c_18)) ls hl
  exact W_more (by first | exact Nat.le_of_ble_eq_true rfl | omega | (dsimp only [Rm]; omega)) (by first | exact Nat.le_of_ble_eq_true rfl | omega | (dsimp only [Rm]; omega)) (loop_0 (L + 2) σ dr hf hσ hok rfl hho (by omega) (Nat.le_refl _) _ _ hP (va_D_of hD rfl) hS ls (lv_sub hl [0] rfl))
