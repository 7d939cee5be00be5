/-! the component: the fee (printed by gen/m35.py) -/
set_option maxRecDepth 100000
def usr (x y : Int32) : Int32 := (x.toUInt32 >>> (y.toUInt32 &&& Int32.toUInt32 31)).toInt32
def bk1 (x : Int32) : Int32 := x - (usr x 1 &&& 1431655765)
def bk2 (x : Int32) : Int32 := (x &&& 858993459) + (usr x 2 &&& 858993459)
def bk3 (x : Int32) : Int32 := (x + usr x 4) &&& 252645135
def bk4 (x : Int32) : Int32 := x + usr x 8
def bk5 (x : Int32) : Int32 := x + usr x 16
theorem bit_cnt : ∀ n, n < 128 → bk5 (bk4 (bk3 (bk2 (bk1 (nI n))))) &&& 63 = nI (bcF 7 n) := by decide +kernel
/-- the fee of a desk -/
def feD (g : Nat → Nat) (F : FeF) (z : Nat) (H : Heap) : Prop := feT g 450 F z H
theorem feD_fr {g : Nat → Nat} {F : FeF} {z : Nat} {H0 H : Heap} {locs : List Loc} (h : feD g F z H0) (hS : va_S (fun q => H0.size ≤ q) H0 H locs) : feD g F z H := feT_kept (fun q hq => hS.2.1 q hq (by omega)) h
def cfee (F : FeF) (d : Nat → Int32) (q : Nat) : Int32 := (mxL 0 (mnL 999999 (F (pf d q 2).toInt64 (d 3 - pf d q 1).toInt64 (nI (bcF 7 (dN d (154 + 6 * q + 3)))).toInt64))).toInt32
section RUN12
variable {p : Program} {l : Launch} {e : Env} {R : Room} {s : State} {m : MethodId} {args : Array Value} {below : List Frame} {meth : Method} {c : Code} {H : Heap} {locs : List Loc} {cells slots : Nat} {cc : ByteArray} {nL : Nat} {own : String} {Ts : List Cond}
theorem va_runS12 {y : MethodName} {ws : List Cond} {rm : Room} {Pc : Array Value → State → Prop} {Qc : Array Value → State → Outcome → State → Prop} {mc ms n index maxL : Nat} {free : Addr → Prop} {bytes : ByteArray} {ret : Option FieldType} {As rest : List Value} {g : JFrame} (S : CallFix p m c cc nL s args Ts own) (hM : Met l y ws rm Pc Qc mc ms free) (cw : CallB R s args own index y bytes maxL ret ws rm mc ms n ∧ (Cond.static y).before args s = true) (hp : PreS s H Pc As)
    (hg : g.method = m) (hn : As.length = n) (hsize : g.locals.size = nL) (hstack : g.stack = As.reverse ++ rest) (hlo2 : 16 + (maxL + 11) + rm.locals ≤ R.locals) (hW : 2 * g.monitorRoom + (rest.map fun v => v.category).sum ≤ 16) (hdg : decode cc g.pc = .ok (.invokestatic index, 3)) (hf : cells + mc ≤ R.cells ∧ slots + ms ≤ R.slots) :
    va_Run p l e R s m args below meth c H locs cells slots mc ms g rest (Qc As.toArray) (free) := by
  have hK : Back l R p e below s args y 3 16 (PreOf R mc ms Pc) (PostOf Qc mc ms free) := by
    obtain ⟨⟨hrc, hrs, hfr, hlo, hws, hcw, -, hini, -⟩, -⟩ := cw
    exact back_of (bytes := bytes) (maxL := maxL) (ret := ret) hM hp.1 hrc hrs hfr hlo2 hws hcw (fun a' U hW => word_at hW (Or.inl (by first | rfl | simp [Cond.onTables, Cond.keeps, Cond.steady])) hini)
  obtain ⟨⟨-, -, -, -, -, -, hcode, hini, hy, hlen, hl⟩, hstt⟩ := cw
  obtain ⟨hx, hb, hml, ho, -⟩ := S
  intro T hT X
  obtain ⟨v, vm₁, ⟨U', l2, c2, s2⟩, hW₁, X', ⟨g', mk, t, L, e1, e2, hq, h1, hL, h2, h3⟩, st⟩ := callS X hx (bytes := bytes) (maxL := maxL) (ret := ret) ho hl hstt hini hcode hy hK hg (hsize.trans hml.symm) (argsL := As) (rest := rest) (fun sig h => hn.trans (hlen sig h)) hstack hW (by rw [hb]; exact hdg)
    (fun vm₁ hW₁ => ⟨hf.1, hf.2, hp.2 (T.setVm vm₁) hT hW₁⟩)
  dsimp only [Pt.U, Pt.locs, Pt.cells, Pt.slots] at X' e1 e2 h1 h2 h3 st
  subst h1; subst h2; subst h3
  exact ⟨v, (T.setVm vm₁).calling g' mk As.toArray, t, U', L, hT, X', hL, e1, e2, hq, st⟩
end RUN12
set_option maxHeartbeats 4000000 in
theorem j_bitCount (l : Launch) (D : va_G) (k : Nat → ClassId) (g : Nat → Nat) (n : Nat) (hn : n < 128) : sM l D k yJ18_bitCount cJ18_bitCount 1 (some .int) 0 0 [.int (nI n)] (hKX (fun HH => True) g) (some (.int (nI (bcF 7 n)))) := by
  refine sM_of (by decide) (Nat.le_of_ble_eq_true rfl) ?_
  intro p e s m below meth c ls C hK ⟨_, hX⟩ hl
  have hS : va_S (G0 g) s.heap s.heap [] := va_S.rf
  have hAN : ∀ q, G0 g q → g 0 ≤ q := fun _ h => h
  have hN : NW s := hX.nw
  obtain ⟨hx, hb, hr, hml, hown, hts, hlk⟩ := id C
  have hl : lv_has ls 1 [(0, .int (nI n))] := hl
  refine lv_iload_n hx hb dJ18_bitCount_0 rfl (lv_at hl 0 rfl) ?_
  refine lv_iload_n hx hb dJ18_bitCount_1 rfl (lv_at hl 0 rfl) ?_
  refine lv_iconst (v := 1) hx hb dJ18_bitCount_2 rfl ?_
  refine lv_iushr (v := usr (nI n) 1) hx hb dJ18_bitCount_3 rfl ?_
  refine lv_ldcw (v := 1431655765) hx hb hown (hts _ q1447) dJ18_bitCount_4 ?_
  refine lv_iand hx hb dJ18_bitCount_7 ?_
  refine lv_isub hx hb dJ18_bitCount_8 ?_
  refine w_topi (y := bk1 (nI n)) rfl ?_
  refine lv_istore_n (lv' := [(0, .int (bk1 (nI n)))]) hx hb dJ18_bitCount_9 rfl hl (by decide) rfl (fun ls hl => ?_)
  refine lv_iload_n hx hb dJ18_bitCount_10 rfl (lv_at hl 0 rfl) ?_
  refine lv_ldcw (v := 858993459) hx hb hown (hts _ q1448) dJ18_bitCount_11 ?_
  refine lv_iand hx hb dJ18_bitCount_14 ?_
  refine lv_iload_n hx hb dJ18_bitCount_15 rfl (lv_at hl 0 rfl) ?_
  refine lv_iconst (v := 2) hx hb dJ18_bitCount_16 rfl ?_
  refine lv_iushr (v := usr (bk1 (nI n)) 2) hx hb dJ18_bitCount_17 rfl ?_
  refine lv_ldcw (v := 858993459) hx hb hown (hts _ q1448) dJ18_bitCount_18 ?_
  refine lv_iand hx hb dJ18_bitCount_21 ?_
  refine lv_iadd hx hb dJ18_bitCount_22 ?_
  refine w_topi (y := bk2 (bk1 (nI n))) rfl ?_
  refine lv_istore_n (lv' := [(0, .int (bk2 (bk1 (nI n))))]) hx hb dJ18_bitCount_23 rfl hl (by decide) rfl (fun ls hl => ?_)
  refine lv_iload_n hx hb dJ18_bitCount_24 rfl (lv_at hl 0 rfl) ?_
  refine lv_iload_n hx hb dJ18_bitCount_25 rfl (lv_at hl 0 rfl) ?_
  refine lv_iconst (v := 4) hx hb dJ18_bitCount_26 rfl ?_
  refine lv_iushr (v := usr (bk2 (bk1 (nI n))) 4) hx hb dJ18_bitCount_27 rfl ?_
  refine lv_iadd hx hb dJ18_bitCount_28 ?_
  refine lv_ldcw (v := 252645135) hx hb hown (hts _ q1449) dJ18_bitCount_29 ?_
  refine lv_iand hx hb dJ18_bitCount_32 ?_
  refine w_topi (y := bk3 (bk2 (bk1 (nI n)))) rfl ?_
  refine lv_istore_n (lv' := [(0, .int (bk3 (bk2 (bk1 (nI n)))))]) hx hb dJ18_bitCount_33 rfl hl (by decide) rfl (fun ls hl => ?_)
  refine lv_iload_n hx hb dJ18_bitCount_34 rfl (lv_at hl 0 rfl) ?_
  refine lv_iload_n hx hb dJ18_bitCount_35 rfl (lv_at hl 0 rfl) ?_
  refine lv_bipush (v := 8) hx hb dJ18_bitCount_36 rfl ?_
  refine lv_iushr (v := usr (bk3 (bk2 (bk1 (nI n)))) 8) hx hb dJ18_bitCount_38 rfl ?_
  refine lv_iadd hx hb dJ18_bitCount_39 ?_
  refine w_topi (y := bk4 (bk3 (bk2 (bk1 (nI n))))) rfl ?_
  refine lv_istore_n (lv' := [(0, .int (bk4 (bk3 (bk2 (bk1 (nI n))))))]) hx hb dJ18_bitCount_40 rfl hl (by decide) rfl (fun ls hl => ?_)
  refine lv_iload_n hx hb dJ18_bitCount_41 rfl (lv_at hl 0 rfl) ?_
  refine lv_iload_n hx hb dJ18_bitCount_42 rfl (lv_at hl 0 rfl) ?_
  refine lv_bipush (v := 16) hx hb dJ18_bitCount_43 rfl ?_
  refine lv_iushr (v := usr (bk4 (bk3 (bk2 (bk1 (nI n))))) 16) hx hb dJ18_bitCount_45 rfl ?_
  refine lv_iadd hx hb dJ18_bitCount_46 ?_
  refine w_topi (y := bk5 (bk4 (bk3 (bk2 (bk1 (nI n)))))) rfl ?_
  refine lv_istore_n (lv' := [(0, .int (bk5 (bk4 (bk3 (bk2 (bk1 (nI n)))))))]) hx hb dJ18_bitCount_47 rfl hl (by decide) rfl (fun ls hl => ?_)
  refine lv_iload_n hx hb dJ18_bitCount_48 rfl (lv_at hl 0 rfl) ?_
  refine lv_bipush (v := 63) hx hb dJ18_bitCount_49 rfl ?_
  refine lv_iand hx hb dJ18_bitCount_51 ?_
  exact r_iret C (bit_cnt n hn) dJ18_bitCount_52
set_option maxHeartbeats 4000000 in
theorem c_feeOf (l : Launch) (D : va_G) (k : Nat → ClassId) (g : Nat → Nat) (z : Nat → Nat) (hf d : Nat → Int32) (hz : dkN g z hf d) (F : FeF) (q : Nat) (hq : q < dN d 1) : gM l D k yX2_feeOf cX2_feeOf 2 (some .int) 902 27066 0 0 [.ref (z 0), .ref (z (32 + q))] (hKX (fun HH => dk D k z hf d HH ∧ feD g F (z 9) HH) g) (some (.int (cfee F d q))) := by
  refine gM_of (by decide) (Nat.le_of_ble_eq_true rfl) ?_
  intro p e s m below meth c ls C hK ⟨⟨hdk, hfe⟩, hX⟩ hS hl
  have hP : va_P D clA [] s.heap := va_nil
  have hD : va_D (fun q => s.heap.size ≤ q) [] := va_D_nod.mpr ⟨List.nodup_nil, fun q h => by cases h⟩
  have hA : ∀ q, s.heap.size ≤ q → s.heap.size ≤ q := fun _ h => h
  have hAN : ∀ q, s.heap.size ≤ q → g 0 ≤ q := fun q h => Nat.le_trans hX.le h
  have hN : NW s := hX.nw
  obtain ⟨hx, hb, hr, hml, hown, hts, hlk⟩ := id C
  have hl : lv_has ls 2 [(0, .ref (z 0)), (1, .ref (z (32 + q)))] := hl
  have hF : va_P D clA [(z 0, .inr (2, [.ref (z 1), .ref (z 3), .ref (z 6), .ref (z 9), .int (d 3)])), (z 1, .inr (3, [.ref (z 2), .int (d 2)])), (z 2, .inl (k 0, 16, .inl hf)), (z 3, .inr (4, [.ref (z 4), .int 12])), (z 4, .inr (12, [.int (nI (z 12)), .ref (z 5), .int (nI (dN d 0))])), (z 6, .inr (4, [.ref (z 7), .int 24])), (z 7, .inr (12, [.int (nI (z 13)), .ref (z 8), .int (nI (dN d 1))]))] s.heap := hdk.1
  have hd := hz.1
  have hh := hz.2.1
  have h10 := hz.2.2
  obtain ⟨h10, h10b, h11, h11b, -⟩ := h10
  have hd0 := hd.1.1.2
  have hd1 := hd.1.2.1.2
  obtain ⟨-, -, -, hq3, -⟩ := hd.2.2.2 q hq
  have hq3b := hq3.2
  refine lv_lconst (v := 0) hx hb dX2_feeOf_0 rfl ?_
  refine lv_ldc2 (v := 999999) hx hb hown (hts _ q1443) dX2_feeOf_1 ?_
  refine lv_aload_n hx hb dX2_feeOf_4 rfl (lv_at hl 0 rfl) ?_
  refine va_get hx hb hts in_X2 hown hK (frzF hF hS) 0 rfl rfl 3 (by decide) (hts _ q203) (fun _ h => h) rfl dX2_feeOf_5 ?_
  refine lv_aload_n hx hb dX2_feeOf_8 rfl (lv_at hl 1 rfl) ?_
  refine va_getN hx hb hts in_X12 hown hK (frzF (hdk.2.2.2.2 q (by omega)) hS) 0 rfl rfl 2 (by decide) ((hN _ q1549 rfl).use rfl) (fun _ h => h) rfl dX2_feeOf_9 ?_
  refine lv_i2l (v := (pf d q 2).toInt64) hx hb dX2_feeOf_12 rfl ?_
  refine lv_aload_n hx hb dX2_feeOf_13 rfl (lv_at hl 0 rfl) ?_
  refine va_get hx hb hts in_X2 hown hK (frzF hF hS) 0 rfl rfl 4 (by decide) (hts _ q205) (fun _ h => h) rfl dX2_feeOf_14 ?_
  refine lv_aload_n hx hb dX2_feeOf_17 rfl (lv_at hl 1 rfl) ?_
  refine va_getN hx hb hts in_X12 hown hK (frzF (hdk.2.2.2.2 q (by omega)) hS) 0 rfl rfl 1 (by decide) ((hN _ q1547 rfl).use rfl) (fun _ h => h) rfl dX2_feeOf_18 ?_
  refine lv_isub hx hb dX2_feeOf_21 ?_
  refine lv_i2l (v := ((d 3) - (pf d q 1)).toInt64) hx hb dX2_feeOf_22 rfl ?_
  refine lv_aload_n hx hb dX2_feeOf_23 rfl (lv_at hl 1 rfl) ?_
  refine va_getN hx hb hts in_X12 hown hK (frzF (hdk.2.2.2.2 q (by omega)) hS) 0 rfl rfl 3 (by decide) ((hN _ q1552 rfl).use rfl) (fun _ h => h) rfl dX2_feeOf_24 ?_
  refine w_topi (y := nI (dN d (154 + 6 * q + 3))) hq3.1 ?_
  refine r_after (va_runS12 (As := [.int (nI (dN d (154 + 6 * q + 3)))]) (rest := [.long (((d 3) - (pf d q 1)).toInt64), .long ((pf d q 2).toInt64), .ref (z 9), .long 999999, .long 0]) (g := F0 m 27 ls [.int (nI (dN d (154 + 6 * q + 3))), .long (((d 3) - (pf d q 1)).toInt64), .long ((pf d q 2).toInt64), .ref (z 9), .long 999999, .long 0]) C.fix (j_bitCount l D k g (dN d (154 + 6 * q + 3)) (by omega)) (va_cwS 1 hts (lw_S q1444 q1445 q93 q1446) rfl rfl rfl (by decide +kernel) ⟨Nat.le_of_ble_eq_true rfl, Nat.le_of_ble_eq_true rfl⟩) (preS mv2_hKX hK (fun U hU hW => (hKX_at hX hS hAN trivial hU hW))) rfl rfl hl.1 rfl (Nat.le_of_ble_eq_true rfl) (show 2 * 0 + _ ≤ 16 from Nat.le_of_ble_eq_true rfl) dX2_feeOf_27 ⟨(by first | exact Nat.le_of_ble_eq_true rfl | omega | (dsimp only [Rm]; omega)), (by first | exact Nat.le_of_ble_eq_true rfl | omega | (dsimp only [Rm]; omega))⟩) ?_
  refine lv_i2l (v := (nI (bcF 7 (dN d (154 + 6 * q + 3)))).toInt64) hx hb dX2_feeOf_30 rfl ?_
  refine g_after5 (fee_run 450 F (z 9) ((pf d q 2).toInt64) (((d 3) - (pf d q 1)).toInt64) ((nI (bcF 7 (dN d (154 + 6 * q + 3)))).toInt64) p e _ s m _ below meth c s.heap [] (0 + 0) (0 + 0) _ 31 ls [.long 999999, .long 0] _ _ _ hx hb (hml.trans hl.1.symm) hown hts hK hX (fun U hU hW => hKX_at (P := feT g 450 F (z 9)) hX hS hAN (feD_fr hfe hS) hU hW) (hts _ q1451) (by dsimp only [Rm]; omega) (by dsimp only [Rm]; omega) (Nat.le_of_ble_eq_true rfl) ⟨(by first | exact Nat.le_of_ble_eq_true rfl | omega | (dsimp only [Rm]; omega)), (by first | exact Nat.le_of_ble_eq_true rfl | omega | (dsimp only [Rm]; omega))⟩ dX2_feeOf_31) hS (fun H hS hsz hk => ?_)
  have hP : va_P D clA [] H := hP.kept (fun i q hi => hk q.1 ((hP i q hi).lt))
  refine va_mmin_long hx hb (hml.trans hl.1.symm) hown (hts _ q1452) (hts _ q1109) (hts _ q87) (hts _ q1110) (Nat.le_of_ble_eq_true rfl) (Nat.le_of_ble_eq_true rfl) (by first | exact Nat.le_of_ble_eq_true rfl | omega | (dsimp only [Rm]; omega)) (by first | exact Nat.le_of_ble_eq_true rfl | omega | (dsimp only [Rm]; omega)) dX2_feeOf_36 ?_
  refine w_topl (y := mnL 999999 (F ((pf d q 2).toInt64) (((d 3) - (pf d q 1)).toInt64) ((nI (bcF 7 (dN d (154 + 6 * q + 3)))).toInt64))) rfl ?_
  refine va_mmax_long hx hb (hml.trans hl.1.symm) hown (hts _ q1453) (hts _ q1112) (hts _ q87) (hts _ q1113) (Nat.le_of_ble_eq_true rfl) (Nat.le_of_ble_eq_true rfl) (by first | exact Nat.le_of_ble_eq_true rfl | omega | (dsimp only [Rm]; omega)) (by first | exact Nat.le_of_ble_eq_true rfl | omega | (dsimp only [Rm]; omega)) dX2_feeOf_39 ?_
  refine w_topl (y := mxL 0 (mnL 999999 (F ((pf d q 2).toInt64) (((d 3) - (pf d q 1)).toInt64) ((nI (bcF 7 (dN d (154 + 6 * q + 3)))).toInt64)))) rfl ?_
  refine lv_l2i (v := (mxL 0 (mnL 999999 (F ((pf d q 2).toInt64) (((d 3) - (pf d q 1)).toInt64) ((nI (bcF 7 (dN d (154 + 6 * q + 3)))).toInt64)))).toInt32) hx hb dX2_feeOf_42 rfl ?_
  exact g_iret C rfl hS (by first | exact Nat.le_of_ble_eq_true rfl | omega | (dsimp only [Rm]; omega)) (by first | exact Nat.le_of_ble_eq_true rfl | omega | (dsimp only [Rm]; omega)) dX2_feeOf_43
set_option maxHeartbeats 4000000 in
theorem c_Pfee (l : Launch) (D : va_G) (k : Nat → ClassId) (g : Nat → Nat) (o bb dq : Nat) (bl eo : Int32) (z : Nat → Nat) (hf d : Nat → Int32) (hz : dkN g z hf d) (F : FeF) (x : Int32) (htr : l.stackTraces = false) : oM l D k yX1_fee cX1_fee 2 (some .int) 903 27087 1 6 [.ref o, .int x] (hKX (fun HH => va_P D clA [(o, .inr (1, [.ref bb, .ref dq, .ref (z 0), .int bl, .int eo]))] HH ∧ dk D k z hf d HH ∧ feD g F (z 9) HH) g) (hasP d x) (some (.int (cfee F d (ci x)))) (fun E => ¬ hasP d x ∧ E = "java/lang/IndexOutOfBoundsException") := by
  refine oM_of (by decide) (Nat.le_of_ble_eq_true rfl) ?_
  intro p e s m below meth c ls C hnt hK ⟨⟨hO, hdk, hfe⟩, hX⟩ hS hl
  have hP : va_P D clA [] s.heap := va_nil
  have hD : va_D (fun q => s.heap.size ≤ q) [] := va_D_nod.mpr ⟨List.nodup_nil, fun q h => by cases h⟩
  have hA : ∀ q, s.heap.size ≤ q → s.heap.size ≤ q := fun _ h => h
  have hAN : ∀ q, s.heap.size ≤ q → g 0 ≤ q := fun q h => Nat.le_trans hX.le h
  have hN : NW s := hX.nw
  obtain ⟨hx, hb, hr, hml, hown, hts, hlk⟩ := id C
  have hl : lv_has ls 2 [(0, .ref o), (1, .int x)] := hl
  have hF : va_P D clA [(o, .inr (1, [.ref bb, .ref dq, .ref (z 0), .int bl, .int eo])), (z 0, .inr (2, [.ref (z 1), .ref (z 3), .ref (z 6), .ref (z 9), .int (d 3)])), (z 1, .inr (3, [.ref (z 2), .int (d 2)])), (z 2, .inl (k 0, 16, .inl hf)), (z 3, .inr (4, [.ref (z 4), .int 12])), (z 4, .inr (12, [.int (nI (z 12)), .ref (z 5), .int (nI (dN d 0))])), (z 6, .inr (4, [.ref (z 7), .int 24])), (z 7, .inr (12, [.int (nI (z 13)), .ref (z 8), .int (nI (dN d 1))]))] s.heap := va_cons (hO 0 _ rfl) hdk.1
  have hd := hz.1
  have hh := hz.2.1
  have h10 := hz.2.2
  obtain ⟨h10, h10b, h11, h11b, -⟩ := h10
  have hd0 := hd.1.1.2
  have hd1 := hd.1.2.1.2
  refine lv_aload_n hx hb dX1_fee_0 rfl (lv_at hl 0 rfl) ?_
  refine va_get hx hb hts in_X1 hown hK (frzF hF hS) 0 rfl rfl 2 (by decide) (hts _ q221) (fun _ h => h) rfl dX1_fee_1 ?_
  refine lv_aload_n hx hb dX1_fee_4 rfl (lv_at hl 0 rfl) ?_
  refine lv_iload_n hx hb dX1_fee_5 rfl (lv_at hl 1 rfl) ?_
  refine o_after (vy_runV (As := [.int x]) (rest := [.ref (z 0)]) (g := F0 m 6 ls [.int x, .ref o, .ref (z 0)]) C.fix (c_presAt l D k g o bb dq bl eo z hf d hz x htr) (cwV 1 hts (lw_V q1395 q1397 qs26 q68 q1398) rfl rfl rfl (by decide +kernel) ⟨Nat.le_of_ble_eq_true rfl, Nat.le_of_ble_eq_true rfl⟩) (preV mv2_hKX hK (va_recv hK (frzF hF hS) (ci := 1) (q0 := 0) rfl rfl) (fun U hU hW => (hKX_at hX hS hAN (⟨(frzF hO hS), (dk_frF hdk hS)⟩) hU hW))) rfl rfl hl.1 rfl (lv_room (Nat.le_of_ble_eq_true rfl)) dX1_fee_6 ⟨(by first | exact Nat.le_of_ble_eq_true rfl | omega | (dsimp only [Rm]; omega)), (by first | exact Nat.le_of_ble_eq_true rfl | omega | (dsimp only [Rm]; omega))⟩) hS (fun E ce q9 H hth hS hk hce hcv hcl => o_out hnt hlk (hth) hS hce hcv hcl (by first | exact Nat.le_of_ble_eq_true rfl | omega | (dsimp only [Rm]; omega)) (by first | exact Nat.le_of_ble_eq_true rfl | omega | (dsimp only [Rm]; omega))) (fun H hp6 hS hsz hk => ?_)
  have hP : va_P D clA [] H := hP.kept (fun i q hi => hk q.1 ((hP i q hi).lt))
  have hD : va_D (fun q => s.heap.size ≤ q) [] := hD
  obtain ⟨hcx, ecx⟩ := hasP_ci hd hp6
  refine g_after (va_runV (As := [.ref (z (32 + ci x))]) (rest := []) (g := F0 m 9 ls [.ref (z (32 + ci x)), .ref (z 0)]) C.fix (c_feeOf l D k g z hf d hz F (ci x) (by omega)) (cwV 1 hts (lw_V q1439 q1440 q1441 q71 q1442) rfl rfl rfl (by decide +kernel) ⟨Nat.le_of_ble_eq_true rfl, Nat.le_of_ble_eq_true rfl⟩) (preV mv2_hKX hK (va_recv hK (frzF hF hS) (ci := 2) (q0 := 1) rfl rfl) (fun U hU hW => (hKX_at hX hS hAN (⟨(dk_frF hdk hS), feD_fr hfe hS⟩) hU hW))) rfl rfl hl.1 rfl (lv_room (Nat.le_of_ble_eq_true rfl)) dX1_fee_9 ⟨(by first | exact Nat.le_of_ble_eq_true rfl | omega | (dsimp only [Rm]; omega)), (by first | exact Nat.le_of_ble_eq_true rfl | omega | (dsimp only [Rm]; omega))⟩) hS (fun H hS hsz hk => ?_)
  have hP : va_P D clA [] H := hP.kept (fun i q hi => hk q.1 ((hP i q hi).lt))
  have hD : va_D (fun q => s.heap.size ≤ q) [] := hD
  exact o_iret C hp6 rfl hS (by first | exact Nat.le_of_ble_eq_true rfl | omega | (dsimp only [Rm]; omega)) (by first | exact Nat.le_of_ble_eq_true rfl | omega | (dsimp only [Rm]; omega)) dX1_fee_12
