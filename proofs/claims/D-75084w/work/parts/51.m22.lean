/-! the component: ArrayList and Book (reading), Credit, Presentation (printed by gen/m22.py) -/
set_option maxRecDepth 100000
theorem mn_if (x y : Int32) : (if y < x then y else x) = mn x y := by
  unfold mn
  by_cases h : y < x
  · rw [if_pos h, if_neg (fun z => Int32.lt_irrefl (Int32.lt_trans h z))]
  · rw [if_neg h]
    by_cases z : x < y
    · rw [if_pos z]
    · rw [if_neg z]
      exact Int32.le_antisymm (Int32.not_lt.mp h) (Int32.not_lt.mp z)
def mx (a b : Int32) : Int32 := if a < b then b else a
def mnL (a b : Int64) : Int64 := if b < a then b else a
def mxL (a b : Int64) : Int64 := if b < a then a else b
set_option maxHeartbeats 4000000 in
theorem j_alSize (l : Launch) (D : va_G) (k : Nat → ClassId) (li el : Nat) (mc x : Int32) (wr : va_W) : rM l D k yJ3_size cJ3_size 1 (some .int) 0 0 [.ref li] (va_P D clA ((li, .inr (12, [.int mc, .ref el, .int x])) :: wr)) (some (.int x)) := by
  refine rM_of (by decide) (Nat.le_of_ble_eq_true rfl) ?_
  intro p e s m below meth c ls C hK hP hl
  obtain ⟨hx, hb, hr, hml, hown, hts, hlk⟩ := id C
  have hl : lv_has ls 1 [(0, .ref li)] := hl
  refine lv_aload_n hx hb dJ3_size_0 rfl (lv_at hl 0 rfl) ?_
  refine va_get hx hb hts in_J3 hown hK hP 0 rfl rfl 2 (by decide) (hts _ q175) (fun _ h => h) rfl dJ3_size_1 ?_
  exact r_iret C rfl dJ3_size_4
set_option maxHeartbeats 4000000 in
theorem j_ObjCheckIndex (l : Launch) (D : va_G) (k : Nat → ClassId) (j n : Nat) (hj : j < n) (hn : n < 2 ^ 31) : rM l D k yJ23_checkIndex cJ23_checkIndex 2 (some .int) 1 22 [.int (nI j), .int (nI n)] (fun _ => True) (some (.int (nI j))) := by
  refine rM_of (by decide) (Nat.le_of_ble_eq_true rfl) ?_
  intro p e s m below meth c ls C hK _ hl
  obtain ⟨hx, hb, hr, hml, hown, hts, hlk⟩ := id C
  have hl : lv_has ls 2 [(0, .int (nI j)), (1, .int (nI n))] := hl
  refine lv_iload_n hx hb dJ23_checkIndex_0 rfl (lv_at hl 0 rfl) ?_
  refine lv_iload_n hx hb dJ23_checkIndex_1 rfl (lv_at hl 1 rfl) ?_
  refine lv_null hx hb dJ23_checkIndex_2 ?_
  refine r_callS (As := [.int (nI j), .int (nI n), .null]) (rest := []) C (j_checkIndexN l D k j n hj hn) (va_cwS 3 hts (lw_S q293 q294 q91 q295) rfl rfl rfl (by decide +kernel) ⟨Nat.le_of_ble_eq_true rfl, Nat.le_of_ble_eq_true rfl⟩) hK trivial rfl hl.1 rfl (Nat.le_of_ble_eq_true rfl) dJ23_checkIndex_3 ⟨Nat.le_of_ble_eq_true rfl, Nat.le_of_ble_eq_true rfl⟩ ?_
  exact r_iret C rfl dJ23_checkIndex_6
set_option maxHeartbeats 4000000 in
theorem j_alData (l : Launch) (D : va_G) (k : Nat → ClassId) (li el : Nat) (mc : Int32) (c0 n j q : Nat) (f : Nat → Option Nat) (hj : j < c0) (hc : c0 ≤ n) (hn : n < 2 ^ 31) (hq : f j = some q) (wr : va_W) : rM l D k yJ3_elementData cJ3_elementData 2 (some (.object "java/lang/Object")) 0 0 [.ref li, .int (nI j)] (va_P D clA ((li, .inr (12, [.int mc, .ref el, .int (nI c0)])) :: (el, .inl (k 3, n, .inr (.inr (.inr (.inr f))))) :: wr)) (some (.ref q)) := by
  refine rM_of (by decide) (Nat.le_of_ble_eq_true rfl) ?_
  intro p e s m below meth c ls C hK hP hl
  obtain ⟨hx, hb, hr, hml, hown, hts, hlk⟩ := id C
  have hl : lv_has ls 2 [(0, .ref li), (1, .int (nI j))] := hl
  refine lv_aload_n hx hb dJ3_elementData_0 rfl (lv_at hl 0 rfl) ?_
  refine va_get hx hb hts in_J3 hown hK hP 0 rfl rfl 1 (by decide) (hts _ q174) (fun _ h => h) rfl dJ3_elementData_1 ?_
  refine lv_iload_n hx hb dJ3_elementData_4 rfl (lv_at hl 1 rfl) ?_
  refine w_oald hx hb hK hP 1 rfl j rfl (by omega) (by omega) hq dJ3_elementData_5 ?_
  exact r_aret C (Or.inl ⟨_, rfl⟩) rfl dJ3_elementData_6
set_option maxHeartbeats 4000000 in
theorem j_alGet (l : Launch) (D : va_G) (k : Nat → ClassId) (li el : Nat) (mc : Int32) (c0 n j q : Nat) (f : Nat → Option Nat) (hj : j < c0) (hc : c0 ≤ n) (hn : n < 2 ^ 31) (hq : f j = some q) (wr : va_W) : rM l D k yJ3_get cJ3_get 2 (some (.object "java/lang/Object")) 2 43 [.ref li, .int (nI j)] (va_P D clA ((li, .inr (12, [.int mc, .ref el, .int (nI c0)])) :: (el, .inl (k 3, n, .inr (.inr (.inr (.inr f))))) :: wr)) (some (.ref q)) := by
  refine rM_of (by decide) (Nat.le_of_ble_eq_true rfl) ?_
  intro p e s m below meth c ls C hK hP hl
  obtain ⟨hx, hb, hr, hml, hown, hts, hlk⟩ := id C
  have hl : lv_has ls 2 [(0, .ref li), (1, .int (nI j))] := hl
  refine lv_iload_n hx hb dJ3_get_0 rfl (lv_at hl 1 rfl) ?_
  refine lv_aload_n hx hb dJ3_get_1 rfl (lv_at hl 0 rfl) ?_
  refine va_get hx hb hts in_J3 hown hK hP 0 rfl rfl 2 (by decide) (hts _ q175) (fun _ h => h) rfl dJ3_get_2 ?_
  refine r_callS (As := [.int (nI j), .int (nI c0)]) (rest := []) C (j_ObjCheckIndex l D k j c0 (by omega) (by omega)) (va_cwS 2 hts (lw_S q290 q291 q104 q292) rfl rfl rfl (by decide +kernel) ⟨Nat.le_of_ble_eq_true rfl, Nat.le_of_ble_eq_true rfl⟩) hK trivial rfl hl.1 rfl (Nat.le_of_ble_eq_true rfl) dJ3_get_5 ⟨Nat.le_of_ble_eq_true rfl, Nat.le_of_ble_eq_true rfl⟩ ?_
  refine lv_pop hx hb dJ3_get_8 rfl ?_
  refine lv_aload_n hx hb dJ3_get_9 rfl (lv_at hl 0 rfl) ?_
  refine lv_iload_n hx hb dJ3_get_10 rfl (lv_at hl 1 rfl) ?_
  refine r_callV (As := [.int (nI j)]) (rest := []) C (j_alData l D k li el mc c0 n j q f hj hc hn hq wr) (cwV 1 hts (lw_V q296 q297 q298 q75 q299) rfl rfl rfl (by decide +kernel) ⟨Nat.le_of_ble_eq_true rfl, Nat.le_of_ble_eq_true rfl⟩) hK (va_recv hK hP (ci := 12) (q0 := 0) rfl rfl) hP rfl hl.1 rfl (Nat.le_of_ble_eq_true rfl) dJ3_get_11 ⟨Nat.le_of_ble_eq_true rfl, Nat.le_of_ble_eq_true rfl⟩ ?_
  exact r_aret C (Or.inl ⟨_, rfl⟩) rfl dJ3_get_14
set_option maxHeartbeats 4000000 in
theorem c_bookSize (l : Launch) (D : va_G) (k : Nat → ClassId) (g : Nat → Nat) (b li el : Nat) (mc cap x : Int32) : sM l D k yX4_size cX4_size 1 (some .int) 1 20 [.ref b] (hKX (fun HH => va_P D clA [(b, .inr (4, [.ref li, .int cap])), (li, .inr (12, [.int mc, .ref el, .int x]))] HH) g) (some (.int x)) := by
  refine sM_of (by decide) (Nat.le_of_ble_eq_true rfl) ?_
  intro p e s m below meth c ls C hK ⟨hF, hX⟩ hl
  have hS : va_S (G0 g) s.heap s.heap [] := va_S.rf
  have hAN : ∀ q, G0 g q → g 0 ≤ q := fun _ h => h
  have hN : NW s := hX.nw
  obtain ⟨hx, hb, hr, hml, hown, hts, hlk⟩ := id C
  have hl : lv_has ls 1 [(0, .ref b)] := hl
  refine lv_aload_n hx hb dX4_size_0 rfl (lv_at hl 0 rfl) ?_
  refine va_get hx hb hts in_X4 hown hK hF 0 rfl rfl 0 (by decide) (hts _ q186) (fun _ h => h) rfl dX4_size_1 ?_
  refine r_after5 (va_runF (As := []) (rest := []) (g := F0 m 4 ls [.ref li]) (hK.1 12 _ rfl).2 C.fix (j_alSize l D k li el mc x []) (va_cwF 0 hts (lw_F q256 q260 q262 q75 q264) rfl rfl rfl hX.iw.1 (by decide +kernel) ⟨Nat.le_of_ble_eq_true rfl, Nat.le_of_ble_eq_true rfl⟩) (preRV hK (va_recv hK hF (ci := 12) (q0 := 1) rfl rfl) (va_cons (hF 1 _ rfl) va_nil)) rfl rfl hl.1 rfl (lv_room (Nat.le_of_ble_eq_true rfl)) dX4_size_4 ⟨(by first | exact Nat.le_of_ble_eq_true rfl | omega | (dsimp only [Rm]; omega)), (by first | exact Nat.le_of_ble_eq_true rfl | omega | (dsimp only [Rm]; omega))⟩) ?_
  exact r_iret C rfl dX4_size_9
set_option maxHeartbeats 4000000 in
theorem c_bookGet (l : Launch) (D : va_G) (k : Nat → ClassId) (g : Nat → Nat) (b : Nat) (cap : Int32) (li el : Nat) (mc : Int32) (c0 n j q : Nat) (f : Nat → Option Nat) (hj : j < c0) (hc : c0 ≤ n) (hn : n < 2 ^ 31) (hq : f j = some q) : sM l D k yX4_get cX4_get 2 (some (.object "java/lang/Object")) 3 64 [.ref b, .int (nI j)] (hKX (fun HH => va_P D clA [(b, .inr (4, [.ref li, .int cap])), (li, .inr (12, [.int mc, .ref el, .int (nI c0)])), (el, .inl (k 3, n, .inr (.inr (.inr (.inr f)))))] HH) g) (some (.ref q)) := by
  refine sM_of (by decide) (Nat.le_of_ble_eq_true rfl) ?_
  intro p e s m below meth c ls C hK ⟨hF, hX⟩ hl
  have hS : va_S (G0 g) s.heap s.heap [] := va_S.rf
  have hAN : ∀ q, G0 g q → g 0 ≤ q := fun _ h => h
  have hN : NW s := hX.nw
  obtain ⟨hx, hb, hr, hml, hown, hts, hlk⟩ := id C
  have hl : lv_has ls 2 [(0, .ref b), (1, .int (nI j))] := hl
  refine lv_aload_n hx hb dX4_get_0 rfl (lv_at hl 0 rfl) ?_
  refine va_get hx hb hts in_X4 hown hK hF 0 rfl rfl 0 (by decide) (hts _ q186) (fun _ h => h) rfl dX4_get_1 ?_
  refine lv_iload_n hx hb dX4_get_4 rfl (lv_at hl 1 rfl) ?_
  refine r_after5 (va_runF (As := [.int (nI j)]) (rest := []) (g := F0 m 5 ls [.int (nI j), .ref li]) (hK.1 12 _ rfl).2 C.fix (j_alGet l D k li el mc c0 n j q f hj hc hn hq []) (va_cwF 1 hts (lw_F q282 q285 q287 q75 q289) rfl rfl rfl hX.iw.2.1 (by decide +kernel) ⟨Nat.le_of_ble_eq_true rfl, Nat.le_of_ble_eq_true rfl⟩) (preRV hK (va_recv hK hF (ci := 12) (q0 := 1) rfl rfl) (va_cons (hF 1 _ rfl) (va_cons (hF 2 _ rfl) va_nil))) rfl rfl hl.1 rfl (lv_room (Nat.le_of_ble_eq_true rfl)) dX4_get_5 ⟨(by first | exact Nat.le_of_ble_eq_true rfl | omega | (dsimp only [Rm]; omega)), (by first | exact Nat.le_of_ble_eq_true rfl | omega | (dsimp only [Rm]; omega))⟩) ?_
  exact r_aret C (Or.inl ⟨_, rfl⟩) rfl dX4_get_10
set_option maxHeartbeats 4000000 in
theorem c_bookFull (l : Launch) (D : va_G) (k : Nat → ClassId) (g : Nat → Nat) (b li el : Nat) (mc cap x : Int32) : sM l D k yX4_isFull cX4_isFull 1 (some .boolean) 1 20 [.ref b] (hKX (fun HH => va_P D clA [(b, .inr (4, [.ref li, .int cap])), (li, .inr (12, [.int mc, .ref el, .int x]))] HH) g) (some (.int (bI (x = cap)))) := by
  refine sM_of (by decide) (Nat.le_of_ble_eq_true rfl) ?_
  intro p e s m below meth c ls C hK ⟨hF, hX⟩ hl
  have hS : va_S (G0 g) s.heap s.heap [] := va_S.rf
  have hAN : ∀ q, G0 g q → g 0 ≤ q := fun _ h => h
  have hN : NW s := hX.nw
  obtain ⟨hx, hb, hr, hml, hown, hts, hlk⟩ := id C
  have hl : lv_has ls 1 [(0, .ref b)] := hl
  refine lv_aload_n hx hb dX4_isFull_0 rfl (lv_at hl 0 rfl) ?_
  refine va_get hx hb hts in_X4 hown hK hF 0 rfl rfl 0 (by decide) (hts _ q186) (fun _ h => h) rfl dX4_isFull_1 ?_
  refine r_after5 (va_runF (As := []) (rest := []) (g := F0 m 4 ls [.ref li]) (hK.1 12 _ rfl).2 C.fix (j_alSize l D k li el mc x []) (va_cwF 0 hts (lw_F q256 q260 q262 q75 q264) rfl rfl rfl hX.iw.1 (by decide +kernel) ⟨Nat.le_of_ble_eq_true rfl, Nat.le_of_ble_eq_true rfl⟩) (preRV hK (va_recv hK hF (ci := 12) (q0 := 1) rfl rfl) (va_cons (hF 1 _ rfl) va_nil)) rfl rfl hl.1 rfl (lv_room (Nat.le_of_ble_eq_true rfl)) dX4_isFull_4 ⟨(by first | exact Nat.le_of_ble_eq_true rfl | omega | (dsimp only [Rm]; omega)), (by first | exact Nat.le_of_ble_eq_true rfl | omega | (dsimp only [Rm]; omega))⟩) ?_
  refine lv_aload_n hx hb dX4_isFull_9 rfl (lv_at hl 0 rfl) ?_
  refine va_get hx hb hts in_X4 hown hK hF 0 rfl rfl 1 (by decide) (hts _ q187) (fun _ h => h) rfl dX4_isFull_10 ?_
  have J_21 : ∀ (z : Int32), (z = bI (x = cap)) → ∀ (ls : Array Slot), lv_has ls 1 [(0, .ref b)] → W p l e (Rm 1 20 0 0) s m ([.ref b] : List Value).toArray below meth c s.heap [] 0 0 (MQ below (rQ (some (.int (bI (x = cap))))) ([.ref b] : List Value).toArray s 0 0 (fun _ => False)) (F0 m 21 ls [.int z]) := by
    intro z h_z ls hl
    exact r_zret C h_z dX4_isFull_21
  refine lv_icmp_ne (tgt := 20) hx hb dX4_isFull_13 (by decide) (fun c_13 => ?_) (fun c_13 => ?_)
  · refine lv_iconst (v := 0) hx hb dX4_isFull_20 rfl ?_
    exact J_21 0 (by first | exact (bI_f c_13).symm | exact (bI_t c_13).symm | exact bI_f c_13 | exact bI_t c_13) ls hl
  · refine lv_iconst (v := 1) hx hb dX4_isFull_16 rfl ?_
    refine lv_goto (tgt := 21) hx hb dX4_isFull_17 (by decide) ?_
    exact J_21 1 (by first | exact (bI_f c_13).symm | exact (bI_t c_13).symm | exact bI_f c_13 | exact bI_t c_13) ls hl
set_option maxHeartbeats 4000000 in
theorem c_max (l : Launch) (D : va_G) (k : Nat → ClassId) (cr : Nat) (pa am up lo xp la pe te ne ip it : Int32) (wr : va_W) : rM l D k yX10_max cX10_max 1 (some .int) 0 0 [.ref cr] (va_P D clA ((cr, .inr (8, [.int pa, .int am, .int up, .int lo, .int xp, .int la, .int pe, .int te, .int ne, .int ip, .int it])) :: wr)) (some (.int (am + am * up / 100))) := by
  refine rM_of (by decide) (Nat.le_of_ble_eq_true rfl) ?_
  intro p e s m below meth c ls C hK hP hl
  obtain ⟨hx, hb, hr, hml, hown, hts, hlk⟩ := id C
  have hl : lv_has ls 1 [(0, .ref cr)] := hl
  refine lv_aload_n hx hb dX10_max_0 rfl (lv_at hl 0 rfl) ?_
  refine va_get hx hb hts in_X10 hown hK hP 0 rfl rfl 1 (by decide) (hts _ q965) (fun _ h => h) rfl dX10_max_1 ?_
  refine lv_aload_n hx hb dX10_max_4 rfl (lv_at hl 0 rfl) ?_
  refine va_get hx hb hts in_X10 hown hK hP 0 rfl rfl 1 (by decide) (hts _ q965) (fun _ h => h) rfl dX10_max_5 ?_
  refine lv_aload_n hx hb dX10_max_8 rfl (lv_at hl 0 rfl) ?_
  refine va_get hx hb hts in_X10 hown hK hP 0 rfl rfl 2 (by decide) (hts _ q967) (fun _ h => h) rfl dX10_max_9 ?_
  refine lv_imul hx hb dX10_max_12 ?_
  refine lv_bipush (v := 100) hx hb dX10_max_13 rfl ?_
  refine lv_idiv hx hb dX10_max_15 (by decide) ?_
  refine lv_iadd hx hb dX10_max_16 ?_
  exact r_iret C rfl dX10_max_17
set_option maxHeartbeats 4000000 in
theorem c_min (l : Launch) (D : va_G) (k : Nat → ClassId) (cr : Nat) (pa am up lo xp la pe te ne ip it : Int32) (wr : va_W) : rM l D k yX10_min cX10_min 1 (some .int) 0 0 [.ref cr] (va_P D clA ((cr, .inr (8, [.int pa, .int am, .int up, .int lo, .int xp, .int la, .int pe, .int te, .int ne, .int ip, .int it])) :: wr)) (some (.int (am - am * lo / 100))) := by
  refine rM_of (by decide) (Nat.le_of_ble_eq_true rfl) ?_
  intro p e s m below meth c ls C hK hP hl
  obtain ⟨hx, hb, hr, hml, hown, hts, hlk⟩ := id C
  have hl : lv_has ls 1 [(0, .ref cr)] := hl
  refine lv_aload_n hx hb dX10_min_0 rfl (lv_at hl 0 rfl) ?_
  refine va_get hx hb hts in_X10 hown hK hP 0 rfl rfl 1 (by decide) (hts _ q965) (fun _ h => h) rfl dX10_min_1 ?_
  refine lv_aload_n hx hb dX10_min_4 rfl (lv_at hl 0 rfl) ?_
  refine va_get hx hb hts in_X10 hown hK hP 0 rfl rfl 1 (by decide) (hts _ q965) (fun _ h => h) rfl dX10_min_5 ?_
  refine lv_aload_n hx hb dX10_min_8 rfl (lv_at hl 0 rfl) ?_
  refine va_get hx hb hts in_X10 hown hK hP 0 rfl rfl 3 (by decide) (hts _ q968) (fun _ h => h) rfl dX10_min_9 ?_
  refine lv_imul hx hb dX10_min_12 ?_
  refine lv_bipush (v := 100) hx hb dX10_min_13 rfl ?_
  refine lv_idiv hx hb dX10_min_15 (by decide) ?_
  refine lv_isub hx hb dX10_min_16 ?_
  exact r_iret C rfl dX10_min_17
set_option maxHeartbeats 4000000 in
theorem c_has (l : Launch) (D : va_G) (k : Nat → ClassId) (pr : Nat) (cr ma am di st du : Int32) (x : Int32) (wr : va_W) : rM l D k yX12_has cX12_has 2 (some .boolean) 0 0 [.ref pr, .int x] (va_P D clA ((pr, .inr (10, [.int cr, .int ma, .int am, .int di, .int st, .int du])) :: wr)) (some (.int (bI (di >>> (x &&& 31) &&& 1 = 1)))) := by
  refine rM_of (by decide) (Nat.le_of_ble_eq_true rfl) ?_
  intro p e s m below meth c ls C hK hP hl
  obtain ⟨hx, hb, hr, hml, hown, hts, hlk⟩ := id C
  have hl : lv_has ls 2 [(0, .ref pr), (1, .int x)] := hl
  refine lv_aload_n hx hb dX12_has_0 rfl (lv_at hl 0 rfl) ?_
  refine va_get hx hb hts in_X12 hown hK hP 0 rfl rfl 3 (by decide) (hts _ q1551) (fun _ h => h) rfl dX12_has_1 ?_
  refine lv_iload_n hx hb dX12_has_4 rfl (lv_at hl 1 rfl) ?_
  refine lv_ishr hx hb dX12_has_5 ?_
  refine lv_iconst (v := 1) hx hb dX12_has_6 rfl ?_
  refine lv_iand hx hb dX12_has_7 ?_
  refine lv_iconst (v := 1) hx hb dX12_has_8 rfl ?_
  have J_17 : ∀ (z : Int32), (z = bI (di >>> (x &&& 31) &&& 1 = 1)) → ∀ (ls : Array Slot), lv_has ls 2 [(0, .ref pr), (1, .int x)] → W p l e (Rm 0 0 0 0) s m ([.ref pr, .int x] : List Value).toArray below meth c s.heap [] 0 0 (MQ below (rQ (some (.int (bI (di >>> (x &&& 31) &&& 1 = 1))))) ([.ref pr, .int x] : List Value).toArray s 0 0 (fun _ => False)) (F0 m 17 ls [.int z]) := by
    intro z h_z ls hl
    exact r_zret C h_z dX12_has_17
  refine lv_icmp_ne (tgt := 16) hx hb dX12_has_9 (by decide) (fun c_9 => ?_) (fun c_9 => ?_)
  · refine lv_iconst (v := 0) hx hb dX12_has_16 rfl ?_
    exact J_17 0 (by first | exact (bI_f c_9) | exact (bI_t c_9)) ls hl
  · refine lv_iconst (v := 1) hx hb dX12_has_12 rfl ?_
    refine lv_goto (tgt := 17) hx hb dX12_has_13 (by decide) ?_
    exact J_17 1 (by first | exact (bI_f c_9) | exact (bI_t c_9)) ls hl
set_option maxHeartbeats 4000000 in
theorem c_isDrawing (l : Launch) (D : va_G) (k : Nat → ClassId) (pr : Nat) (cr ma am di st du : Int32) (wr : va_W) : rM l D k yX12_isDrawing cX12_isDrawing 1 (some .boolean) 1 21 [.ref pr] (va_P D clA ((pr, .inr (10, [.int cr, .int ma, .int am, .int di, .int st, .int du])) :: wr)) (some (.int (bI (st ≠ 3 ∧ ¬ di >>> ((2 : Int32) &&& 31) &&& 1 = 1)))) := by
  refine rM_of (by decide) (Nat.le_of_ble_eq_true rfl) ?_
  intro p e s m below meth c ls C hK hP hl
  obtain ⟨hx, hb, hr, hml, hown, hts, hlk⟩ := id C
  have hl : lv_has ls 1 [(0, .ref pr)] := hl
  refine lv_aload_n hx hb dX12_isDrawing_0 rfl (lv_at hl 0 rfl) ?_
  refine va_get hx hb hts in_X12 hown hK hP 0 rfl rfl 4 (by decide) (hts _ q1554) (fun _ h => h) rfl dX12_isDrawing_1 ?_
  refine lv_iconst (v := 3) hx hb dX12_isDrawing_4 rfl ?_
  have J_21 : ∀ (z : Int32), (z = bI (st ≠ 3 ∧ ¬ di >>> ((2 : Int32) &&& 31) &&& 1 = 1)) → ∀ (ls : Array Slot), lv_has ls 1 [(0, .ref pr)] → W p l e (Rm 1 21 0 0) s m ([.ref pr] : List Value).toArray below meth c s.heap [] 0 0 (MQ below (rQ (some (.int (bI (st ≠ 3 ∧ ¬ di >>> ((2 : Int32) &&& 31) &&& 1 = 1))))) ([.ref pr] : List Value).toArray s 0 0 (fun _ => False)) (F0 m 21 ls [.int z]) := by
    intro z h_z ls hl
    exact r_zret C h_z dX12_isDrawing_21
  refine lv_icmp_eq (tgt := 20) hx hb dX12_isDrawing_5 (by decide) (fun c_5 => ?_) (fun c_5 => ?_)
  · refine lv_iconst (v := 0) hx hb dX12_isDrawing_20 rfl ?_
    exact J_21 0 (by first | exact bI_f (fun h => h.1 c_5) | exact bI_f (fun h => h.2 b_13) | exact bI_t ⟨c_5, b_13⟩) ls hl
  · refine lv_aload_n hx hb dX12_isDrawing_8 rfl (lv_at hl 0 rfl) ?_
    refine lv_iconst (v := 2) hx hb dX12_isDrawing_9 rfl ?_
    refine r_callV (As := [.int 2]) (rest := []) C (c_has l D k pr cr ma am di st du 2 wr) (cwV 1 hts (lw_V q353 q354 q355 q105 q356) rfl rfl rfl (by decide +kernel) ⟨Nat.le_of_ble_eq_true rfl, Nat.le_of_ble_eq_true rfl⟩) hK (va_recv hK hP (ci := 10) (q0 := 0) rfl rfl) hP rfl hl.1 rfl (Nat.le_of_ble_eq_true rfl) dX12_isDrawing_10 ⟨Nat.le_of_ble_eq_true rfl, Nat.le_of_ble_eq_true rfl⟩ ?_
    refine lv_if_ne (tgt := 20) hx hb dX12_isDrawing_13 (by decide) (fun c_13 => ?_) (fun c_13 => ?_)
    · have b_13 := bI_nz c_13
      refine lv_iconst (v := 0) hx hb dX12_isDrawing_20 rfl ?_
      exact J_21 0 (by first | exact bI_f (fun h => h.1 c_5) | exact bI_f (fun h => h.2 b_13) | exact bI_t ⟨c_5, b_13⟩) ls hl
    · have b_13 := bI_0.mp c_13
      refine lv_iconst (v := 1) hx hb dX12_isDrawing_16 rfl ?_
      refine lv_goto (tgt := 21) hx hb dX12_isDrawing_17 (by decide) ?_
      exact J_21 1 (by first | exact bI_f (fun h => h.1 c_5) | exact bI_f (fun h => h.2 b_13) | exact bI_t ⟨c_5, b_13⟩) ls hl
set_option maxHeartbeats 4000000 in
theorem c_bit (l : Launch) (D : va_G) (k : Nat → ClassId) (P : Prop) (x : Int32) : rM l D k yX2_bit cX2_bit 2 (some .int) 0 0 [.int (bI P), .int x] (fun _ => True) (some (.int (pick P ((1 : Int32) <<< (x &&& 31))))) := by
  refine rM_of (by decide) (Nat.le_of_ble_eq_true rfl) ?_
  intro p e s m below meth c ls C hK _ hl
  obtain ⟨hx, hb, hr, hml, hown, hts, hlk⟩ := id C
  have hl : lv_has ls 2 [(0, .int (bI P)), (1, .int x)] := hl
  refine lv_iload_n hx hb dX2_bit_0 rfl (lv_at hl 0 rfl) ?_
  have J_11 : ∀ (z : Int32), (z = pick P ((1 : Int32) <<< (x &&& 31))) → ∀ (ls : Array Slot), lv_has ls 2 [(0, .int (bI P)), (1, .int x)] → W p l e (Rm 0 0 0 0) s m ([.int (bI P), .int x] : List Value).toArray below meth c s.heap [] 0 0 (MQ below (rQ (some (.int (pick P ((1 : Int32) <<< (x &&& 31)))))) ([.int (bI P), .int x] : List Value).toArray s 0 0 (fun _ => False)) (F0 m 11 ls [.int z]) := by
    intro z h_z ls hl
    exact r_iret C h_z dX2_bit_11
  refine lv_if_eq (tgt := 10) hx hb dX2_bit_1 (by decide) (fun c_1 => ?_) (fun c_1 => ?_)
  · have b_1 := bI_0.mp c_1
    refine lv_iconst (v := 0) hx hb dX2_bit_10 rfl ?_
    exact J_11 0 (by first | exact (pick_f b_1).symm | exact (pick_t b_1).symm) ls hl
  · have b_1 := bI_nz c_1
    refine lv_iconst (v := 1) hx hb dX2_bit_4 rfl ?_
    refine lv_iload_n hx hb dX2_bit_5 rfl (lv_at hl 1 rfl) ?_
    refine lv_ishl hx hb dX2_bit_6 ?_
    refine lv_goto (tgt := 11) hx hb dX2_bit_7 (by decide) ?_
    exact J_11 ((1 : Int32) <<< (x &&& 31)) (by first | exact (pick_f b_1).symm | exact (pick_t b_1).symm) ls hl
theorem has2 : ∀ n, n < 128 → (¬ ((nI n >>> ((2 : Int32) &&& 31)) &&& 1 = 1) ↔ nI n &&& 4 = 0) := by decide
