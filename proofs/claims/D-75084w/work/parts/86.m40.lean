/-! StringBuilder (printed by gen/m40.py) -/
set_option maxRecDepth 100000
section ROWS40
variable {p : Program} {l : Launch} {e : Env} {R : Room} {s : State} {m : MethodId} {args : Array Value} {below : List Frame} {meth : Method} {c : Code} {H : Heap} {locs : List Loc} {cells slots : Nat} {Q : State → Prop}
variable {cc : ByteArray} {nL : Nat} {own : String} {pc : Nat} {ls : Array Slot} {rest : List Value} {D : va_G} {k : Nat → ClassId} {A : Nat → Prop} {ws : va_W} {H0 : Heap}
def bfit (f : Nat → Int32) : Prop := ∀ j, fits .byte (.int (f j)) = true
/-- bytes are copied, from the first place on -/
theorem b_copy (hexec : p.tables.exec = Jvm.exec) (hb : c.code = cc) (hml : c.maxLocals = ls.size) {index : Nat} (hown : s.vm.findClass own = some m.cls) (hlink : (Cond.methodLink own index arraycopyName).before args s = true) (hnat : (Cond.native arraycopyName).before args s = true) (hstat : (Cond.static arraycopyName).before args s = true) (hini : (Cond.initialized "java/lang/System").before args s = true)
    (hK : KA D k s) (hP : va_P D clA ws H) (hD : va_D A ws) (hS : va_S A H0 H locs) (q0 q1 : Nat) {a0 a n m0 m1 : Nat} {f g : Nat → Int32} (ha0 : ws[q0]? = some (a0, .inl (k 1, m0, .inl f))) (ha1 : ws[q1]? = some (a, .inl (k 1, m1, .inl g))) (h0 : n ≤ m0) (h1 : n ≤ m1) (hlt : n < 2 ^ 31) (hfit : bfit f)
    (hframes : 1 ≤ R.frames) (hlocals : (rest.map fun v => v.category).sum + (nativeFrameWords "java/lang/System" "arraycopy" 5 + 11) ≤ R.locals) (hdg : decode cc pc = .ok (.invokestatic index, 3))
    (kk : ∀ (H1 : Heap) (locs1 : List Loc), va_P D clA (ws.set q1 (a, .inl (k 1, m1, .inl (va_cpy f g 0 0 n)))) H1 → va_D A (ws.set q1 (a, .inl (k 1, m1, .inl (va_cpy f g 0 0 n)))) → va_S A H0 H1 locs1 → W p l e R s m args below meth c H1 locs1 cells slots Q (F0 m (pc + 3) ls rest)) : W p l e R s m args below meth c H locs cells slots Q (F0 m pc ls (.int (nI n) :: .int 0 :: .ref a :: .int 0 :: .ref a0 :: rest)) := by
  have e0 : (0 : Int32).toNatClampNeg = 0 := rfl
  have en : (nI n).toNatClampNeg = n := nI_clamp hlt
  refine va_copyi (ty := .byte) hexec hb hml hown hlink hnat hstat hini hK hP hD hS q0 q1 1 1 ha0 ha1 rfl rfl rfl (by decide) (by decide) (fun z => ?_) ?_ ?_ (fun i _ => hfit _) hframes hlocals hdg ?_
  · have := nI_lt' (b := 0) z hlt (by decide)
    omega
  · rw [e0, en]; omega
  · rw [e0, en]; omega
  · rw [e0, en]; exact kk
end ROWS40
theorem sub_le0 {a b : Nat} (ha : a < 2 ^ 29) (hb : b < 2 ^ 29) : (nI a - nI b ≤ 0) ↔ a ≤ b := by
  have e1 : (nI a - nI b).toInt = (a : Int) - b := pk_sub_toInt (by omega) (by omega)
  rw [Int32.le_iff_toInt_le, e1, Int32.toInt_zero]
  omega
theorem mx_nI {a b : Nat} (h : a ≤ b) (hb : b < 2 ^ 31) : mx (nI a) (nI b) = nI b := by
  unfold mx
  split
  · rfl
  · rename_i z
    have := nI_nlt' z (by omega) hb
    rw [show a = b by omega]
theorem mn_nI {a b : Nat} (h : a ≤ b) (hb : b < 2 ^ 31) : mn (nI a) (nI b) = nI a := by
  unfold mn
  split
  · rfl
  · rename_i z
    have := nI_nlt' z (by omega) hb
    rw [show a = b by omega]
set_option maxHeartbeats 4000000 in
theorem j_newLenS (l : Launch) (D : va_G) (k : Nat → ClassId) (g : Nat → Nat) (cp : Nat) (hcp : cp ≤ 40000) : sM l D k yJ12_newLength cJ12_newLength 4 (some .int) 1 23 [.int (nI cp), .int (nI 1), .int (nI (cp + 2))] (hKX (fun HH => True) g) (some (.int (nI (2 * cp + 2)))) := by
  refine sM_of (by decide) (Nat.le_of_ble_eq_true rfl) ?_
  intro p e s m below meth c ls C hK ⟨_, hX⟩ hl
  have hS : va_S (G0 g) s.heap s.heap [] := va_S.rf
  have hAN : ∀ q, G0 g q → g 0 ≤ q := fun _ h => h
  have hN : NW s := hX.nw
  obtain ⟨hx, hb, hr, hml, hown, hts, hlk⟩ := id C
  have hl : lv_has ls 4 [(0, .int (nI cp)), (1, .int (nI 1)), (2, .int (nI (cp + 2)))] := hl
  refine lv_iload_n hx hb dJ12_newLength_0 rfl (lv_at hl 0 rfl) ?_
  refine lv_iload_n hx hb dJ12_newLength_1 rfl (lv_at hl 1 rfl) ?_
  refine lv_iload_n hx hb dJ12_newLength_2 rfl (lv_at hl 2 rfl) ?_
  refine va_mmax hx hb (hml.trans hl.1.symm) hown (hts _ q559) (hts _ q560) (hts _ q87) (hts _ q561) (Nat.le_of_ble_eq_true rfl) (Nat.le_of_ble_eq_true rfl) (by first | exact Nat.le_of_ble_eq_true rfl | omega | (dsimp only [Rm]; omega)) (by first | exact Nat.le_of_ble_eq_true rfl | omega | (dsimp only [Rm]; omega)) dJ12_newLength_3 ?_
  refine w_topi (y := mx (nI 1) (nI (cp + 2))) rfl ?_
  refine w_topi (y := nI (cp + 2)) (mx_nI (by omega) (by omega)) ?_
  refine lv_iadd hx hb dJ12_newLength_6 ?_
  refine w_topi (y := nI (2 * cp + 2)) (by rw [nI_add]; congr 1; omega) ?_
  refine lv_istore_n (lv' := [(3, .int (nI (2 * cp + 2))), (0, .int (nI cp)), (1, .int (nI 1)), (2, .int (nI (cp + 2)))]) hx hb dJ12_newLength_7 rfl hl (by decide) rfl (fun ls hl => ?_)
  refine lv_iconst (v := 0) hx hb dJ12_newLength_8 rfl ?_
  refine lv_iload_n hx hb dJ12_newLength_9 rfl (lv_at hl 0 rfl) ?_
  refine lv_icmp_ge (tgt := 21) hx hb dJ12_newLength_10 (by decide) (fun c_10 => ?_) (fun c_10 => ?_)
  · exact absurd (nI_le' (b := 0) c_10 (by omega) (by decide)) (by omega)
  · refine lv_iload_n hx hb dJ12_newLength_13 rfl (lv_at hl 0 rfl) ?_
    refine lv_ldc (v := 2147483639) hx hb hown (hts _ q562) dJ12_newLength_14 ?_
    refine lv_icmp_gt (tgt := 21) hx hb dJ12_newLength_16 (by decide) (fun c_16 => ?_) (fun c_16 => ?_)
    · exact absurd (nI_lt' (a := 2147483639) c_16 (by decide) (by omega)) (by omega)
    · refine lv_iload_n hx hb dJ12_newLength_19 rfl (lv_at hl 0 rfl) ?_
      exact r_iret C rfl dJ12_newLength_20
set_option maxHeartbeats 4000000 in
theorem j_newCap (l : Launch) (D : va_G) (k : Nat → ClassId) (g : Nat → Nat) (sb va cp n : Nat) (f : Nat → Int32) (hcp : cp ≤ 40000) : sM l D k yJ8_newCapacity cJ8_newCapacity 6 (some .int) 2 46 [.ref sb, .int (nI (cp + 1))] (hKX (fun HH => va_P D clA [(sb, .inr (13, [.ref va, .int 0, .int 0, .int (nI n)])), (va, .inl (k 1, cp, .inl f))] HH) g) (some (.int (nI (2 * cp + 2)))) := by
  refine sM_of (by decide) (Nat.le_of_ble_eq_true rfl) ?_
  intro p e s m below meth c ls C hK ⟨hF, hX⟩ hl
  have hS : va_S (G0 g) s.heap s.heap [] := va_S.rf
  have hAN : ∀ q, G0 g q → g 0 ≤ q := fun _ h => h
  have hN : NW s := hX.nw
  obtain ⟨hx, hb, hr, hml, hown, hts, hlk⟩ := id C
  have hl : lv_has ls 6 [(0, .ref sb), (1, .int (nI (cp + 1)))] := hl
  refine lv_aload_n hx hb dJ8_newCapacity_0 rfl (lv_at hl 0 rfl) ?_
  refine va_get hx hb hts in_J9 hown hK hF 0 rfl rfl 0 (by decide) (hts _ q521) (fun _ h => h) rfl dJ8_newCapacity_1 ?_
  refine va_alen (v := nI cp) hx hb hK hF 1 1 rfl rfl rfl dJ8_newCapacity_4 ?_
  refine lv_istore_n (lv' := [(2, .int (nI cp)), (0, .ref sb), (1, .int (nI (cp + 1)))]) hx hb dJ8_newCapacity_5 rfl hl (by decide) rfl (fun ls hl => ?_)
  refine lv_iload_n hx hb dJ8_newCapacity_6 rfl (lv_at hl 2 rfl) ?_
  refine lv_aload_n hx hb dJ8_newCapacity_7 rfl (lv_at hl 1 rfl) ?_
  refine va_get hx hb hts in_J9 hown hK hF 0 rfl rfl 1 (by decide) (hts _ q522) (fun _ h => h) rfl dJ8_newCapacity_8 ?_
  refine lv_ishl hx hb dJ8_newCapacity_11 ?_
  refine w_topi (y := nI (cp + 1)) (sb_shl0 _) ?_
  refine lv_istore_n (lv' := [(3, .int (nI (cp + 1))), (2, .int (nI cp)), (0, .ref sb), (1, .int (nI (cp + 1)))]) hx hb dJ8_newCapacity_12 rfl hl (by decide) rfl (fun ls hl => ?_)
  refine lv_iload_n hx hb dJ8_newCapacity_13 rfl (lv_at hl 0 rfl) ?_
  refine lv_iload_n hx hb dJ8_newCapacity_14 rfl (lv_at hl 1 rfl) ?_
  refine lv_isub hx hb dJ8_newCapacity_15 ?_
  refine w_topi (y := nI 1) (by rw [pk_sub (by omega)]; congr 1; omega) ?_
  refine lv_istore (lv' := [(4, .int (nI 1)), (3, .int (nI (cp + 1))), (2, .int (nI cp)), (0, .ref sb), (1, .int (nI (cp + 1)))]) hx hb dJ8_newCapacity_16 hl (by decide) rfl (fun ls hl => ?_)
  refine lv_iload_n hx hb dJ8_newCapacity_18 rfl (lv_at hl 2 rfl) ?_
  refine lv_iload hx hb dJ8_newCapacity_19 (lv_at hl 0 rfl) ?_
  refine lv_iload_n hx hb dJ8_newCapacity_21 rfl (lv_at hl 2 rfl) ?_
  refine lv_iconst (v := 2) hx hb dJ8_newCapacity_22 rfl ?_
  refine lv_aload_n hx hb dJ8_newCapacity_23 rfl (lv_at hl 3 rfl) ?_
  refine va_get hx hb hts in_J9 hown hK hF 0 rfl rfl 1 (by decide) (hts _ q522) (fun _ h => h) rfl dJ8_newCapacity_24 ?_
  refine lv_ishl hx hb dJ8_newCapacity_27 ?_
  refine w_topi (y := nI 2) (sb_shl0 _) ?_
  refine lv_iadd hx hb dJ8_newCapacity_28 ?_
  refine w_topi (y := nI (cp + 2)) (nI_add cp 2) ?_
  refine r_after (va_runS (As := [.int (nI cp), .int (nI 1), .int (nI (cp + 2))]) (rest := []) (g := F0 m 29 ls [.int (nI (cp + 2)), .int (nI 1), .int (nI cp)]) C.fix (j_newLenS l D k g cp hcp) (va_cwS 3 hts (lw_S q556 q557 q86 q558) rfl rfl rfl (by decide +kernel) ⟨Nat.le_of_ble_eq_true rfl, Nat.le_of_ble_eq_true rfl⟩) (preS mv2_hKX hK (fun U hU hW => (hKX_at hX hS hAN trivial hU hW))) rfl rfl hl.1 rfl (lv_room (Nat.le_of_ble_eq_true rfl)) dJ8_newCapacity_29 ⟨(by first | exact Nat.le_of_ble_eq_true rfl | omega | (dsimp only [Rm]; omega)), (by first | exact Nat.le_of_ble_eq_true rfl | omega | (dsimp only [Rm]; omega))⟩) ?_
  refine lv_istore (lv' := [(5, .int (nI (2 * cp + 2))), (4, .int (nI 1)), (3, .int (nI (cp + 1))), (2, .int (nI cp)), (0, .ref sb), (1, .int (nI (cp + 1)))]) hx hb dJ8_newCapacity_32 hl (by decide) rfl (fun ls hl => ?_)
  refine lv_iload hx hb dJ8_newCapacity_34 (lv_at hl 0 rfl) ?_
  refine lv_ldc (v := 2147483647) hx hb hown (hts _ q566) dJ8_newCapacity_36 ?_
  refine lv_icmp_ne (tgt := 51) hx hb dJ8_newCapacity_38 (by decide) (fun c_38 => ?_) (fun c_38 => ?_)
  · refine lv_iload hx hb dJ8_newCapacity_51 (lv_at hl 0 rfl) ?_
    refine lv_aload_n hx hb dJ8_newCapacity_53 rfl (lv_at hl 4 rfl) ?_
    refine va_get hx hb hts in_J9 hown hK hF 0 rfl rfl 1 (by decide) (hts _ q522) (fun _ h => h) rfl dJ8_newCapacity_54 ?_
    refine lv_ishr hx hb dJ8_newCapacity_57 ?_
    refine w_topi (y := nI (2 * cp + 2)) (sb_shr0 _) ?_
    exact r_iret C rfl dJ8_newCapacity_58
  · exact absurd (nI_eq' (b := 2147483647) c_38 (by omega) (by decide)) (by omega)
set_option maxHeartbeats 4000000 in
theorem j_copyB (l : Launch) (D : va_G) (k : Nat → ClassId) (g : Nat → Nat) (va cp : Nat) (f : Nat → Int32) (hcp : cp ≤ 40000) (hfit : bfit f) : jM l D k yJ14_copyOf cJ14_copyOf 3 (some (.array .byte)) 1 40 1 (2 * cp + 2) [.ref va, .int (nI (2 * cp + 2))] g [(va, .inl (k 1, cp, .inl f))] (fun HH => True) (fun xx : Nat => some (.ref xx)) (fun _ _ => True) (fun xx : Nat => [(xx, .inl (k 1, 2 * cp + 2, .inl (va_cpy f (fun _ => 0) 0 0 cp))), (va, .inl (k 1, cp, .inl f))]) := by
  refine jM_of (by decide) (Nat.le_of_ble_eq_true rfl) ?_
  intro p e s m below meth c ls A hAe C hnm hmn hK hP hD hA hAN _ hX hS hl
  have hN : NW s := hX.nw
  obtain ⟨hx, hb, hr, hml, hown, hts, hlk⟩ := id C
  have hl : lv_has ls 3 [(0, .ref va), (1, .int (nI (2 * cp + 2)))] := hl
  refine lv_iload_n hx hb dJ14_copyOf_0 rfl (lv_at hl 1 rfl) ?_
  refine lv_aload_n hx hb dJ14_copyOf_1 rfl (lv_at hl 0 rfl) ?_
  refine va_alen (v := nI cp) hx hb hK hP 0 1 rfl rfl rfl dJ14_copyOf_2 ?_
  refine lv_icmp_ne (tgt := 14) hx hb dJ14_copyOf_3 (by decide) (fun c_3 => ?_) (fun c_3 => ?_)
  · refine lv_iload_n hx hb dJ14_copyOf_14 rfl (lv_at hl 1 rfl) ?_
    refine n_newa (atype := .byte) (a0 := ((2 * cp + 2), .inl (fun _ => 0))) hx hb (hts _ q135) hK hP (va_D_of hD rfl) hS hA 1 rfl (fun _ => rfl) (nI_pos (by omega)) (nI_clamp (by omega)) (by show ((2 * cp + 2)) * 1 ≤ 536870912; omega) (by first | exact Nat.le_of_ble_eq_true rfl | omega | (dsimp only [Rm]; omega)) (by first | exact Nat.le_of_ble_eq_true rfl | omega | (dsimp only [Rm]; omega)) dJ14_copyOf_15 (fun q2 H _ hP hD hS => ?_)
    refine lv_astore_n (lv' := [(2, .ref q2), (0, .ref va), (1, .int (nI (2 * cp + 2)))]) hx hb dJ14_copyOf_17 rfl hl (by decide) rfl (fun ls hl => ?_)
    refine lv_aload_n hx hb dJ14_copyOf_18 rfl (lv_at hl 1 rfl) ?_
    refine lv_iconst (v := 0) hx hb dJ14_copyOf_19 rfl ?_
    refine lv_aload_n hx hb dJ14_copyOf_20 rfl (lv_at hl 0 rfl) ?_
    refine lv_iconst (v := 0) hx hb dJ14_copyOf_21 rfl ?_
    refine lv_aload_n hx hb dJ14_copyOf_22 rfl (lv_at hl 1 rfl) ?_
    refine va_alen (v := nI cp) hx hb hK hP 1 1 rfl rfl rfl dJ14_copyOf_23 ?_
    refine lv_iload_n hx hb dJ14_copyOf_24 rfl (lv_at hl 2 rfl) ?_
    refine va_mmin hx hb (hml.trans hl.1.symm) hown (hts _ q577) (hts _ q578) (hts _ q87) (hts _ q579) (Nat.le_of_ble_eq_true rfl) (Nat.le_of_ble_eq_true rfl) (by first | exact Nat.le_of_ble_eq_true rfl | omega | (dsimp only [Rm]; omega)) (by first | exact Nat.le_of_ble_eq_true rfl | omega | (dsimp only [Rm]; omega)) dJ14_copyOf_25 ?_
    refine w_topi (y := mn (nI cp) (nI (2 * cp + 2))) (mn_if _ _) ?_
    refine w_topi (y := nI cp) (mn_nI (by omega) (by omega)) ?_
    refine b_copy hx hb (hml.trans hl.1.symm) hown (hts _ q580) (hts _ q582) (hts _ q581) (hts _ q89) hK hP (va_D_of hD rfl) hS 1 0 rfl rfl (by omega) (by omega) (by omega) hfit (by first | exact Nat.le_of_ble_eq_true rfl | omega | (dsimp only [Rm]; omega)) (by first | decide | exact Nat.le_of_ble_eq_true rfl) dJ14_copyOf_28 (fun H locs hP _ hS => ?_)
    have hP : va_P D clA [(q2, .inl (k 1, (2 * cp + 2), .inl (va_cpy f (fun _ => 0) 0 0 cp))), (va, .inl (k 1, cp, .inl f))] H := hP
    refine lv_aload_n hx hb dJ14_copyOf_31 rfl (lv_at hl 0 rfl) ?_
    exact j_aret hAe C (Or.inr ⟨_, rfl⟩) q2 rfl trivial hP (va_D_of hD rfl) hS (by first | exact Nat.le_of_ble_eq_true rfl | omega | (dsimp only [Rm]; omega)) (by first | exact Nat.le_of_ble_eq_true rfl | omega | (dsimp only [Rm]; omega)) dJ14_copyOf_32
  · exact absurd (nI_eq' c_3 (by omega) (by omega)) (by omega)
set_option maxHeartbeats 4000000 in
theorem j_ensNo (l : Launch) (D : va_G) (k : Nat → ClassId) (g : Nat → Nat) (sb va cp n : Nat) (f : Nat → Int32) (hcp : cp ≤ 40000) (hn : n + 1 ≤ cp) : jM l D k yJ8_ensureCapacityInternal cJ8_ensureCapacityInternal 3 none 0 0 0 0 [.ref sb, .int (nI (n + 1))] g [(sb, .inr (13, [.ref va, .int 0, .int 0, .int (nI n)])), (va, .inl (k 1, cp, .inl f))] (fun HH => True) (fun _ : Unit => none) (fun _ _ => True) (fun _ : Unit => [(sb, .inr (13, [.ref va, .int 0, .int 0, .int (nI n)])), (va, .inl (k 1, cp, .inl f))]) := by
  refine jM_of (by decide) (Nat.le_of_ble_eq_true rfl) ?_
  intro p e s m below meth c ls A hAe C hnm hmn hK hP hD hA hAN _ hX hS hl
  have hN : NW s := hX.nw
  obtain ⟨hx, hb, hr, hml, hown, hts, hlk⟩ := id C
  have hl : lv_has ls 3 [(0, .ref sb), (1, .int (nI (n + 1)))] := hl
  refine lv_aload_n hx hb dJ8_ensureCapacityInternal_0 rfl (lv_at hl 0 rfl) ?_
  refine va_get hx hb hts in_J9 hown hK hP 0 rfl rfl 0 (by decide) (hts _ q521) (fun _ h => h) rfl dJ8_ensureCapacityInternal_1 ?_
  refine va_alen (v := nI cp) hx hb hK hP 1 1 rfl rfl rfl dJ8_ensureCapacityInternal_4 ?_
  refine lv_aload_n hx hb dJ8_ensureCapacityInternal_5 rfl (lv_at hl 0 rfl) ?_
  refine va_get hx hb hts in_J9 hown hK hP 0 rfl rfl 1 (by decide) (hts _ q522) (fun _ h => h) rfl dJ8_ensureCapacityInternal_6 ?_
  refine lv_ishr hx hb dJ8_ensureCapacityInternal_9 ?_
  refine w_topi (y := nI cp) (sb_shr0 _) ?_
  refine lv_istore_n (lv' := [(2, .int (nI cp)), (0, .ref sb), (1, .int (nI (n + 1)))]) hx hb dJ8_ensureCapacityInternal_10 rfl hl (by decide) rfl (fun ls hl => ?_)
  refine lv_iload_n hx hb dJ8_ensureCapacityInternal_11 rfl (lv_at hl 2 rfl) ?_
  refine lv_iload_n hx hb dJ8_ensureCapacityInternal_12 rfl (lv_at hl 0 rfl) ?_
  refine lv_isub hx hb dJ8_ensureCapacityInternal_13 ?_
  refine lv_if_le (tgt := 38) hx hb dJ8_ensureCapacityInternal_14 (by decide) (fun c_14 => ?_) (fun c_14 => ?_)
  · exact j_vret hAe C () rfl trivial hP (va_D_of hD rfl) hS (by first | exact Nat.le_of_ble_eq_true rfl | omega | (dsimp only [Rm]; omega)) (by first | exact Nat.le_of_ble_eq_true rfl | omega | (dsimp only [Rm]; omega)) dJ8_ensureCapacityInternal_38
  · exact absurd ((sub_le0 (by omega) (by omega)).mpr (by omega)) c_14
set_option maxHeartbeats 4000000 in
theorem j_ensGo (l : Launch) (D : va_G) (k : Nat → ClassId) (g : Nat → Nat) (sb va cp : Nat) (f : Nat → Int32) (hcp : cp ≤ 40000) (hfit : bfit f) : jM l D k yJ8_ensureCapacityInternal cJ8_ensureCapacityInternal 3 none 3 71 1 (2 * cp + 2) [.ref sb, .int (nI (cp + 1))] g [(sb, .inr (13, [.ref va, .int 0, .int 0, .int (nI cp)])), (va, .inl (k 1, cp, .inl f))] (fun HH => True) (fun xx : Nat => none) (fun _ _ => True) (fun xx : Nat => [(sb, .inr (13, [.ref xx, .int 0, .int 0, .int (nI cp)])), (xx, .inl (k 1, 2 * cp + 2, .inl (va_cpy f (fun _ => 0) 0 0 cp)))]) := by
  refine jM_of (by decide) (Nat.le_of_ble_eq_true rfl) ?_
  intro p e s m below meth c ls A hAe C hnm hmn hK hP hD hA hAN _ hX hS hl
  have hN : NW s := hX.nw
  obtain ⟨hx, hb, hr, hml, hown, hts, hlk⟩ := id C
  have hl : lv_has ls 3 [(0, .ref sb), (1, .int (nI (cp + 1)))] := hl
  refine lv_aload_n hx hb dJ8_ensureCapacityInternal_0 rfl (lv_at hl 0 rfl) ?_
  refine va_get hx hb hts in_J9 hown hK hP 0 rfl rfl 0 (by decide) (hts _ q521) (fun _ h => h) rfl dJ8_ensureCapacityInternal_1 ?_
  refine va_alen (v := nI cp) hx hb hK hP 1 1 rfl rfl rfl dJ8_ensureCapacityInternal_4 ?_
  refine lv_aload_n hx hb dJ8_ensureCapacityInternal_5 rfl (lv_at hl 0 rfl) ?_
  refine va_get hx hb hts in_J9 hown hK hP 0 rfl rfl 1 (by decide) (hts _ q522) (fun _ h => h) rfl dJ8_ensureCapacityInternal_6 ?_
  refine lv_ishr hx hb dJ8_ensureCapacityInternal_9 ?_
  refine w_topi (y := nI cp) (sb_shr0 _) ?_
  refine lv_istore_n (lv' := [(2, .int (nI cp)), (0, .ref sb), (1, .int (nI (cp + 1)))]) hx hb dJ8_ensureCapacityInternal_10 rfl hl (by decide) rfl (fun ls hl => ?_)
  refine lv_iload_n hx hb dJ8_ensureCapacityInternal_11 rfl (lv_at hl 2 rfl) ?_
  refine lv_iload_n hx hb dJ8_ensureCapacityInternal_12 rfl (lv_at hl 0 rfl) ?_
  refine lv_isub hx hb dJ8_ensureCapacityInternal_13 ?_
  refine lv_if_le (tgt := 38) hx hb dJ8_ensureCapacityInternal_14 (by decide) (fun c_14 => ?_) (fun c_14 => ?_)
  · exact absurd ((sub_le0 (by omega) (by omega)).mp c_14) (by omega)
  · refine lv_aload_n hx hb dJ8_ensureCapacityInternal_17 rfl (lv_at hl 1 rfl) ?_
    refine lv_aload_n hx hb dJ8_ensureCapacityInternal_18 rfl (lv_at hl 1 rfl) ?_
    refine va_get hx hb hts in_J9 hown hK hP 0 rfl rfl 0 (by decide) (hts _ q521) (fun _ h => h) rfl dJ8_ensureCapacityInternal_19 ?_
    refine lv_aload_n hx hb dJ8_ensureCapacityInternal_22 rfl (lv_at hl 1 rfl) ?_
    refine lv_iload_n hx hb dJ8_ensureCapacityInternal_23 rfl (lv_at hl 2 rfl) ?_
    refine r_after (va_runV (As := [.int (nI (cp + 1))]) (rest := [.ref va, .ref sb]) (g := F0 m 24 ls [.int (nI (cp + 1)), .ref sb, .ref va, .ref sb]) C.fix (j_newCap l D k g sb va cp cp f hcp) (cwQ 1 hts q552 q554 q82 q555 (sel_pv hts (hK.1 13 _ rfl).2.1 hX.ls.2.2.2.2.2.2.2.2.2 (hts _ q554) rfl) rfl rfl (by decide +kernel) ⟨Nat.le_of_ble_eq_true rfl, Nat.le_of_ble_eq_true rfl⟩) (preV mv2_hKX hK (va_recv hK hP (ci := 13) (q0 := 0) rfl rfl) (fun U hU hW => (hKX_at hX hS hAN (va_cons (hP 0 _ rfl) (va_cons (hP 1 _ rfl) va_nil)) hU hW))) rfl rfl hl.1 rfl (lv_room (Nat.le_of_ble_eq_true rfl)) dJ8_ensureCapacityInternal_24 ⟨(by first | exact Nat.le_of_ble_eq_true rfl | omega | (dsimp only [Rm]; omega)), (by first | exact Nat.le_of_ble_eq_true rfl | omega | (dsimp only [Rm]; omega))⟩) ?_
    refine lv_aload_n hx hb dJ8_ensureCapacityInternal_27 rfl (lv_at hl 1 rfl) ?_
    refine va_get hx hb hts in_J9 hown hK hP 0 rfl rfl 1 (by decide) (hts _ q522) (fun _ h => h) rfl dJ8_ensureCapacityInternal_28 ?_
    refine lv_ishl hx hb dJ8_ensureCapacityInternal_31 ?_
    refine w_topi (y := nI (2 * cp + 2)) (sb_shl0 _) ?_
    have hP : va_P D clA [(va, .inl (k 1, cp, .inl f)), (sb, .inr (13, [.ref va, .int 0, .int 0, .int (nI cp)]))] s.heap := P_prm [1, 0] 2 rfl (by decide) hP
    have hD : va_D A [(va, .inl (k 1, cp, .inl f)), (sb, .inr (13, [.ref va, .int 0, .int 0, .int (nI cp)]))] := D_prm [1, 0] 2 rfl (by decide) (va_D_of (ws' := [(sb, .inr (13, [.ref va, .int 0, .int 0, .int (nI cp)])), (va, .inl (k 1, cp, .inl f))]) hD rfl)
    refine j_after (w1 := [(va, .inl (k 1, cp, .inl f))]) (w2 := [(sb, .inr (13, [.ref va, .int 0, .int 0, .int (nI cp)]))]) (va_runS (As := [.ref va, .int (nI (2 * cp + 2))]) (rest := [.ref sb]) (g := F0 m 32 ls [.int (nI (2 * cp + 2)), .ref va, .ref sb]) C.fix (j_copyB l D k g va cp f hcp hfit) (va_cwS 2 hts (lw_S q567 q568 q88 q569) rfl rfl rfl (by decide +kernel) ⟨Nat.le_of_ble_eq_true rfl, Nat.le_of_ble_eq_true rfl⟩) (preS mv2_jPre hK (fun U hU hW => jPre_at (w1 := [(va, .inl (k 1, cp, .inl f))]) (w2 := [(sb, .inr (13, [.ref va, .int 0, .int 0, .int (nI cp)]))]) hP (va_D_of hD rfl) hAN hX hS trivial hU hW)) rfl rfl hl.1 rfl (lv_room (Nat.le_of_ble_eq_true rfl)) dJ8_ensureCapacityInternal_32 ⟨(by first | exact Nat.le_of_ble_eq_true rfl | omega | (dsimp only [Rm]; omega)), (by first | exact Nat.le_of_ble_eq_true rfl | omega | (dsimp only [Rm]; omega))⟩) hP (va_D_of hD rfl) hS hA (fun q2 H locs hB hP hD hS hsz hk => ?_)
    have hP : va_P D clA [(q2, .inl (k 1, 2 * cp + 2, .inl (va_cpy f (fun _ => 0) 0 0 cp))), (va, .inl (k 1, cp, .inl f)), (sb, .inr (13, [.ref va, .int 0, .int 0, .int (nI cp)]))] H := hP
    have hD : va_D A [(q2, .inl (k 1, 2 * cp + 2, .inl (va_cpy f (fun _ => 0) 0 0 cp))), (va, .inl (k 1, cp, .inl f)), (sb, .inr (13, [.ref va, .int 0, .int 0, .int (nI cp)]))] := hD
    refine va_put hx hb hts in_J9 tyJ9 tyJ9_ok nmJ9 hown hK hP (va_D_of hD rfl) hS 2 rfl rfl 0 (by decide) (hts _ q521) (fun _ h => h) rfl rfl rfl rfl (Nat.le_of_ble_eq_true rfl) dJ8_ensureCapacityInternal_35 (fun H locs hP _ hS => ?_)
    have hP : va_P D clA [(q2, .inl (k 1, 2 * cp + 2, .inl (va_cpy f (fun _ => 0) 0 0 cp))), (va, .inl (k 1, cp, .inl f)), (sb, .inr (13, [.ref q2, .int 0, .int 0, .int (nI cp)]))] H := hP
    exact j_vret hAe C q2 rfl trivial (hP.sub [2, 0] rfl) (va_D_of (D_sub (ws' := [(sb, .inr (13, [.ref q2, .int 0, .int 0, .int (nI cp)])), (q2, .inl (k 1, 2 * cp + 2, .inl (va_cpy f (fun _ => 0) 0 0 cp)))]) (va_D_of (ws' := [(q2, .inl (k 1, 2 * cp + 2, .inl (va_cpy f (fun _ => 0) 0 0 cp))), (va, .inl (k 1, cp, .inl f)), (sb, .inr (13, [.ref q2, .int 0, .int 0, .int (nI cp)]))]) hD rfl) [2, 0] rfl rfl) rfl) hS (by first | exact Nat.le_of_ble_eq_true rfl | omega | (dsimp only [Rm]; omega)) (by first | exact Nat.le_of_ble_eq_true rfl | omega | (dsimp only [Rm]; omega)) dJ8_ensureCapacityInternal_38
set_option maxHeartbeats 4000000 in
theorem j_sbLatin (l : Launch) (D : va_G) (k : Nat → ClassId) (g : Nat → Nat) (sb va : Nat) (n0 : Int32) : sM l D k yJ8_isLatin1 cJ8_isLatin1 1 (some .boolean) 0 0 [.ref sb] (hKX (fun HH => va_P D clA [(sb, .inr (13, [.ref va, .int 0, .int 0, .int n0]))] HH) g) (some (.int (bI True))) := by
  refine sM_of (by decide) (Nat.le_of_ble_eq_true rfl) ?_
  intro p e s m below meth c ls C hK ⟨hF, hX⟩ hl
  have hS : va_S (G0 g) s.heap s.heap [] := va_S.rf
  have hAN : ∀ q, G0 g q → g 0 ≤ q := fun _ h => h
  have hN : NW s := hX.nw
  obtain ⟨hx, hb, hr, hml, hown, hts, hlk⟩ := id C
  have hl : lv_has ls 1 [(0, .ref sb)] := hl
  have hSg := hS
  refine va_gets (v := .int 1) hx hb hX.en.1 hSg hown (hts _ q512) (fun _ h => h) dJ8_isLatin1_0 ?_
  refine lv_if_eq (tgt := 17) hx hb dJ8_isLatin1_3 (by decide) (fun c_3 => ?_) (fun c_3 => ?_)
  · exact absurd c_3 (by decide)
  · refine lv_aload_n hx hb dJ8_isLatin1_6 rfl (lv_at hl 0 rfl) ?_
    refine va_get hx hb hts in_J9 hown hK hF 0 rfl rfl 1 (by decide) (hts _ q522) (fun _ h => h) rfl dJ8_isLatin1_7 ?_
    refine lv_if_ne (tgt := 17) hx hb dJ8_isLatin1_10 (by decide) (fun c_10 => ?_) (fun c_10 => ?_)
    · exact absurd rfl c_10
    · refine lv_iconst (v := 1) hx hb dJ8_isLatin1_13 rfl ?_
      refine lv_goto (tgt := 18) hx hb dJ8_isLatin1_14 (by decide) ?_
      exact r_zret C (bI_t trivial) dJ8_isLatin1_18
set_option maxHeartbeats 4000000 in
theorem j_canEnc (l : Launch) (D : va_G) (k : Nat → ClassId) (g : Nat → Nat) (x : Nat) (hx0 : x < 128) : sM l D k yJ15_canEncode cJ15_canEncode 1 (some .boolean) 0 0 [.int (nI x)] (hKX (fun HH => True) g) (some (.int (bI True))) := by
  refine sM_of (by decide) (Nat.le_of_ble_eq_true rfl) ?_
  intro p e s m below meth c ls C hK ⟨_, hX⟩ hl
  have hS : va_S (G0 g) s.heap s.heap [] := va_S.rf
  have hAN : ∀ q, G0 g q → g 0 ≤ q := fun _ h => h
  have hN : NW s := hX.nw
  obtain ⟨hx, hb, hr, hml, hown, hts, hlk⟩ := id C
  have hl : lv_has ls 1 [(0, .int (nI x))] := hl
  refine lv_iload_n hx hb dJ15_canEncode_0 rfl (lv_at hl 0 rfl) ?_
  refine lv_sipush (v := 255) hx hb dJ15_canEncode_1 rfl ?_
  refine lv_icmp_gt (tgt := 11) hx hb dJ15_canEncode_4 (by decide) (fun c_4 => ?_) (fun c_4 => ?_)
  · exact absurd (nI_lt' (a := 255) c_4 (by decide) (by omega)) (by omega)
  · refine lv_iconst (v := 1) hx hb dJ15_canEncode_7 rfl ?_
    refine lv_goto (tgt := 12) hx hb dJ15_canEncode_8 (by decide) ?_
    exact r_zret C (bI_t trivial) dJ15_canEncode_12
set_option maxHeartbeats 4000000 in
theorem j_ASBinit (l : Launch) (D : va_G) (k : Nat → ClassId) (g : Nat → Nat) (sb : Nat) : jM l D k yJ8_init cJ8_init 2 none 1 20 1 16 [.ref sb, .int 16] g [(sb, .inr (13, [.null, .int 0, .int 0, .int 0]))] (fun HH => True) (fun xx : Nat => none) (fun _ _ => True) (fun xx : Nat => [(sb, .inr (13, [.ref xx, .int 0, .int 0, .int (nI 0)])), (xx, .inl (k 1, 16, .inl (fun _ => 0)))]) := by
  refine jM_of (by decide) (Nat.le_of_ble_eq_true rfl) ?_
  intro p e s m below meth c ls A hAe C hnm hmn hK hP hD hA hAN _ hX hS hl
  have hN : NW s := hX.nw
  obtain ⟨hx, hb, hr, hml, hown, hts, hlk⟩ := id C
  have hl : lv_has ls 2 [(0, .ref sb), (1, .int 16)] := hl
  refine lv_aload_n hx hb dJ8_init_0 rfl (lv_at hl 0 rfl) ?_
  refine W.objInit hx hb hown (hts _ q511) (hts _ q112) (hts _ q113) rfl (by rw [hml]; exact hl.1) rfl dJ8_init_1 (Nat.le_of_ble_eq_true rfl) (Nat.le_of_ble_eq_true rfl) ?_
  refine va_gets (v := .int 1) hx hb hX.en.1 (S_wide hS hAN) hown (hts _ q512) (fun _ h => h) dJ8_init_4 ?_
  show W p l e (Rm 1 20 1 16) s m ([.ref sb, .int 16] : List Value).toArray below meth c s.heap [] 0 0 (MQ below (jQ D (fun xx : Nat => none) (fun _ _ => True) (fun xx : Nat => [(sb, .inr (13, [.ref xx, .int 0, .int 0, .int (nI 0)])), (xx, .inl (k 1, 16, .inl (fun _ => 0)))]) (inL [(sb, .inr (13, [.null, .int 0, .int 0, .int 0]))])) ([.ref sb, .int 16] : List Value).toArray s 1 16 (inL [(sb, .inr (13, [.null, .int 0, .int 0, .int 0]))])) (F0 m 7 ls [.int 1])
  refine lv_if_eq (tgt := 25) hx hb dJ8_init_7 (by decide) (fun c_7 => ?_) (fun c_7 => ?_)
  · exact absurd c_7 (by decide)
  · refine lv_aload_n hx hb dJ8_init_10 rfl (lv_at hl 0 rfl) ?_
    refine lv_iload_n hx hb dJ8_init_11 rfl (lv_at hl 1 rfl) ?_
    refine n_newa (atype := .byte) (a0 := (16, .inl (fun _ => 0))) hx hb (hts _ q135) hK hP (va_D_of hD rfl) hS hA 1 rfl (fun _ => rfl) (by decide) rfl (Nat.le_of_ble_eq_true rfl) (by first | exact Nat.le_of_ble_eq_true rfl | omega | (dsimp only [Rm]; omega)) (by first | exact Nat.le_of_ble_eq_true rfl | omega | (dsimp only [Rm]; omega)) dJ8_init_12 (fun va H _ hP hD hS => ?_)
    refine va_put hx hb hts in_J9 tyJ9 tyJ9_ok nmJ9 hown hK hP (va_D_of hD rfl) hS 1 rfl rfl 0 (by decide) (hts _ q521) (fun _ h => h) rfl rfl rfl rfl (Nat.le_of_ble_eq_true rfl) dJ8_init_14 (fun H locs hP _ hS => ?_)
    have hP : va_P D clA [(va, .inl (k 1, 16, .inl (fun _ => 0))), (sb, .inr (13, [.ref va, .int 0, .int 0, .int 0]))] H := hP
    refine lv_aload_n hx hb dJ8_init_17 rfl (lv_at hl 0 rfl) ?_
    refine lv_iconst (v := 0) hx hb dJ8_init_18 rfl ?_
    refine va_put hx hb hts in_J9 tyJ9 tyJ9_ok nmJ9 hown hK hP (va_D_of hD rfl) hS 1 rfl rfl 1 (by decide) (hts _ q522) (fun _ h => h) rfl rfl rfl rfl (Nat.le_of_ble_eq_true rfl) dJ8_init_19 (fun H locs hP _ hS => ?_)
    have hP : va_P D clA [(va, .inl (k 1, 16, .inl (fun _ => 0))), (sb, .inr (13, [.ref va, .int 0, .int 0, .int 0]))] H := hP
    refine lv_goto (tgt := 38) hx hb dJ8_init_22 (by decide) ?_
    exact j_vret hAe C va rfl trivial (hP.sub [1, 0] rfl) (va_D_of (D_sub (ws' := [(sb, .inr (13, [.ref va, .int 0, .int 0, .int 0])), (va, .inl (k 1, 16, .inl (fun _ => 0)))]) (va_D_of (ws' := [(va, .inl (k 1, 16, .inl (fun _ => 0))), (sb, .inr (13, [.ref va, .int 0, .int 0, .int 0]))]) hD rfl) [1, 0] rfl rfl) rfl) hS (by first | exact Nat.le_of_ble_eq_true rfl | omega | (dsimp only [Rm]; omega)) (by first | exact Nat.le_of_ble_eq_true rfl | omega | (dsimp only [Rm]; omega)) dJ8_init_38
set_option maxHeartbeats 4000000 in
theorem j_SBinit (l : Launch) (D : va_G) (k : Nat → ClassId) (g : Nat → Nat) (sb : Nat) : jM l D k yJ9_init cJ9_init 1 none 2 41 1 16 [.ref sb] g [(sb, .inr (13, [.null, .int 0, .int 0, .int 0]))] (fun HH => True) (fun xx : Nat => none) (fun _ _ => True) (fun xx : Nat => [(sb, .inr (13, [.ref xx, .int 0, .int 0, .int (nI 0)])), (xx, .inl (k 1, 16, .inl (fun _ => 0)))]) := by
  refine jM_of (by decide) (Nat.le_of_ble_eq_true rfl) ?_
  intro p e s m below meth c ls A hAe C hnm hmn hK hP hD hA hAN _ hX hS hl
  have hN : NW s := hX.nw
  obtain ⟨hx, hb, hr, hml, hown, hts, hlk⟩ := id C
  have hl : lv_has ls 1 [(0, .ref sb)] := hl
  refine lv_aload_n hx hb dJ9_init_0 rfl (lv_at hl 0 rfl) ?_
  refine lv_bipush (v := 16) hx hb dJ9_init_1 rfl ?_
  refine j_after (w1 := [(sb, .inr (13, [.null, .int 0, .int 0, .int 0]))]) (w2 := []) (va_runI (As := [.int 16]) (rest := []) (g := F0 m 3 ls [.int 16, .ref sb]) C.fix (j_ASBinit l D k g sb) (cwC 1 hts q508 q509 q82 q510 rfl rfl rfl (by decide +kernel) ⟨Nat.le_of_ble_eq_true rfl, Nat.le_of_ble_eq_true rfl⟩) (preS mv2_jPre hK (fun U hU hW => jPre_at (w1 := [(sb, .inr (13, [.null, .int 0, .int 0, .int 0]))]) (w2 := []) hP (va_D_of hD rfl) hAN hX hS trivial hU hW)) rfl rfl hl.1 rfl (lv_room (Nat.le_of_ble_eq_true rfl)) dJ9_init_3 ⟨(by first | exact Nat.le_of_ble_eq_true rfl | omega | (dsimp only [Rm]; omega)), (by first | exact Nat.le_of_ble_eq_true rfl | omega | (dsimp only [Rm]; omega))⟩) hP (va_D_of hD rfl) hS hA (fun va H locs hB hP hD hS hsz hk => ?_)
  have hP : va_P D clA [(sb, .inr (13, [.ref va, .int 0, .int 0, .int (nI 0)])), (va, .inl (k 1, 16, .inl (fun _ => 0)))] H := hP
  have hD : va_D A [(sb, .inr (13, [.ref va, .int 0, .int 0, .int (nI 0)])), (va, .inl (k 1, 16, .inl (fun _ => 0)))] := hD
  exact j_vret hAe C va rfl trivial hP (va_D_of hD rfl) hS (by first | exact Nat.le_of_ble_eq_true rfl | omega | (dsimp only [Rm]; omega)) (by first | exact Nat.le_of_ble_eq_true rfl | omega | (dsimp only [Rm]; omega)) dJ9_init_6
set_option maxHeartbeats 4000000 in
theorem j_ASBappNo (l : Launch) (D : va_G) (k : Nat → ClassId) (g : Nat → Nat) (sb va cp n x : Nat) (f : Nat → Int32) (hcp : cp ≤ 40000) (hn : n + 1 ≤ cp) (hx0 : x < 128) : jM l D k yJ8_append cJ8_append 2 (some (.object "java/lang/AbstractStringBuilder")) 1 22 0 0 [.ref sb, .int (nI x)] g [(sb, .inr (13, [.ref va, .int 0, .int 0, .int (nI n)])), (va, .inl (k 1, cp, .inl f))] (fun HH => True) (fun _ : Unit => some (.ref sb)) (fun _ _ => True) (fun _ : Unit => [(sb, .inr (13, [.ref va, .int 0, .int 0, .int (nI (n + 1))])), (va, .inl (k 1, cp, .inl (upd f n (sg (nI x)))))]) := by
  refine jM_of (by decide) (Nat.le_of_ble_eq_true rfl) ?_
  intro p e s m below meth c ls A hAe C hnm hmn hK hP hD hA hAN _ hX hS hl
  have hN : NW s := hX.nw
  obtain ⟨hx, hb, hr, hml, hown, hts, hlk⟩ := id C
  have hl : lv_has ls 2 [(0, .ref sb), (1, .int (nI x))] := hl
  refine lv_aload_n hx hb dJ8_append_0 rfl (lv_at hl 0 rfl) ?_
  refine lv_aload_n hx hb dJ8_append_1 rfl (lv_at hl 0 rfl) ?_
  refine va_get hx hb hts in_J9 hown hK hP 0 rfl rfl 3 (by decide) (hts _ q524) (fun _ h => h) rfl dJ8_append_2 ?_
  refine lv_iconst (v := 1) hx hb dJ8_append_5 rfl ?_
  refine lv_iadd hx hb dJ8_append_6 ?_
  refine w_topi (y := nI (n + 1)) (nI_add n 1) ?_
  refine j_after (w1 := [(sb, .inr (13, [.ref va, .int 0, .int 0, .int (nI n)])), (va, .inl (k 1, cp, .inl f))]) (w2 := []) (va_runV (As := [.int (nI (n + 1))]) (rest := []) (g := F0 m 7 ls [.int (nI (n + 1)), .ref sb]) C.fix (j_ensNo l D k g sb va cp n f hcp hn) (cwQ 1 hts q548 q550 q82 q551 (sel_pv hts (hK.1 13 _ rfl).2.1 hX.ls.2.2.2.2.2.2.2.2.1 (hts _ q550) rfl) rfl rfl (by decide +kernel) ⟨Nat.le_of_ble_eq_true rfl, Nat.le_of_ble_eq_true rfl⟩) (preV mv2_jPre hK (va_recv hK hP (ci := 13) (q0 := 0) rfl rfl) (fun U hU hW => jPre_at (w1 := [(sb, .inr (13, [.ref va, .int 0, .int 0, .int (nI n)])), (va, .inl (k 1, cp, .inl f))]) (w2 := []) hP (va_D_of hD rfl) hAN hX hS trivial hU hW)) rfl rfl hl.1 rfl (lv_room (Nat.le_of_ble_eq_true rfl)) dJ8_append_7 ⟨(by first | exact Nat.le_of_ble_eq_true rfl | omega | (dsimp only [Rm]; omega)), (by first | exact Nat.le_of_ble_eq_true rfl | omega | (dsimp only [Rm]; omega))⟩) hP (va_D_of hD rfl) hS hA (fun xx H locs hB hP hD hS hsz hk => ?_)
  have hP : va_P D clA [(sb, .inr (13, [.ref va, .int 0, .int 0, .int (nI n)])), (va, .inl (k 1, cp, .inl f))] H := hP
  have hD : va_D A [(sb, .inr (13, [.ref va, .int 0, .int 0, .int (nI n)])), (va, .inl (k 1, cp, .inl f))] := hD
  refine lv_aload_n hx hb dJ8_append_10 rfl (lv_at hl 0 rfl) ?_
  refine r_after (va_runV (As := []) (rest := []) (g := F0 m 11 ls [.ref sb]) C.fix (j_sbLatin l D k g sb va (nI n)) (cwQ 0 hts q583 q584 q82 q587 (hts _ q586) rfl rfl (by decide +kernel) ⟨Nat.le_of_ble_eq_true rfl, Nat.le_of_ble_eq_true rfl⟩) (preV mv2_hKX hK (va_recv hK hP (ci := 13) (q0 := 0) rfl rfl) (fun U hU hW => (hKX_at hX hS hAN (va_cons (hP 0 _ rfl) va_nil) hU hW))) rfl rfl hl.1 rfl (lv_room (Nat.le_of_ble_eq_true rfl)) dJ8_append_11 ⟨(by first | exact Nat.le_of_ble_eq_true rfl | omega | (dsimp only [Rm]; omega)), (by first | exact Nat.le_of_ble_eq_true rfl | omega | (dsimp only [Rm]; omega))⟩) ?_
  refine lv_if_eq (tgt := 45) hx hb dJ8_append_14 (by decide) (fun c_14 => ?_) (fun c_14 => ?_)
  · exact absurd trivial (bI_0.mp c_14)
  · have b_14 := bI_nz c_14
    refine lv_iload_n hx hb dJ8_append_17 rfl (lv_at hl 1 rfl) ?_
    refine r_after (va_runS (As := [.int (nI x)]) (rest := []) (g := F0 m 18 ls [.int (nI x)]) C.fix (j_canEnc l D k g x (by omega)) (va_cwS 1 hts (lw_S q588 q589 q90 q590) rfl rfl rfl (by decide +kernel) ⟨Nat.le_of_ble_eq_true rfl, Nat.le_of_ble_eq_true rfl⟩) (preS mv2_hKX hK (fun U hU hW => (hKX_at hX hS hAN trivial hU hW))) rfl rfl hl.1 rfl (lv_room (Nat.le_of_ble_eq_true rfl)) dJ8_append_18 ⟨(by first | exact Nat.le_of_ble_eq_true rfl | omega | (dsimp only [Rm]; omega)), (by first | exact Nat.le_of_ble_eq_true rfl | omega | (dsimp only [Rm]; omega))⟩) ?_
    refine lv_if_eq (tgt := 45) hx hb dJ8_append_21 (by decide) (fun c_21 => ?_) (fun c_21 => ?_)
    · exact absurd trivial (bI_0.mp c_21)
    · have b_21 := bI_nz c_21
      refine lv_aload_n hx hb dJ8_append_24 rfl (lv_at hl 0 rfl) ?_
      refine va_get hx hb hts in_J9 hown hK hP 0 rfl rfl 0 (by decide) (hts _ q521) (fun _ h => h) rfl dJ8_append_25 ?_
      refine lv_aload_n hx hb dJ8_append_28 rfl (lv_at hl 0 rfl) ?_
      refine lv_dup hx hb dJ8_append_29 rfl ?_
      refine va_get hx hb hts in_J9 hown hK hP 0 rfl rfl 3 (by decide) (hts _ q524) (fun _ h => h) rfl dJ8_append_30 ?_
      refine lv_dup_x1 hx hb dJ8_append_33 rfl rfl ?_
      refine lv_iconst (v := 1) hx hb dJ8_append_34 rfl ?_
      refine lv_iadd hx hb dJ8_append_35 ?_
      refine w_topi (y := nI (n + 1)) (nI_add n 1) ?_
      refine va_put hx hb hts in_J9 tyJ9 tyJ9_ok nmJ9 hown hK hP (va_D_of hD rfl) hS 0 rfl rfl 3 (by decide) (hts _ q524) (fun _ h => h) rfl rfl rfl rfl (Nat.le_of_ble_eq_true rfl) dJ8_append_36 (fun H locs hP _ hS => ?_)
      have hP : va_P D clA [(sb, .inr (13, [.ref va, .int 0, .int 0, .int (nI (n + 1))])), (va, .inl (k 1, cp, .inl f))] H := hP
      refine lv_iload_n hx hb dJ8_append_39 rfl (lv_at hl 1 rfl) ?_
      refine lv_i2b (v := (nI x).toInt8.toInt32) hx hb dJ8_append_40 rfl ?_
      refine w_bast hx hb hK hP (va_D_of hD rfl) hS 1 rfl n (nar_b _) rfl (by omega) (by omega) dJ8_append_41 (fun H locs hP _ hS => ?_)
      have hP : va_P D clA [(sb, .inr (13, [.ref va, .int 0, .int 0, .int (nI (n + 1))])), (va, .inl (k 1, cp, .inl (upd f n ((nI x).toInt8.toInt32))))] H := hP
      refine lv_goto (tgt := 75) hx hb dJ8_append_42 (by decide) ?_
      refine lv_aload_n hx hb dJ8_append_75 rfl (lv_at hl 0 rfl) ?_
      exact j_aret hAe C (Or.inl ⟨_, rfl⟩) () rfl trivial hP (va_D_of hD rfl) hS (by first | exact Nat.le_of_ble_eq_true rfl | omega | (dsimp only [Rm]; omega)) (by first | exact Nat.le_of_ble_eq_true rfl | omega | (dsimp only [Rm]; omega)) dJ8_append_76
set_option maxHeartbeats 4000000 in
theorem j_SBappNo (l : Launch) (D : va_G) (k : Nat → ClassId) (g : Nat → Nat) (sb va cp n x : Nat) (f : Nat → Int32) (hcp : cp ≤ 40000) (hn : n + 1 ≤ cp) (hx0 : x < 128) : jM l D k yJ9_append cJ9_append 2 (some (.object "java/lang/StringBuilder")) 2 43 0 0 [.ref sb, .int (nI x)] g [(sb, .inr (13, [.ref va, .int 0, .int 0, .int (nI n)])), (va, .inl (k 1, cp, .inl f))] (fun HH => True) (fun _ : Unit => some (.ref sb)) (fun _ _ => True) (fun _ : Unit => [(sb, .inr (13, [.ref va, .int 0, .int 0, .int (nI (n + 1))])), (va, .inl (k 1, cp, .inl (upd f n (sg (nI x)))))]) := by
  refine jM_of (by decide) (Nat.le_of_ble_eq_true rfl) ?_
  intro p e s m below meth c ls A hAe C hnm hmn hK hP hD hA hAN _ hX hS hl
  have hN : NW s := hX.nw
  obtain ⟨hx, hb, hr, hml, hown, hts, hlk⟩ := id C
  have hl : lv_has ls 2 [(0, .ref sb), (1, .int (nI x))] := hl
  refine lv_aload_n hx hb dJ9_append_0 rfl (lv_at hl 0 rfl) ?_
  refine lv_iload_n hx hb dJ9_append_1 rfl (lv_at hl 1 rfl) ?_
  refine j_after (w1 := [(sb, .inr (13, [.ref va, .int 0, .int 0, .int (nI n)])), (va, .inl (k 1, cp, .inl f))]) (w2 := []) (va_runP (As := [.int (nI x)]) (rest := []) (g := F0 m 2 ls [.int (nI x), .ref sb]) C.fix (j_ASBappNo l D k g sb va cp n x f hcp hn hx0) (callB_of 1 hts (lw_meth q547) rfl rfl rfl (hts _ q82) (hts _ q545) (by decide +kernel) ⟨Nat.le_of_ble_eq_true rfl, Nat.le_of_ble_eq_true rfl⟩) (by decide) (hts _ q546) (hts _ q2052) (hts _ q533) (preV mv2_jPre hK (va_recv hK hP (ci := 13) (q0 := 0) rfl rfl) (fun U hU hW => jPre_at (w1 := [(sb, .inr (13, [.ref va, .int 0, .int 0, .int (nI n)])), (va, .inl (k 1, cp, .inl f))]) (w2 := []) hP (va_D_of hD rfl) hAN hX hS trivial hU hW)) rfl rfl hl.1 rfl (lv_room (Nat.le_of_ble_eq_true rfl)) dJ9_append_2 ⟨(by first | exact Nat.le_of_ble_eq_true rfl | omega | (dsimp only [Rm]; omega)), (by first | exact Nat.le_of_ble_eq_true rfl | omega | (dsimp only [Rm]; omega))⟩) hP (va_D_of hD rfl) hS hA (fun xx H locs hB hP hD hS hsz hk => ?_)
  have hP : va_P D clA [(sb, .inr (13, [.ref va, .int 0, .int 0, .int (nI (n + 1))])), (va, .inl (k 1, cp, .inl (upd f n (sg (nI x)))))] H := hP
  have hD : va_D A [(sb, .inr (13, [.ref va, .int 0, .int 0, .int (nI (n + 1))])), (va, .inl (k 1, cp, .inl (upd f n (sg (nI x)))))] := hD
  refine lv_pop hx hb dJ9_append_5 rfl ?_
  refine lv_aload_n hx hb dJ9_append_6 rfl (lv_at hl 0 rfl) ?_
  exact j_aret hAe C (Or.inl ⟨_, rfl⟩) () rfl trivial hP (va_D_of hD rfl) hS (by first | exact Nat.le_of_ble_eq_true rfl | omega | (dsimp only [Rm]; omega)) (by first | exact Nat.le_of_ble_eq_true rfl | omega | (dsimp only [Rm]; omega)) dJ9_append_7
set_option maxHeartbeats 4000000 in
theorem j_ASBappGo (l : Launch) (D : va_G) (k : Nat → ClassId) (g : Nat → Nat) (sb va cp x : Nat) (f : Nat → Int32) (hcp : cp ≤ 40000) (hfit : bfit f) (hx0 : x < 128) : jM l D k yJ8_append cJ8_append 2 (some (.object "java/lang/AbstractStringBuilder")) 4 93 1 (2 * cp + 2) [.ref sb, .int (nI x)] g [(sb, .inr (13, [.ref va, .int 0, .int 0, .int (nI cp)])), (va, .inl (k 1, cp, .inl f))] (fun HH => True) (fun xx : Nat => some (.ref sb)) (fun _ _ => True) (fun xx : Nat => [(sb, .inr (13, [.ref xx, .int 0, .int 0, .int (nI (cp + 1))])), (xx, .inl (k 1, 2 * cp + 2, .inl (upd (va_cpy f (fun _ => 0) 0 0 cp) cp (sg (nI x)))))]) := by
  refine jM_of (by decide) (Nat.le_of_ble_eq_true rfl) ?_
  intro p e s m below meth c ls A hAe C hnm hmn hK hP hD hA hAN _ hX hS hl
  have hN : NW s := hX.nw
  obtain ⟨hx, hb, hr, hml, hown, hts, hlk⟩ := id C
  have hl : lv_has ls 2 [(0, .ref sb), (1, .int (nI x))] := hl
  refine lv_aload_n hx hb dJ8_append_0 rfl (lv_at hl 0 rfl) ?_
  refine lv_aload_n hx hb dJ8_append_1 rfl (lv_at hl 0 rfl) ?_
  refine va_get hx hb hts in_J9 hown hK hP 0 rfl rfl 3 (by decide) (hts _ q524) (fun _ h => h) rfl dJ8_append_2 ?_
  refine lv_iconst (v := 1) hx hb dJ8_append_5 rfl ?_
  refine lv_iadd hx hb dJ8_append_6 ?_
  refine w_topi (y := nI (cp + 1)) (nI_add cp 1) ?_
  refine j_after (w1 := [(sb, .inr (13, [.ref va, .int 0, .int 0, .int (nI cp)])), (va, .inl (k 1, cp, .inl f))]) (w2 := []) (va_runV (As := [.int (nI (cp + 1))]) (rest := []) (g := F0 m 7 ls [.int (nI (cp + 1)), .ref sb]) C.fix (j_ensGo l D k g sb va cp f hcp hfit) (cwQ 1 hts q548 q550 q82 q551 (sel_pv hts (hK.1 13 _ rfl).2.1 hX.ls.2.2.2.2.2.2.2.2.1 (hts _ q550) rfl) rfl rfl (by decide +kernel) ⟨Nat.le_of_ble_eq_true rfl, Nat.le_of_ble_eq_true rfl⟩) (preV mv2_jPre hK (va_recv hK hP (ci := 13) (q0 := 0) rfl rfl) (fun U hU hW => jPre_at (w1 := [(sb, .inr (13, [.ref va, .int 0, .int 0, .int (nI cp)])), (va, .inl (k 1, cp, .inl f))]) (w2 := []) hP (va_D_of hD rfl) hAN hX hS trivial hU hW)) rfl rfl hl.1 rfl (lv_room (Nat.le_of_ble_eq_true rfl)) dJ8_append_7 ⟨(by first | exact Nat.le_of_ble_eq_true rfl | omega | (dsimp only [Rm]; omega)), (by first | exact Nat.le_of_ble_eq_true rfl | omega | (dsimp only [Rm]; omega))⟩) hP (va_D_of hD rfl) hS hA (fun q2 H locs hB hP hD hS hsz hk => ?_)
  have hP : va_P D clA [(sb, .inr (13, [.ref q2, .int 0, .int 0, .int (nI cp)])), (q2, .inl (k 1, 2 * cp + 2, .inl (va_cpy f (fun _ => 0) 0 0 cp)))] H := hP
  have hD : va_D A [(sb, .inr (13, [.ref q2, .int 0, .int 0, .int (nI cp)])), (q2, .inl (k 1, 2 * cp + 2, .inl (va_cpy f (fun _ => 0) 0 0 cp)))] := hD
  refine lv_aload_n hx hb dJ8_append_10 rfl (lv_at hl 0 rfl) ?_
  refine r_after (va_runV (As := []) (rest := []) (g := F0 m 11 ls [.ref sb]) C.fix (j_sbLatin l D k g sb q2 (nI cp)) (cwQ 0 hts q583 q584 q82 q587 (hts _ q586) rfl rfl (by decide +kernel) ⟨Nat.le_of_ble_eq_true rfl, Nat.le_of_ble_eq_true rfl⟩) (preV mv2_hKX hK (va_recv hK hP (ci := 13) (q0 := 0) rfl rfl) (fun U hU hW => (hKX_at hX hS hAN (va_cons (hP 0 _ rfl) va_nil) hU hW))) rfl rfl hl.1 rfl (lv_room (Nat.le_of_ble_eq_true rfl)) dJ8_append_11 ⟨(by first | exact Nat.le_of_ble_eq_true rfl | omega | (dsimp only [Rm]; omega)), (by first | exact Nat.le_of_ble_eq_true rfl | omega | (dsimp only [Rm]; omega))⟩) ?_
  refine lv_if_eq (tgt := 45) hx hb dJ8_append_14 (by decide) (fun c_14 => ?_) (fun c_14 => ?_)
  · exact absurd trivial (bI_0.mp c_14)
  · have b_14 := bI_nz c_14
    refine lv_iload_n hx hb dJ8_append_17 rfl (lv_at hl 1 rfl) ?_
    refine r_after (va_runS (As := [.int (nI x)]) (rest := []) (g := F0 m 18 ls [.int (nI x)]) C.fix (j_canEnc l D k g x (by omega)) (va_cwS 1 hts (lw_S q588 q589 q90 q590) rfl rfl rfl (by decide +kernel) ⟨Nat.le_of_ble_eq_true rfl, Nat.le_of_ble_eq_true rfl⟩) (preS mv2_hKX hK (fun U hU hW => (hKX_at hX hS hAN trivial hU hW))) rfl rfl hl.1 rfl (lv_room (Nat.le_of_ble_eq_true rfl)) dJ8_append_18 ⟨(by first | exact Nat.le_of_ble_eq_true rfl | omega | (dsimp only [Rm]; omega)), (by first | exact Nat.le_of_ble_eq_true rfl | omega | (dsimp only [Rm]; omega))⟩) ?_
    refine lv_if_eq (tgt := 45) hx hb dJ8_append_21 (by decide) (fun c_21 => ?_) (fun c_21 => ?_)
    · exact absurd trivial (bI_0.mp c_21)
    · have b_21 := bI_nz c_21
      refine lv_aload_n hx hb dJ8_append_24 rfl (lv_at hl 0 rfl) ?_
      refine va_get hx hb hts in_J9 hown hK hP 0 rfl rfl 0 (by decide) (hts _ q521) (fun _ h => h) rfl dJ8_append_25 ?_
      refine lv_aload_n hx hb dJ8_append_28 rfl (lv_at hl 0 rfl) ?_
      refine lv_dup hx hb dJ8_append_29 rfl ?_
      refine va_get hx hb hts in_J9 hown hK hP 0 rfl rfl 3 (by decide) (hts _ q524) (fun _ h => h) rfl dJ8_append_30 ?_
      refine lv_dup_x1 hx hb dJ8_append_33 rfl rfl ?_
      refine lv_iconst (v := 1) hx hb dJ8_append_34 rfl ?_
      refine lv_iadd hx hb dJ8_append_35 ?_
      refine w_topi (y := nI (cp + 1)) (nI_add cp 1) ?_
      refine va_put hx hb hts in_J9 tyJ9 tyJ9_ok nmJ9 hown hK hP (va_D_of hD rfl) hS 0 rfl rfl 3 (by decide) (hts _ q524) (fun _ h => h) rfl rfl rfl rfl (Nat.le_of_ble_eq_true rfl) dJ8_append_36 (fun H locs hP _ hS => ?_)
      have hP : va_P D clA [(sb, .inr (13, [.ref q2, .int 0, .int 0, .int (nI (cp + 1))])), (q2, .inl (k 1, 2 * cp + 2, .inl (va_cpy f (fun _ => 0) 0 0 cp)))] H := hP
      refine lv_iload_n hx hb dJ8_append_39 rfl (lv_at hl 1 rfl) ?_
      refine lv_i2b (v := (nI x).toInt8.toInt32) hx hb dJ8_append_40 rfl ?_
      refine w_bast hx hb hK hP (va_D_of hD rfl) hS 1 rfl cp (nar_b _) rfl (by omega) (by omega) dJ8_append_41 (fun H locs hP _ hS => ?_)
      have hP : va_P D clA [(sb, .inr (13, [.ref q2, .int 0, .int 0, .int (nI (cp + 1))])), (q2, .inl (k 1, 2 * cp + 2, .inl (upd (va_cpy f (fun _ => 0) 0 0 cp) cp ((nI x).toInt8.toInt32))))] H := hP
      refine lv_goto (tgt := 75) hx hb dJ8_append_42 (by decide) ?_
      refine lv_aload_n hx hb dJ8_append_75 rfl (lv_at hl 0 rfl) ?_
      exact j_aret hAe C (Or.inl ⟨_, rfl⟩) q2 rfl trivial hP (va_D_of hD rfl) hS (by first | exact Nat.le_of_ble_eq_true rfl | omega | (dsimp only [Rm]; omega)) (by first | exact Nat.le_of_ble_eq_true rfl | omega | (dsimp only [Rm]; omega)) dJ8_append_76
set_option maxHeartbeats 4000000 in
theorem j_SBappGo (l : Launch) (D : va_G) (k : Nat → ClassId) (g : Nat → Nat) (sb va cp x : Nat) (f : Nat → Int32) (hcp : cp ≤ 40000) (hfit : bfit f) (hx0 : x < 128) : jM l D k yJ9_append cJ9_append 2 (some (.object "java/lang/StringBuilder")) 5 114 1 (2 * cp + 2) [.ref sb, .int (nI x)] g [(sb, .inr (13, [.ref va, .int 0, .int 0, .int (nI cp)])), (va, .inl (k 1, cp, .inl f))] (fun HH => True) (fun xx : Nat => some (.ref sb)) (fun _ _ => True) (fun xx : Nat => [(sb, .inr (13, [.ref xx, .int 0, .int 0, .int (nI (cp + 1))])), (xx, .inl (k 1, 2 * cp + 2, .inl (upd (va_cpy f (fun _ => 0) 0 0 cp) cp (sg (nI x)))))]) := by
  refine jM_of (by decide) (Nat.le_of_ble_eq_true rfl) ?_
  intro p e s m below meth c ls A hAe C hnm hmn hK hP hD hA hAN _ hX hS hl
  have hN : NW s := hX.nw
  obtain ⟨hx, hb, hr, hml, hown, hts, hlk⟩ := id C
  have hl : lv_has ls 2 [(0, .ref sb), (1, .int (nI x))] := hl
  refine lv_aload_n hx hb dJ9_append_0 rfl (lv_at hl 0 rfl) ?_
  refine lv_iload_n hx hb dJ9_append_1 rfl (lv_at hl 1 rfl) ?_
  refine j_after (w1 := [(sb, .inr (13, [.ref va, .int 0, .int 0, .int (nI cp)])), (va, .inl (k 1, cp, .inl f))]) (w2 := []) (va_runP (As := [.int (nI x)]) (rest := []) (g := F0 m 2 ls [.int (nI x), .ref sb]) C.fix (j_ASBappGo l D k g sb va cp x f hcp hfit hx0) (callB_of 1 hts (lw_meth q547) rfl rfl rfl (hts _ q82) (hts _ q545) (by decide +kernel) ⟨Nat.le_of_ble_eq_true rfl, Nat.le_of_ble_eq_true rfl⟩) (by decide) (hts _ q546) (hts _ q2052) (hts _ q533) (preV mv2_jPre hK (va_recv hK hP (ci := 13) (q0 := 0) rfl rfl) (fun U hU hW => jPre_at (w1 := [(sb, .inr (13, [.ref va, .int 0, .int 0, .int (nI cp)])), (va, .inl (k 1, cp, .inl f))]) (w2 := []) hP (va_D_of hD rfl) hAN hX hS trivial hU hW)) rfl rfl hl.1 rfl (lv_room (Nat.le_of_ble_eq_true rfl)) dJ9_append_2 ⟨(by first | exact Nat.le_of_ble_eq_true rfl | omega | (dsimp only [Rm]; omega)), (by first | exact Nat.le_of_ble_eq_true rfl | omega | (dsimp only [Rm]; omega))⟩) hP (va_D_of hD rfl) hS hA (fun q2 H locs hB hP hD hS hsz hk => ?_)
  have hP : va_P D clA [(sb, .inr (13, [.ref q2, .int 0, .int 0, .int (nI (cp + 1))])), (q2, .inl (k 1, 2 * cp + 2, .inl (upd (va_cpy f (fun _ => 0) 0 0 cp) cp (sg (nI x)))))] H := hP
  have hD : va_D A [(sb, .inr (13, [.ref q2, .int 0, .int 0, .int (nI (cp + 1))])), (q2, .inl (k 1, 2 * cp + 2, .inl (upd (va_cpy f (fun _ => 0) 0 0 cp) cp (sg (nI x)))))] := hD
  refine lv_pop hx hb dJ9_append_5 rfl ?_
  refine lv_aload_n hx hb dJ9_append_6 rfl (lv_at hl 0 rfl) ?_
  exact j_aret hAe C (Or.inl ⟨_, rfl⟩) q2 rfl trivial hP (va_D_of hD rfl) hS (by first | exact Nat.le_of_ble_eq_true rfl | omega | (dsimp only [Rm]; omega)) (by first | exact Nat.le_of_ble_eq_true rfl | omega | (dsimp only [Rm]; omega)) dJ9_append_7
