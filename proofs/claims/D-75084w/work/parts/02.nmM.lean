/-! DECODE ROWS BY BYTES: one lemma an opcode; a method's code is cut into short pieces once, and a row reads its own piece alone. -/
set_option maxRecDepth 100000
/-- the code has just these bytes from pc on -/
def DkAt (code : ByteArray) (pc : Nat) (bs : List UInt8) : Prop := ∀ (j : Nat) (b : UInt8), bs[j]? = some b → code.data.toList[pc + j]? = some b
/-- the piece W has the bytes bs from its place j on -/
def dkIn (W : List UInt8) (j : Nat) (bs : List UInt8) : Bool := decide ((W.drop j).take bs.length = bs)
theorem dk_seg {l W T : List UInt8} {o o2 : Nat} (h : l.drop o = W ++ T) (n : Nat) (hn : W.length = n) (ho : o + n = o2) : l.drop o2 = T := by
  subst ho
  rw [← List.drop_drop, h, List.drop_left' hn]
theorem dk_at {code : ByteArray} {W T bs : List UInt8} {o pc : Nat} (h : code.data.toList.drop o = W ++ T) (j : Nat) (hp : o + j = pc) (hw : dkIn W j bs = true) : DkAt code pc bs := by
  subst hp
  intro i b e
  have h1 := of_decide_eq_true hw
  have h2 : i < bs.length := (List.getElem?_eq_some_iff.mp e).1
  have h3 : W[j + i]? = some b := by
    rw [← h1, List.getElem?_take, if_pos h2, List.getElem?_drop] at e
    exact e
  have h4 : j + i < W.length := (List.getElem?_eq_some_iff.mp h3).1
  have h5 : (code.data.toList.drop o)[j + i]? = some b := by
    rw [h, List.getElem?_append_left h4]
    exact h3
  rw [List.getElem?_drop, ← Nat.add_assoc] at h5
  exact h5
theorem dk_u1 {A : ByteArray} {p : Nat} {b : UInt8} (h : A.data.toList[p]? = some b) : (Reader.u1 : Reader DecodeError Nat) A p = .ok (b.toNat, p + 1) := by
  obtain ⟨h1, h2⟩ := List.getElem?_eq_some_iff.mp h
  have h3 : p < A.size := by simpa using h1
  have h4 : A[p]'h3 = b := h2
  have e : (Reader.u1 : Reader DecodeError Nat) A p = (if h : p < A.size then .ok (A[p].toNat, p + 1) else .error (HasTruncated.truncated p)) := by
    show (do if h : p < A.size then do set (p + 1); Pure.pure A[p].toNat else MonadExcept.throw (HasTruncated.truncated p) : Reader DecodeError Nat) A p = _
    by_cases hi : p < A.size
    · rw [dif_pos hi, dif_pos hi]; rfl
    · rw [dif_neg hi, dif_neg hi]; rfl
  rw [e, dif_pos h3, h4]
theorem dk_bind {α β : Type} {r : Reader DecodeError α} {f : α → Reader DecodeError β} {A : ByteArray} {p s : Nat} {a : α} (h : r A p = .ok (a, s)) : (r >>= f) A p = f a A s := by
  show (do let (a, s) ← r A p; f a A s : Except DecodeError (β × Nat)) = _
  rw [h]
  rfl
theorem dk_map {α β : Type} {r : Reader DecodeError α} {g : α → β} {A : ByteArray} {p s : Nat} {a : α} (h : r A p = .ok (a, s)) : (g <$> r) A p = .ok (g a, s) := by
  show (do let (a, s) ← r A p; .ok (g a, s) : Except DecodeError (β × Nat)) = _
  rw [h]
  rfl
theorem dk_u2 {A : ByteArray} {p : Nat} {a b : UInt8} (h : A.data.toList[p]? = some a) (h2 : A.data.toList[p + 1]? = some b) : (Reader.u2 : Reader DecodeError Nat) A p = .ok (a.toNat * 256 + b.toNat, p + 2) := by
  show (Reader.u1 >>= fun hi => Reader.u1 >>= fun lo => Pure.pure (hi * 256 + lo) : Reader DecodeError Nat) A p = _
  rw [dk_bind (dk_u1 h), dk_bind (dk_u1 h2)]
  rfl
theorem dk_of {code : ByteArray} {pc n : Nat} {i : Instr} (h : Decoder.instr pc code pc = .ok (i, pc + n)) : decode code pc = .ok (i, n) := by
  have e : decode code pc = (match Decoder.instr pc code pc with | .error x => .error x | .ok (j, s) => .ok (j, s - pc)) := by
    show (do let (j, s) ← Decoder.instr pc code pc; Pure.pure (j, s - pc) : Except DecodeError (Instr × Nat)) = _
    cases Decoder.instr pc code pc <;> rfl
  rw [e, h]
  show Except.ok (i, pc + n - pc) = _
  rw [Nat.add_sub_cancel_left]
theorem dk_1 {code : ByteArray} {pc : Nat} (h : DkAt code pc [1]) : decode code pc = .ok (.aconst_null, 1) := dk_of ((dk_bind (dk_u1 (h 0 _ rfl))).trans rfl)
theorem dk_2 {code : ByteArray} {pc : Nat} (h : DkAt code pc [2]) : decode code pc = .ok (.iconst (-1), 1) := dk_of ((dk_bind (dk_u1 (h 0 _ rfl))).trans rfl)
theorem dk_3 {code : ByteArray} {pc : Nat} (h : DkAt code pc [3]) : decode code pc = .ok (.iconst 0, 1) := dk_of ((dk_bind (dk_u1 (h 0 _ rfl))).trans rfl)
theorem dk_4 {code : ByteArray} {pc : Nat} (h : DkAt code pc [4]) : decode code pc = .ok (.iconst 1, 1) := dk_of ((dk_bind (dk_u1 (h 0 _ rfl))).trans rfl)
theorem dk_5 {code : ByteArray} {pc : Nat} (h : DkAt code pc [5]) : decode code pc = .ok (.iconst 2, 1) := dk_of ((dk_bind (dk_u1 (h 0 _ rfl))).trans rfl)
theorem dk_6 {code : ByteArray} {pc : Nat} (h : DkAt code pc [6]) : decode code pc = .ok (.iconst 3, 1) := dk_of ((dk_bind (dk_u1 (h 0 _ rfl))).trans rfl)
theorem dk_7 {code : ByteArray} {pc : Nat} (h : DkAt code pc [7]) : decode code pc = .ok (.iconst 4, 1) := dk_of ((dk_bind (dk_u1 (h 0 _ rfl))).trans rfl)
theorem dk_8 {code : ByteArray} {pc : Nat} (h : DkAt code pc [8]) : decode code pc = .ok (.iconst 5, 1) := dk_of ((dk_bind (dk_u1 (h 0 _ rfl))).trans rfl)
theorem dk_9 {code : ByteArray} {pc : Nat} (h : DkAt code pc [9]) : decode code pc = .ok (.lconst 0, 1) := dk_of ((dk_bind (dk_u1 (h 0 _ rfl))).trans rfl)
theorem dk_10 {code : ByteArray} {pc : Nat} (h : DkAt code pc [10]) : decode code pc = .ok (.lconst 1, 1) := dk_of ((dk_bind (dk_u1 (h 0 _ rfl))).trans rfl)
theorem dk_16 {code : ByteArray} {pc : Nat} (a : UInt8) (h : DkAt code pc [16, a]) : decode code pc = .ok (.bipush (Reader.signed 8 a.toNat), 2) := dk_of ((dk_bind (dk_u1 (h 0 _ rfl))).trans ((dk_bind (dk_map (dk_u1 (h 1 _ rfl)))).trans rfl))
theorem dk_17 {code : ByteArray} {pc : Nat} (a b : UInt8) (h : DkAt code pc [17, a, b]) : decode code pc = .ok (.sipush (Reader.signed 16 (a.toNat * 256 + b.toNat)), 3) := dk_of ((dk_bind (dk_u1 (h 0 _ rfl))).trans ((dk_bind (dk_map (dk_u2 (h 1 _ rfl) (h 2 _ rfl)))).trans rfl))
theorem dk_18 {code : ByteArray} {pc : Nat} (a : UInt8) (h : DkAt code pc [18, a]) : decode code pc = .ok (.ldc a.toNat, 2) := dk_of ((dk_bind (dk_u1 (h 0 _ rfl))).trans ((dk_bind (dk_u1 (h 1 _ rfl))).trans rfl))
theorem dk_19 {code : ByteArray} {pc : Nat} (a b : UInt8) (h : DkAt code pc [19, a, b]) : decode code pc = .ok (.ldc_w (a.toNat * 256 + b.toNat), 3) := dk_of ((dk_bind (dk_u1 (h 0 _ rfl))).trans ((dk_bind (dk_u2 (h 1 _ rfl) (h 2 _ rfl))).trans rfl))
theorem dk_20 {code : ByteArray} {pc : Nat} (a b : UInt8) (h : DkAt code pc [20, a, b]) : decode code pc = .ok (.ldc2_w (a.toNat * 256 + b.toNat), 3) := dk_of ((dk_bind (dk_u1 (h 0 _ rfl))).trans ((dk_bind (dk_u2 (h 1 _ rfl) (h 2 _ rfl))).trans rfl))
theorem dk_21 {code : ByteArray} {pc : Nat} (a : UInt8) (h : DkAt code pc [21, a]) : decode code pc = .ok (.iload a.toNat, 2) := dk_of ((dk_bind (dk_u1 (h 0 _ rfl))).trans ((dk_bind (dk_u1 (h 1 _ rfl))).trans rfl))
theorem dk_22 {code : ByteArray} {pc : Nat} (a : UInt8) (h : DkAt code pc [22, a]) : decode code pc = .ok (.lload a.toNat, 2) := dk_of ((dk_bind (dk_u1 (h 0 _ rfl))).trans ((dk_bind (dk_u1 (h 1 _ rfl))).trans rfl))
theorem dk_25 {code : ByteArray} {pc : Nat} (a : UInt8) (h : DkAt code pc [25, a]) : decode code pc = .ok (.aload a.toNat, 2) := dk_of ((dk_bind (dk_u1 (h 0 _ rfl))).trans ((dk_bind (dk_u1 (h 1 _ rfl))).trans rfl))
theorem dk_26 {code : ByteArray} {pc : Nat} (h : DkAt code pc [26]) : decode code pc = .ok (.iload_n 0, 1) := dk_of ((dk_bind (dk_u1 (h 0 _ rfl))).trans rfl)
theorem dk_27 {code : ByteArray} {pc : Nat} (h : DkAt code pc [27]) : decode code pc = .ok (.iload_n 1, 1) := dk_of ((dk_bind (dk_u1 (h 0 _ rfl))).trans rfl)
theorem dk_28 {code : ByteArray} {pc : Nat} (h : DkAt code pc [28]) : decode code pc = .ok (.iload_n 2, 1) := dk_of ((dk_bind (dk_u1 (h 0 _ rfl))).trans rfl)
theorem dk_29 {code : ByteArray} {pc : Nat} (h : DkAt code pc [29]) : decode code pc = .ok (.iload_n 3, 1) := dk_of ((dk_bind (dk_u1 (h 0 _ rfl))).trans rfl)
theorem dk_30 {code : ByteArray} {pc : Nat} (h : DkAt code pc [30]) : decode code pc = .ok (.lload_n 0, 1) := dk_of ((dk_bind (dk_u1 (h 0 _ rfl))).trans rfl)
theorem dk_31 {code : ByteArray} {pc : Nat} (h : DkAt code pc [31]) : decode code pc = .ok (.lload_n 1, 1) := dk_of ((dk_bind (dk_u1 (h 0 _ rfl))).trans rfl)
theorem dk_32 {code : ByteArray} {pc : Nat} (h : DkAt code pc [32]) : decode code pc = .ok (.lload_n 2, 1) := dk_of ((dk_bind (dk_u1 (h 0 _ rfl))).trans rfl)
theorem dk_33 {code : ByteArray} {pc : Nat} (h : DkAt code pc [33]) : decode code pc = .ok (.lload_n 3, 1) := dk_of ((dk_bind (dk_u1 (h 0 _ rfl))).trans rfl)
theorem dk_42 {code : ByteArray} {pc : Nat} (h : DkAt code pc [42]) : decode code pc = .ok (.aload_n 0, 1) := dk_of ((dk_bind (dk_u1 (h 0 _ rfl))).trans rfl)
theorem dk_43 {code : ByteArray} {pc : Nat} (h : DkAt code pc [43]) : decode code pc = .ok (.aload_n 1, 1) := dk_of ((dk_bind (dk_u1 (h 0 _ rfl))).trans rfl)
theorem dk_44 {code : ByteArray} {pc : Nat} (h : DkAt code pc [44]) : decode code pc = .ok (.aload_n 2, 1) := dk_of ((dk_bind (dk_u1 (h 0 _ rfl))).trans rfl)
theorem dk_45 {code : ByteArray} {pc : Nat} (h : DkAt code pc [45]) : decode code pc = .ok (.aload_n 3, 1) := dk_of ((dk_bind (dk_u1 (h 0 _ rfl))).trans rfl)
theorem dk_46 {code : ByteArray} {pc : Nat} (h : DkAt code pc [46]) : decode code pc = .ok (.iaload, 1) := dk_of ((dk_bind (dk_u1 (h 0 _ rfl))).trans rfl)
theorem dk_47 {code : ByteArray} {pc : Nat} (h : DkAt code pc [47]) : decode code pc = .ok (.laload, 1) := dk_of ((dk_bind (dk_u1 (h 0 _ rfl))).trans rfl)
theorem dk_50 {code : ByteArray} {pc : Nat} (h : DkAt code pc [50]) : decode code pc = .ok (.aaload, 1) := dk_of ((dk_bind (dk_u1 (h 0 _ rfl))).trans rfl)
theorem dk_51 {code : ByteArray} {pc : Nat} (h : DkAt code pc [51]) : decode code pc = .ok (.baload, 1) := dk_of ((dk_bind (dk_u1 (h 0 _ rfl))).trans rfl)
theorem dk_52 {code : ByteArray} {pc : Nat} (h : DkAt code pc [52]) : decode code pc = .ok (.caload, 1) := dk_of ((dk_bind (dk_u1 (h 0 _ rfl))).trans rfl)
theorem dk_53 {code : ByteArray} {pc : Nat} (h : DkAt code pc [53]) : decode code pc = .ok (.saload, 1) := dk_of ((dk_bind (dk_u1 (h 0 _ rfl))).trans rfl)
theorem dk_54 {code : ByteArray} {pc : Nat} (a : UInt8) (h : DkAt code pc [54, a]) : decode code pc = .ok (.istore a.toNat, 2) := dk_of ((dk_bind (dk_u1 (h 0 _ rfl))).trans ((dk_bind (dk_u1 (h 1 _ rfl))).trans rfl))
theorem dk_55 {code : ByteArray} {pc : Nat} (a : UInt8) (h : DkAt code pc [55, a]) : decode code pc = .ok (.lstore a.toNat, 2) := dk_of ((dk_bind (dk_u1 (h 0 _ rfl))).trans ((dk_bind (dk_u1 (h 1 _ rfl))).trans rfl))
theorem dk_58 {code : ByteArray} {pc : Nat} (a : UInt8) (h : DkAt code pc [58, a]) : decode code pc = .ok (.astore a.toNat, 2) := dk_of ((dk_bind (dk_u1 (h 0 _ rfl))).trans ((dk_bind (dk_u1 (h 1 _ rfl))).trans rfl))
theorem dk_59 {code : ByteArray} {pc : Nat} (h : DkAt code pc [59]) : decode code pc = .ok (.istore_n 0, 1) := dk_of ((dk_bind (dk_u1 (h 0 _ rfl))).trans rfl)
theorem dk_60 {code : ByteArray} {pc : Nat} (h : DkAt code pc [60]) : decode code pc = .ok (.istore_n 1, 1) := dk_of ((dk_bind (dk_u1 (h 0 _ rfl))).trans rfl)
theorem dk_61 {code : ByteArray} {pc : Nat} (h : DkAt code pc [61]) : decode code pc = .ok (.istore_n 2, 1) := dk_of ((dk_bind (dk_u1 (h 0 _ rfl))).trans rfl)
theorem dk_62 {code : ByteArray} {pc : Nat} (h : DkAt code pc [62]) : decode code pc = .ok (.istore_n 3, 1) := dk_of ((dk_bind (dk_u1 (h 0 _ rfl))).trans rfl)
theorem dk_64 {code : ByteArray} {pc : Nat} (h : DkAt code pc [64]) : decode code pc = .ok (.lstore_n 1, 1) := dk_of ((dk_bind (dk_u1 (h 0 _ rfl))).trans rfl)
theorem dk_66 {code : ByteArray} {pc : Nat} (h : DkAt code pc [66]) : decode code pc = .ok (.lstore_n 3, 1) := dk_of ((dk_bind (dk_u1 (h 0 _ rfl))).trans rfl)
theorem dk_76 {code : ByteArray} {pc : Nat} (h : DkAt code pc [76]) : decode code pc = .ok (.astore_n 1, 1) := dk_of ((dk_bind (dk_u1 (h 0 _ rfl))).trans rfl)
theorem dk_77 {code : ByteArray} {pc : Nat} (h : DkAt code pc [77]) : decode code pc = .ok (.astore_n 2, 1) := dk_of ((dk_bind (dk_u1 (h 0 _ rfl))).trans rfl)
theorem dk_78 {code : ByteArray} {pc : Nat} (h : DkAt code pc [78]) : decode code pc = .ok (.astore_n 3, 1) := dk_of ((dk_bind (dk_u1 (h 0 _ rfl))).trans rfl)
theorem dk_79 {code : ByteArray} {pc : Nat} (h : DkAt code pc [79]) : decode code pc = .ok (.iastore, 1) := dk_of ((dk_bind (dk_u1 (h 0 _ rfl))).trans rfl)
theorem dk_80 {code : ByteArray} {pc : Nat} (h : DkAt code pc [80]) : decode code pc = .ok (.lastore, 1) := dk_of ((dk_bind (dk_u1 (h 0 _ rfl))).trans rfl)
theorem dk_83 {code : ByteArray} {pc : Nat} (h : DkAt code pc [83]) : decode code pc = .ok (.aastore, 1) := dk_of ((dk_bind (dk_u1 (h 0 _ rfl))).trans rfl)
theorem dk_84 {code : ByteArray} {pc : Nat} (h : DkAt code pc [84]) : decode code pc = .ok (.bastore, 1) := dk_of ((dk_bind (dk_u1 (h 0 _ rfl))).trans rfl)
theorem dk_87 {code : ByteArray} {pc : Nat} (h : DkAt code pc [87]) : decode code pc = .ok (.pop, 1) := dk_of ((dk_bind (dk_u1 (h 0 _ rfl))).trans rfl)
theorem dk_89 {code : ByteArray} {pc : Nat} (h : DkAt code pc [89]) : decode code pc = .ok (.dup, 1) := dk_of ((dk_bind (dk_u1 (h 0 _ rfl))).trans rfl)
theorem dk_90 {code : ByteArray} {pc : Nat} (h : DkAt code pc [90]) : decode code pc = .ok (.dup_x1, 1) := dk_of ((dk_bind (dk_u1 (h 0 _ rfl))).trans rfl)
theorem dk_92 {code : ByteArray} {pc : Nat} (h : DkAt code pc [92]) : decode code pc = .ok (.dup2, 1) := dk_of ((dk_bind (dk_u1 (h 0 _ rfl))).trans rfl)
theorem dk_96 {code : ByteArray} {pc : Nat} (h : DkAt code pc [96]) : decode code pc = .ok (.iadd, 1) := dk_of ((dk_bind (dk_u1 (h 0 _ rfl))).trans rfl)
theorem dk_97 {code : ByteArray} {pc : Nat} (h : DkAt code pc [97]) : decode code pc = .ok (.ladd, 1) := dk_of ((dk_bind (dk_u1 (h 0 _ rfl))).trans rfl)
theorem dk_100 {code : ByteArray} {pc : Nat} (h : DkAt code pc [100]) : decode code pc = .ok (.isub, 1) := dk_of ((dk_bind (dk_u1 (h 0 _ rfl))).trans rfl)
theorem dk_101 {code : ByteArray} {pc : Nat} (h : DkAt code pc [101]) : decode code pc = .ok (.lsub, 1) := dk_of ((dk_bind (dk_u1 (h 0 _ rfl))).trans rfl)
theorem dk_104 {code : ByteArray} {pc : Nat} (h : DkAt code pc [104]) : decode code pc = .ok (.imul, 1) := dk_of ((dk_bind (dk_u1 (h 0 _ rfl))).trans rfl)
theorem dk_105 {code : ByteArray} {pc : Nat} (h : DkAt code pc [105]) : decode code pc = .ok (.lmul, 1) := dk_of ((dk_bind (dk_u1 (h 0 _ rfl))).trans rfl)
theorem dk_108 {code : ByteArray} {pc : Nat} (h : DkAt code pc [108]) : decode code pc = .ok (.idiv, 1) := dk_of ((dk_bind (dk_u1 (h 0 _ rfl))).trans rfl)
theorem dk_109 {code : ByteArray} {pc : Nat} (h : DkAt code pc [109]) : decode code pc = .ok (.ldiv, 1) := dk_of ((dk_bind (dk_u1 (h 0 _ rfl))).trans rfl)
theorem dk_112 {code : ByteArray} {pc : Nat} (h : DkAt code pc [112]) : decode code pc = .ok (.irem, 1) := dk_of ((dk_bind (dk_u1 (h 0 _ rfl))).trans rfl)
theorem dk_116 {code : ByteArray} {pc : Nat} (h : DkAt code pc [116]) : decode code pc = .ok (.ineg, 1) := dk_of ((dk_bind (dk_u1 (h 0 _ rfl))).trans rfl)
theorem dk_120 {code : ByteArray} {pc : Nat} (h : DkAt code pc [120]) : decode code pc = .ok (.ishl, 1) := dk_of ((dk_bind (dk_u1 (h 0 _ rfl))).trans rfl)
theorem dk_122 {code : ByteArray} {pc : Nat} (h : DkAt code pc [122]) : decode code pc = .ok (.ishr, 1) := dk_of ((dk_bind (dk_u1 (h 0 _ rfl))).trans rfl)
theorem dk_124 {code : ByteArray} {pc : Nat} (h : DkAt code pc [124]) : decode code pc = .ok (.iushr, 1) := dk_of ((dk_bind (dk_u1 (h 0 _ rfl))).trans rfl)
theorem dk_126 {code : ByteArray} {pc : Nat} (h : DkAt code pc [126]) : decode code pc = .ok (.iand, 1) := dk_of ((dk_bind (dk_u1 (h 0 _ rfl))).trans rfl)
theorem dk_128 {code : ByteArray} {pc : Nat} (h : DkAt code pc [128]) : decode code pc = .ok (.ior, 1) := dk_of ((dk_bind (dk_u1 (h 0 _ rfl))).trans rfl)
theorem dk_130 {code : ByteArray} {pc : Nat} (h : DkAt code pc [130]) : decode code pc = .ok (.ixor, 1) := dk_of ((dk_bind (dk_u1 (h 0 _ rfl))).trans rfl)
theorem dk_132 {code : ByteArray} {pc : Nat} (a b : UInt8) (h : DkAt code pc [132, a, b]) : decode code pc = .ok (.iinc a.toNat (Reader.signed 8 b.toNat), 3) := dk_of ((dk_bind (dk_u1 (h 0 _ rfl))).trans ((dk_bind (dk_u1 (h 1 _ rfl))).trans ((dk_bind (dk_map (dk_u1 (h 2 _ rfl)))).trans rfl)))
theorem dk_133 {code : ByteArray} {pc : Nat} (h : DkAt code pc [133]) : decode code pc = .ok (.i2l, 1) := dk_of ((dk_bind (dk_u1 (h 0 _ rfl))).trans rfl)
theorem dk_136 {code : ByteArray} {pc : Nat} (h : DkAt code pc [136]) : decode code pc = .ok (.l2i, 1) := dk_of ((dk_bind (dk_u1 (h 0 _ rfl))).trans rfl)
theorem dk_145 {code : ByteArray} {pc : Nat} (h : DkAt code pc [145]) : decode code pc = .ok (.i2b, 1) := dk_of ((dk_bind (dk_u1 (h 0 _ rfl))).trans rfl)
theorem dk_146 {code : ByteArray} {pc : Nat} (h : DkAt code pc [146]) : decode code pc = .ok (.i2c, 1) := dk_of ((dk_bind (dk_u1 (h 0 _ rfl))).trans rfl)
theorem dk_148 {code : ByteArray} {pc : Nat} (h : DkAt code pc [148]) : decode code pc = .ok (.lcmp, 1) := dk_of ((dk_bind (dk_u1 (h 0 _ rfl))).trans rfl)
theorem dk_153 {code : ByteArray} {pc : Nat} (a b : UInt8) (h : DkAt code pc [153, a, b]) : decode code pc = .ok (.ifCond .eq (Reader.signed 16 (a.toNat * 256 + b.toNat)), 3) := dk_of ((dk_bind (dk_u1 (h 0 _ rfl))).trans ((dk_bind (dk_map (dk_u2 (h 1 _ rfl) (h 2 _ rfl)))).trans rfl))
theorem dk_154 {code : ByteArray} {pc : Nat} (a b : UInt8) (h : DkAt code pc [154, a, b]) : decode code pc = .ok (.ifCond .ne (Reader.signed 16 (a.toNat * 256 + b.toNat)), 3) := dk_of ((dk_bind (dk_u1 (h 0 _ rfl))).trans ((dk_bind (dk_map (dk_u2 (h 1 _ rfl) (h 2 _ rfl)))).trans rfl))
theorem dk_155 {code : ByteArray} {pc : Nat} (a b : UInt8) (h : DkAt code pc [155, a, b]) : decode code pc = .ok (.ifCond .lt (Reader.signed 16 (a.toNat * 256 + b.toNat)), 3) := dk_of ((dk_bind (dk_u1 (h 0 _ rfl))).trans ((dk_bind (dk_map (dk_u2 (h 1 _ rfl) (h 2 _ rfl)))).trans rfl))
theorem dk_156 {code : ByteArray} {pc : Nat} (a b : UInt8) (h : DkAt code pc [156, a, b]) : decode code pc = .ok (.ifCond .ge (Reader.signed 16 (a.toNat * 256 + b.toNat)), 3) := dk_of ((dk_bind (dk_u1 (h 0 _ rfl))).trans ((dk_bind (dk_map (dk_u2 (h 1 _ rfl) (h 2 _ rfl)))).trans rfl))
theorem dk_157 {code : ByteArray} {pc : Nat} (a b : UInt8) (h : DkAt code pc [157, a, b]) : decode code pc = .ok (.ifCond .gt (Reader.signed 16 (a.toNat * 256 + b.toNat)), 3) := dk_of ((dk_bind (dk_u1 (h 0 _ rfl))).trans ((dk_bind (dk_map (dk_u2 (h 1 _ rfl) (h 2 _ rfl)))).trans rfl))
theorem dk_158 {code : ByteArray} {pc : Nat} (a b : UInt8) (h : DkAt code pc [158, a, b]) : decode code pc = .ok (.ifCond .le (Reader.signed 16 (a.toNat * 256 + b.toNat)), 3) := dk_of ((dk_bind (dk_u1 (h 0 _ rfl))).trans ((dk_bind (dk_map (dk_u2 (h 1 _ rfl) (h 2 _ rfl)))).trans rfl))
theorem dk_159 {code : ByteArray} {pc : Nat} (a b : UInt8) (h : DkAt code pc [159, a, b]) : decode code pc = .ok (.if_icmp .eq (Reader.signed 16 (a.toNat * 256 + b.toNat)), 3) := dk_of ((dk_bind (dk_u1 (h 0 _ rfl))).trans ((dk_bind (dk_map (dk_u2 (h 1 _ rfl) (h 2 _ rfl)))).trans rfl))
theorem dk_160 {code : ByteArray} {pc : Nat} (a b : UInt8) (h : DkAt code pc [160, a, b]) : decode code pc = .ok (.if_icmp .ne (Reader.signed 16 (a.toNat * 256 + b.toNat)), 3) := dk_of ((dk_bind (dk_u1 (h 0 _ rfl))).trans ((dk_bind (dk_map (dk_u2 (h 1 _ rfl) (h 2 _ rfl)))).trans rfl))
theorem dk_161 {code : ByteArray} {pc : Nat} (a b : UInt8) (h : DkAt code pc [161, a, b]) : decode code pc = .ok (.if_icmp .lt (Reader.signed 16 (a.toNat * 256 + b.toNat)), 3) := dk_of ((dk_bind (dk_u1 (h 0 _ rfl))).trans ((dk_bind (dk_map (dk_u2 (h 1 _ rfl) (h 2 _ rfl)))).trans rfl))
theorem dk_162 {code : ByteArray} {pc : Nat} (a b : UInt8) (h : DkAt code pc [162, a, b]) : decode code pc = .ok (.if_icmp .ge (Reader.signed 16 (a.toNat * 256 + b.toNat)), 3) := dk_of ((dk_bind (dk_u1 (h 0 _ rfl))).trans ((dk_bind (dk_map (dk_u2 (h 1 _ rfl) (h 2 _ rfl)))).trans rfl))
theorem dk_163 {code : ByteArray} {pc : Nat} (a b : UInt8) (h : DkAt code pc [163, a, b]) : decode code pc = .ok (.if_icmp .gt (Reader.signed 16 (a.toNat * 256 + b.toNat)), 3) := dk_of ((dk_bind (dk_u1 (h 0 _ rfl))).trans ((dk_bind (dk_map (dk_u2 (h 1 _ rfl) (h 2 _ rfl)))).trans rfl))
theorem dk_164 {code : ByteArray} {pc : Nat} (a b : UInt8) (h : DkAt code pc [164, a, b]) : decode code pc = .ok (.if_icmp .le (Reader.signed 16 (a.toNat * 256 + b.toNat)), 3) := dk_of ((dk_bind (dk_u1 (h 0 _ rfl))).trans ((dk_bind (dk_map (dk_u2 (h 1 _ rfl) (h 2 _ rfl)))).trans rfl))
theorem dk_165 {code : ByteArray} {pc : Nat} (a b : UInt8) (h : DkAt code pc [165, a, b]) : decode code pc = .ok (.if_acmp .eq (Reader.signed 16 (a.toNat * 256 + b.toNat)), 3) := dk_of ((dk_bind (dk_u1 (h 0 _ rfl))).trans ((dk_bind (dk_map (dk_u2 (h 1 _ rfl) (h 2 _ rfl)))).trans rfl))
theorem dk_166 {code : ByteArray} {pc : Nat} (a b : UInt8) (h : DkAt code pc [166, a, b]) : decode code pc = .ok (.if_acmp .ne (Reader.signed 16 (a.toNat * 256 + b.toNat)), 3) := dk_of ((dk_bind (dk_u1 (h 0 _ rfl))).trans ((dk_bind (dk_map (dk_u2 (h 1 _ rfl) (h 2 _ rfl)))).trans rfl))
theorem dk_167 {code : ByteArray} {pc : Nat} (a b : UInt8) (h : DkAt code pc [167, a, b]) : decode code pc = .ok (.goto (Reader.signed 16 (a.toNat * 256 + b.toNat)), 3) := dk_of ((dk_bind (dk_u1 (h 0 _ rfl))).trans ((dk_bind (dk_map (dk_u2 (h 1 _ rfl) (h 2 _ rfl)))).trans rfl))
theorem dk_172 {code : ByteArray} {pc : Nat} (h : DkAt code pc [172]) : decode code pc = .ok (.ireturn, 1) := dk_of ((dk_bind (dk_u1 (h 0 _ rfl))).trans rfl)
theorem dk_173 {code : ByteArray} {pc : Nat} (h : DkAt code pc [173]) : decode code pc = .ok (.lreturn, 1) := dk_of ((dk_bind (dk_u1 (h 0 _ rfl))).trans rfl)
theorem dk_176 {code : ByteArray} {pc : Nat} (h : DkAt code pc [176]) : decode code pc = .ok (.areturn, 1) := dk_of ((dk_bind (dk_u1 (h 0 _ rfl))).trans rfl)
theorem dk_177 {code : ByteArray} {pc : Nat} (h : DkAt code pc [177]) : decode code pc = .ok (.return_, 1) := dk_of ((dk_bind (dk_u1 (h 0 _ rfl))).trans rfl)
theorem dk_178 {code : ByteArray} {pc : Nat} (a b : UInt8) (h : DkAt code pc [178, a, b]) : decode code pc = .ok (.getstatic (a.toNat * 256 + b.toNat), 3) := dk_of ((dk_bind (dk_u1 (h 0 _ rfl))).trans ((dk_bind (dk_u2 (h 1 _ rfl) (h 2 _ rfl))).trans rfl))
theorem dk_180 {code : ByteArray} {pc : Nat} (a b : UInt8) (h : DkAt code pc [180, a, b]) : decode code pc = .ok (.getfield (a.toNat * 256 + b.toNat), 3) := dk_of ((dk_bind (dk_u1 (h 0 _ rfl))).trans ((dk_bind (dk_u2 (h 1 _ rfl) (h 2 _ rfl))).trans rfl))
theorem dk_181 {code : ByteArray} {pc : Nat} (a b : UInt8) (h : DkAt code pc [181, a, b]) : decode code pc = .ok (.putfield (a.toNat * 256 + b.toNat), 3) := dk_of ((dk_bind (dk_u1 (h 0 _ rfl))).trans ((dk_bind (dk_u2 (h 1 _ rfl) (h 2 _ rfl))).trans rfl))
theorem dk_182 {code : ByteArray} {pc : Nat} (a b : UInt8) (h : DkAt code pc [182, a, b]) : decode code pc = .ok (.invokevirtual (a.toNat * 256 + b.toNat), 3) := dk_of ((dk_bind (dk_u1 (h 0 _ rfl))).trans ((dk_bind (dk_u2 (h 1 _ rfl) (h 2 _ rfl))).trans rfl))
theorem dk_183 {code : ByteArray} {pc : Nat} (a b : UInt8) (h : DkAt code pc [183, a, b]) : decode code pc = .ok (.invokespecial (a.toNat * 256 + b.toNat), 3) := dk_of ((dk_bind (dk_u1 (h 0 _ rfl))).trans ((dk_bind (dk_u2 (h 1 _ rfl) (h 2 _ rfl))).trans rfl))
theorem dk_184 {code : ByteArray} {pc : Nat} (a b : UInt8) (h : DkAt code pc [184, a, b]) : decode code pc = .ok (.invokestatic (a.toNat * 256 + b.toNat), 3) := dk_of ((dk_bind (dk_u1 (h 0 _ rfl))).trans ((dk_bind (dk_u2 (h 1 _ rfl) (h 2 _ rfl))).trans rfl))
theorem dk_187 {code : ByteArray} {pc : Nat} (a b : UInt8) (h : DkAt code pc [187, a, b]) : decode code pc = .ok (.new (a.toNat * 256 + b.toNat), 3) := dk_of ((dk_bind (dk_u1 (h 0 _ rfl))).trans ((dk_bind (dk_u2 (h 1 _ rfl) (h 2 _ rfl))).trans rfl))
theorem dk_188_8 {code : ByteArray} {pc : Nat} (h : DkAt code pc [188, 8]) : decode code pc = .ok (.newarray .byte, 2) := dk_of ((dk_bind (dk_u1 (h 0 _ rfl))).trans ((dk_bind (dk_u1 (h 1 _ rfl))).trans rfl))
theorem dk_188_10 {code : ByteArray} {pc : Nat} (h : DkAt code pc [188, 10]) : decode code pc = .ok (.newarray .int, 2) := dk_of ((dk_bind (dk_u1 (h 0 _ rfl))).trans ((dk_bind (dk_u1 (h 1 _ rfl))).trans rfl))
theorem dk_188_11 {code : ByteArray} {pc : Nat} (h : DkAt code pc [188, 11]) : decode code pc = .ok (.newarray .long, 2) := dk_of ((dk_bind (dk_u1 (h 0 _ rfl))).trans ((dk_bind (dk_u1 (h 1 _ rfl))).trans rfl))
theorem dk_189 {code : ByteArray} {pc : Nat} (a b : UInt8) (h : DkAt code pc [189, a, b]) : decode code pc = .ok (.anewarray (a.toNat * 256 + b.toNat), 3) := dk_of ((dk_bind (dk_u1 (h 0 _ rfl))).trans ((dk_bind (dk_u2 (h 1 _ rfl) (h 2 _ rfl))).trans rfl))
theorem dk_190 {code : ByteArray} {pc : Nat} (h : DkAt code pc [190]) : decode code pc = .ok (.arraylength, 1) := dk_of ((dk_bind (dk_u1 (h 0 _ rfl))).trans rfl)
theorem dk_191 {code : ByteArray} {pc : Nat} (h : DkAt code pc [191]) : decode code pc = .ok (.athrow, 1) := dk_of ((dk_bind (dk_u1 (h 0 _ rfl))).trans rfl)
theorem dk_192 {code : ByteArray} {pc : Nat} (a b : UInt8) (h : DkAt code pc [192, a, b]) : decode code pc = .ok (.checkcast (a.toNat * 256 + b.toNat), 3) := dk_of ((dk_bind (dk_u1 (h 0 _ rfl))).trans ((dk_bind (dk_u2 (h 1 _ rfl) (h 2 _ rfl))).trans rfl))
theorem dk_193 {code : ByteArray} {pc : Nat} (a b : UInt8) (h : DkAt code pc [193, a, b]) : decode code pc = .ok (.instanceof (a.toNat * 256 + b.toNat), 3) := dk_of ((dk_bind (dk_u1 (h 0 _ rfl))).trans ((dk_bind (dk_u2 (h 1 _ rfl) (h 2 _ rfl))).trans rfl))
theorem dk_198 {code : ByteArray} {pc : Nat} (a b : UInt8) (h : DkAt code pc [198, a, b]) : decode code pc = .ok (.ifnull (Reader.signed 16 (a.toNat * 256 + b.toNat)), 3) := dk_of ((dk_bind (dk_u1 (h 0 _ rfl))).trans ((dk_bind (dk_map (dk_u2 (h 1 _ rfl) (h 2 _ rfl)))).trans rfl))
theorem dk_199 {code : ByteArray} {pc : Nat} (a b : UInt8) (h : DkAt code pc [199, a, b]) : decode code pc = .ok (.ifnonnull (Reader.signed 16 (a.toNat * 256 + b.toNat)), 3) := dk_of ((dk_bind (dk_u1 (h 0 _ rfl))).trans ((dk_bind (dk_map (dk_u2 (h 1 _ rfl) (h 2 _ rfl)))).trans rfl))
/-! DocumentaryCreditDeskModel -/
set_option maxRecDepth 100000
def RX5 : String := "DocumentaryCreditDeskModel"
def TX5 : u_T := fun k => match k with
  | 0 => ("DocumentaryCreditDeskModel", "thrown", "I", false)
  | 1 => ("DocumentaryCreditDeskModel", "buffer", "[I", true)
  | 2 => ("DocumentaryCreditDeskModel", "bufferLength", "I", false)
  | 3 => ("DocumentaryCreditDeskModel", "textLength", "I", false)
  | 4 => ("DocumentaryCreditDeskModel", "position", "I", false)
  | 5 => ("DocumentaryCreditDeskModel", "error", "I", false)
  | 6 => ("DocumentaryCreditDeskModel", "errorAt", "I", false)
  | 7 => ("DocumentaryCreditDeskModel", "errorOffset", "I", false)
  | 8 => ("DocumentaryCreditDeskModel", "data", "[I", true)
  | 9 => ("DocumentaryCreditDeskModel", "draft", "[I", true)
  | 10 => ("DocumentaryCreditDeskModel", "history", "[[I", true)
  | 11 => ("DocumentaryCreditDeskModel", "undoDepth", "I", false)
  | 12 => ("DocumentaryCreditDeskModel", "numberStart", "I", false)
  | 13 => ("DocumentaryCreditDeskModel", "nesting", "I", false)
  | 14 => ("DocumentaryCreditDeskModel", "seen", "I", false)
  | _ => ("DocumentaryCreditDeskModel", "stack", "[J", true)
def tyX5 : Nat → FieldType := fun k => match k with
  | 0 => .int
  | 1 => .array .int
  | 2 => .int
  | 3 => .int
  | 4 => .int
  | 5 => .int
  | 6 => .int
  | 7 => .int
  | 8 => .array .int
  | 9 => .array .int
  | 10 => .array (.array .int)
  | 11 => .int
  | 12 => .int
  | 13 => .int
  | 14 => .int
  | _ => .array .long
abbrev wsX50 : List Cond := u_ws RX5 TX5 16
set_option maxRecDepth 100000 in
theorem nmX5 : ∀ a, a < 16 → ∀ b, b < 16 → a ≠ b → (TX5 a).2.1 ≠ (TX5 b).2.1 := by decide +kernel
set_option maxRecDepth 100000 in
theorem tyX5_ok : ∀ k, k < 16 → parseFieldDescriptor (TX5 k).2.2.1 = some (tyX5 k) := by decide +kernel
abbrev cX5_init : ByteArray := prog_14_method_1_code
def yX5_init : MethodName := ⟨RX5, "<init>", "()V"⟩
def dkwX5_init_2 : List UInt8 := [181, 0, 25, 42, 17, 5, 220, 188, 11, 181, 0, 28, 177]
abbrev dktX5_init_2 : List UInt8 := dkwX5_init_2 ++ []
def dkwX5_init_1 : List UInt8 := [181, 0, 17, 42, 17, 7, 6, 188, 10, 181, 0, 20, 42, 16, 8, 17, 7, 6, 197, 0, 23, 2]
abbrev dktX5_init_1 : List UInt8 := dkwX5_init_1 ++ dktX5_init_2
def dkwX5_init_0 : List UInt8 := [42, 183, 0, 3, 42, 17, 3, 132, 188, 10, 181, 0, 9, 42, 2, 181, 0, 13, 42, 17, 7, 6, 188, 10]
abbrev dktX5_init_0 : List UInt8 := dkwX5_init_0 ++ dktX5_init_1
theorem dksX5_init_0 : cX5_init.data.toList.drop 0 = dktX5_init_0 := by decide +kernel
theorem dksX5_init_1 : cX5_init.data.toList.drop 24 = dktX5_init_1 := dk_seg dksX5_init_0 24 rfl rfl
theorem dksX5_init_2 : cX5_init.data.toList.drop 46 = dktX5_init_2 := dk_seg dksX5_init_1 22 rfl rfl
theorem dX5_init_0 : decode cX5_init 0 = .ok (.aload_n 0, 1) := dk_42 (dk_at dksX5_init_0 0 rfl rfl)
theorem dX5_init_1 : decode cX5_init 1 = .ok (.invokespecial 3, 3) := dk_183 0 3 (dk_at dksX5_init_0 1 rfl rfl)
theorem dX5_init_4 : decode cX5_init 4 = .ok (.aload_n 0, 1) := dk_42 (dk_at dksX5_init_0 4 rfl rfl)
theorem dX5_init_5 : decode cX5_init 5 = .ok (.sipush 900, 3) := dk_17 3 132 (dk_at dksX5_init_0 5 rfl rfl)
theorem dX5_init_8 : decode cX5_init 8 = .ok (.newarray .int, 2) := dk_188_10 (dk_at dksX5_init_0 8 rfl rfl)
theorem dX5_init_10 : decode cX5_init 10 = .ok (.putfield 9, 3) := dk_181 0 9 (dk_at dksX5_init_0 10 rfl rfl)
theorem dX5_init_13 : decode cX5_init 13 = .ok (.aload_n 0, 1) := dk_42 (dk_at dksX5_init_0 13 rfl rfl)
theorem dX5_init_14 : decode cX5_init 14 = .ok (.iconst (-1), 1) := dk_2 (dk_at dksX5_init_0 14 rfl rfl)
theorem dX5_init_15 : decode cX5_init 15 = .ok (.putfield 13, 3) := dk_181 0 13 (dk_at dksX5_init_0 15 rfl rfl)
theorem dX5_init_18 : decode cX5_init 18 = .ok (.aload_n 0, 1) := dk_42 (dk_at dksX5_init_0 18 rfl rfl)
theorem dX5_init_19 : decode cX5_init 19 = .ok (.sipush 1798, 3) := dk_17 7 6 (dk_at dksX5_init_0 19 rfl rfl)
theorem dX5_init_22 : decode cX5_init 22 = .ok (.newarray .int, 2) := dk_188_10 (dk_at dksX5_init_0 22 rfl rfl)
theorem dX5_init_24 : decode cX5_init 24 = .ok (.putfield 17, 3) := dk_181 0 17 (dk_at dksX5_init_1 0 rfl rfl)
theorem dX5_init_27 : decode cX5_init 27 = .ok (.aload_n 0, 1) := dk_42 (dk_at dksX5_init_1 3 rfl rfl)
theorem dX5_init_28 : decode cX5_init 28 = .ok (.sipush 1798, 3) := dk_17 7 6 (dk_at dksX5_init_1 4 rfl rfl)
theorem dX5_init_31 : decode cX5_init 31 = .ok (.newarray .int, 2) := dk_188_10 (dk_at dksX5_init_1 7 rfl rfl)
theorem dX5_init_33 : decode cX5_init 33 = .ok (.putfield 20, 3) := dk_181 0 20 (dk_at dksX5_init_1 9 rfl rfl)
theorem dX5_init_36 : decode cX5_init 36 = .ok (.aload_n 0, 1) := dk_42 (dk_at dksX5_init_1 12 rfl rfl)
theorem dX5_init_37 : decode cX5_init 37 = .ok (.bipush 8, 2) := dk_16 8 (dk_at dksX5_init_1 13 rfl rfl)
theorem dX5_init_39 : decode cX5_init 39 = .ok (.sipush 1798, 3) := dk_17 7 6 (dk_at dksX5_init_1 15 rfl rfl)
theorem dX5_init_42 : decode cX5_init 42 = .ok (.multianewarray 23 2, 4) := by decide +kernel
theorem dX5_init_46 : decode cX5_init 46 = .ok (.putfield 25, 3) := dk_181 0 25 (dk_at dksX5_init_2 0 rfl rfl)
theorem dX5_init_49 : decode cX5_init 49 = .ok (.aload_n 0, 1) := dk_42 (dk_at dksX5_init_2 3 rfl rfl)
theorem dX5_init_50 : decode cX5_init 50 = .ok (.sipush 1500, 3) := dk_17 5 220 (dk_at dksX5_init_2 4 rfl rfl)
theorem dX5_init_53 : decode cX5_init 53 = .ok (.newarray .long, 2) := dk_188_11 (dk_at dksX5_init_2 7 rfl rfl)
theorem dX5_init_55 : decode cX5_init 55 = .ok (.putfield 28, 3) := dk_181 0 28 (dk_at dksX5_init_2 9 rfl rfl)
theorem dX5_init_58 : decode cX5_init 58 = .ok (.return_, 1) := dk_177 (dk_at dksX5_init_2 12 rfl rfl)
abbrev cX5_thrown : ByteArray := prog_14_method_2_code
def yX5_thrown : MethodName := ⟨RX5, "thrown", "()I"⟩
theorem dX5_thrown_0 : decode cX5_thrown 0 = .ok (.aload_n 0, 1) := by decide +kernel
theorem dX5_thrown_1 : decode cX5_thrown 1 = .ok (.getfield 32, 3) := by decide +kernel
theorem dX5_thrown_4 : decode cX5_thrown 4 = .ok (.ireturn, 1) := by decide +kernel
abbrev cX5_append : ByteArray := prog_14_method_9_code
def yX5_append : MethodName := ⟨RX5, "append", "(IIIII)I"⟩
def dkwX5_append_5 : List UInt8 := [167, 255, 162, 42, 180, 0, 35, 172]
abbrev dktX5_append_5 : List UInt8 := dkwX5_append_5 ++ []
def dkwX5_append_4 : List UInt8 := [112, 104, 100, 122, 17, 0, 255, 126, 79, 42, 89, 180, 0, 35, 4, 96, 181, 0, 35, 132, 6, 1]
abbrev dktX5_append_4 : List UInt8 := dkwX5_append_4 ++ dktX5_append_5
def dkwX5_append_3 : List UInt8 := [167, 0, 5, 21, 5, 54, 7, 42, 180, 0, 9, 42, 180, 0, 35, 21, 7, 16, 24, 16, 8, 21, 6, 7]
abbrev dktX5_append_3 : List UInt8 := dkwX5_append_3 ++ dktX5_append_4
def dkwX5_append_2 : List UInt8 := [28, 167, 0, 28, 21, 6, 16, 12, 162, 0, 7, 29, 167, 0, 17, 21, 6, 16, 16, 162, 0, 8, 21, 4]
abbrev dktX5_append_2 : List UInt8 := dkwX5_append_2 ++ dktX5_append_3
def dkwX5_append_1 : List UInt8 := [21, 6, 16, 20, 162, 0, 93, 21, 6, 7, 162, 0, 7, 27, 167, 0, 39, 21, 6, 16, 8, 162, 0, 7]
abbrev dktX5_append_1 : List UInt8 := dkwX5_append_1 ++ dktX5_append_2
def dkwX5_append_0 : List UInt8 := [42, 3, 181, 0, 32, 42, 180, 0, 35, 16, 20, 96, 17, 3, 132, 164, 0, 5, 2, 172, 3, 54, 6]
abbrev dktX5_append_0 : List UInt8 := dkwX5_append_0 ++ dktX5_append_1
theorem dksX5_append_0 : cX5_append.data.toList.drop 0 = dktX5_append_0 := by decide +kernel
theorem dksX5_append_1 : cX5_append.data.toList.drop 23 = dktX5_append_1 := dk_seg dksX5_append_0 23 rfl rfl
theorem dksX5_append_2 : cX5_append.data.toList.drop 47 = dktX5_append_2 := dk_seg dksX5_append_1 24 rfl rfl
theorem dksX5_append_3 : cX5_append.data.toList.drop 71 = dktX5_append_3 := dk_seg dksX5_append_2 24 rfl rfl
theorem dksX5_append_4 : cX5_append.data.toList.drop 95 = dktX5_append_4 := dk_seg dksX5_append_3 24 rfl rfl
theorem dksX5_append_5 : cX5_append.data.toList.drop 117 = dktX5_append_5 := dk_seg dksX5_append_4 22 rfl rfl
theorem dX5_append_0 : decode cX5_append 0 = .ok (.aload_n 0, 1) := dk_42 (dk_at dksX5_append_0 0 rfl rfl)
theorem dX5_append_1 : decode cX5_append 1 = .ok (.iconst 0, 1) := dk_3 (dk_at dksX5_append_0 1 rfl rfl)
theorem dX5_append_2 : decode cX5_append 2 = .ok (.putfield 32, 3) := dk_181 0 32 (dk_at dksX5_append_0 2 rfl rfl)
theorem dX5_append_5 : decode cX5_append 5 = .ok (.aload_n 0, 1) := dk_42 (dk_at dksX5_append_0 5 rfl rfl)
theorem dX5_append_6 : decode cX5_append 6 = .ok (.getfield 35, 3) := dk_180 0 35 (dk_at dksX5_append_0 6 rfl rfl)
theorem dX5_append_9 : decode cX5_append 9 = .ok (.bipush 20, 2) := dk_16 20 (dk_at dksX5_append_0 9 rfl rfl)
theorem dX5_append_11 : decode cX5_append 11 = .ok (.iadd, 1) := dk_96 (dk_at dksX5_append_0 11 rfl rfl)
theorem dX5_append_12 : decode cX5_append 12 = .ok (.sipush 900, 3) := dk_17 3 132 (dk_at dksX5_append_0 12 rfl rfl)
theorem dX5_append_15 : decode cX5_append 15 = .ok (.if_icmp .le 5, 3) := dk_164 0 5 (dk_at dksX5_append_0 15 rfl rfl)
theorem dX5_append_18 : decode cX5_append 18 = .ok (.iconst (-1), 1) := dk_2 (dk_at dksX5_append_0 18 rfl rfl)
theorem dX5_append_19 : decode cX5_append 19 = .ok (.ireturn, 1) := dk_172 (dk_at dksX5_append_0 19 rfl rfl)
theorem dX5_append_20 : decode cX5_append 20 = .ok (.iconst 0, 1) := dk_3 (dk_at dksX5_append_0 20 rfl rfl)
theorem dX5_append_21 : decode cX5_append 21 = .ok (.istore 6, 2) := dk_54 6 (dk_at dksX5_append_0 21 rfl rfl)
theorem dX5_append_23 : decode cX5_append 23 = .ok (.iload 6, 2) := dk_21 6 (dk_at dksX5_append_1 0 rfl rfl)
theorem dX5_append_25 : decode cX5_append 25 = .ok (.bipush 20, 2) := dk_16 20 (dk_at dksX5_append_1 2 rfl rfl)
theorem dX5_append_27 : decode cX5_append 27 = .ok (.if_icmp .ge 93, 3) := dk_162 0 93 (dk_at dksX5_append_1 4 rfl rfl)
theorem dX5_append_30 : decode cX5_append 30 = .ok (.iload 6, 2) := dk_21 6 (dk_at dksX5_append_1 7 rfl rfl)
theorem dX5_append_32 : decode cX5_append 32 = .ok (.iconst 4, 1) := dk_7 (dk_at dksX5_append_1 9 rfl rfl)
theorem dX5_append_33 : decode cX5_append 33 = .ok (.if_icmp .ge 7, 3) := dk_162 0 7 (dk_at dksX5_append_1 10 rfl rfl)
theorem dX5_append_36 : decode cX5_append 36 = .ok (.iload_n 1, 1) := dk_27 (dk_at dksX5_append_1 13 rfl rfl)
theorem dX5_append_37 : decode cX5_append 37 = .ok (.goto 39, 3) := dk_167 0 39 (dk_at dksX5_append_1 14 rfl rfl)
theorem dX5_append_40 : decode cX5_append 40 = .ok (.iload 6, 2) := dk_21 6 (dk_at dksX5_append_1 17 rfl rfl)
theorem dX5_append_42 : decode cX5_append 42 = .ok (.bipush 8, 2) := dk_16 8 (dk_at dksX5_append_1 19 rfl rfl)
theorem dX5_append_44 : decode cX5_append 44 = .ok (.if_icmp .ge 7, 3) := dk_162 0 7 (dk_at dksX5_append_1 21 rfl rfl)
theorem dX5_append_47 : decode cX5_append 47 = .ok (.iload_n 2, 1) := dk_28 (dk_at dksX5_append_2 0 rfl rfl)
theorem dX5_append_48 : decode cX5_append 48 = .ok (.goto 28, 3) := dk_167 0 28 (dk_at dksX5_append_2 1 rfl rfl)
theorem dX5_append_51 : decode cX5_append 51 = .ok (.iload 6, 2) := dk_21 6 (dk_at dksX5_append_2 4 rfl rfl)
theorem dX5_append_53 : decode cX5_append 53 = .ok (.bipush 12, 2) := dk_16 12 (dk_at dksX5_append_2 6 rfl rfl)
theorem dX5_append_55 : decode cX5_append 55 = .ok (.if_icmp .ge 7, 3) := dk_162 0 7 (dk_at dksX5_append_2 8 rfl rfl)
theorem dX5_append_58 : decode cX5_append 58 = .ok (.iload_n 3, 1) := dk_29 (dk_at dksX5_append_2 11 rfl rfl)
theorem dX5_append_59 : decode cX5_append 59 = .ok (.goto 17, 3) := dk_167 0 17 (dk_at dksX5_append_2 12 rfl rfl)
theorem dX5_append_62 : decode cX5_append 62 = .ok (.iload 6, 2) := dk_21 6 (dk_at dksX5_append_2 15 rfl rfl)
theorem dX5_append_64 : decode cX5_append 64 = .ok (.bipush 16, 2) := dk_16 16 (dk_at dksX5_append_2 17 rfl rfl)
theorem dX5_append_66 : decode cX5_append 66 = .ok (.if_icmp .ge 8, 3) := dk_162 0 8 (dk_at dksX5_append_2 19 rfl rfl)
theorem dX5_append_69 : decode cX5_append 69 = .ok (.iload 4, 2) := dk_21 4 (dk_at dksX5_append_2 22 rfl rfl)
theorem dX5_append_71 : decode cX5_append 71 = .ok (.goto 5, 3) := dk_167 0 5 (dk_at dksX5_append_3 0 rfl rfl)
theorem dX5_append_74 : decode cX5_append 74 = .ok (.iload 5, 2) := dk_21 5 (dk_at dksX5_append_3 3 rfl rfl)
theorem dX5_append_76 : decode cX5_append 76 = .ok (.istore 7, 2) := dk_54 7 (dk_at dksX5_append_3 5 rfl rfl)
theorem dX5_append_78 : decode cX5_append 78 = .ok (.aload_n 0, 1) := dk_42 (dk_at dksX5_append_3 7 rfl rfl)
theorem dX5_append_79 : decode cX5_append 79 = .ok (.getfield 9, 3) := dk_180 0 9 (dk_at dksX5_append_3 8 rfl rfl)
theorem dX5_append_82 : decode cX5_append 82 = .ok (.aload_n 0, 1) := dk_42 (dk_at dksX5_append_3 11 rfl rfl)
theorem dX5_append_83 : decode cX5_append 83 = .ok (.getfield 35, 3) := dk_180 0 35 (dk_at dksX5_append_3 12 rfl rfl)
theorem dX5_append_86 : decode cX5_append 86 = .ok (.iload 7, 2) := dk_21 7 (dk_at dksX5_append_3 15 rfl rfl)
theorem dX5_append_88 : decode cX5_append 88 = .ok (.bipush 24, 2) := dk_16 24 (dk_at dksX5_append_3 17 rfl rfl)
theorem dX5_append_90 : decode cX5_append 90 = .ok (.bipush 8, 2) := dk_16 8 (dk_at dksX5_append_3 19 rfl rfl)
theorem dX5_append_92 : decode cX5_append 92 = .ok (.iload 6, 2) := dk_21 6 (dk_at dksX5_append_3 21 rfl rfl)
theorem dX5_append_94 : decode cX5_append 94 = .ok (.iconst 4, 1) := dk_7 (dk_at dksX5_append_3 23 rfl rfl)
theorem dX5_append_95 : decode cX5_append 95 = .ok (.irem, 1) := dk_112 (dk_at dksX5_append_4 0 rfl rfl)
theorem dX5_append_96 : decode cX5_append 96 = .ok (.imul, 1) := dk_104 (dk_at dksX5_append_4 1 rfl rfl)
theorem dX5_append_97 : decode cX5_append 97 = .ok (.isub, 1) := dk_100 (dk_at dksX5_append_4 2 rfl rfl)
theorem dX5_append_98 : decode cX5_append 98 = .ok (.ishr, 1) := dk_122 (dk_at dksX5_append_4 3 rfl rfl)
theorem dX5_append_99 : decode cX5_append 99 = .ok (.sipush 255, 3) := dk_17 0 255 (dk_at dksX5_append_4 4 rfl rfl)
theorem dX5_append_102 : decode cX5_append 102 = .ok (.iand, 1) := dk_126 (dk_at dksX5_append_4 7 rfl rfl)
theorem dX5_append_103 : decode cX5_append 103 = .ok (.iastore, 1) := dk_79 (dk_at dksX5_append_4 8 rfl rfl)
theorem dX5_append_104 : decode cX5_append 104 = .ok (.aload_n 0, 1) := dk_42 (dk_at dksX5_append_4 9 rfl rfl)
theorem dX5_append_105 : decode cX5_append 105 = .ok (.dup, 1) := dk_89 (dk_at dksX5_append_4 10 rfl rfl)
theorem dX5_append_106 : decode cX5_append 106 = .ok (.getfield 35, 3) := dk_180 0 35 (dk_at dksX5_append_4 11 rfl rfl)
theorem dX5_append_109 : decode cX5_append 109 = .ok (.iconst 1, 1) := dk_4 (dk_at dksX5_append_4 14 rfl rfl)
theorem dX5_append_110 : decode cX5_append 110 = .ok (.iadd, 1) := dk_96 (dk_at dksX5_append_4 15 rfl rfl)
theorem dX5_append_111 : decode cX5_append 111 = .ok (.putfield 35, 3) := dk_181 0 35 (dk_at dksX5_append_4 16 rfl rfl)
theorem dX5_append_114 : decode cX5_append 114 = .ok (.iinc 6 1, 3) := dk_132 6 1 (dk_at dksX5_append_4 19 rfl rfl)
theorem dX5_append_117 : decode cX5_append 117 = .ok (.goto (-94), 3) := dk_167 255 162 (dk_at dksX5_append_5 0 rfl rfl)
theorem dX5_append_120 : decode cX5_append 120 = .ok (.aload_n 0, 1) := dk_42 (dk_at dksX5_append_5 3 rfl rfl)
theorem dX5_append_121 : decode cX5_append 121 = .ok (.getfield 35, 3) := dk_180 0 35 (dk_at dksX5_append_5 4 rfl rfl)
theorem dX5_append_124 : decode cX5_append 124 = .ok (.ireturn, 1) := dk_172 (dk_at dksX5_append_5 7 rfl rfl)
abbrev cX5_load : ByteArray := prog_14_method_27_code
def yX5_load : MethodName := ⟨RX5, "load", "(I)I"⟩
def dkwX5_load_6 : List UInt8 := [180, 0, 17, 184, 0, 163, 42, 180, 0, 17, 3, 46, 172]
abbrev dktX5_load_6 : List UInt8 := dkwX5_load_6 ++ []
def dkwX5_load_5 : List UInt8 := [181, 0, 13, 42, 182, 0, 58, 154, 0, 8, 42, 180, 0, 48, 172, 42, 182, 0, 160, 42, 180, 0, 20, 42]
abbrev dktX5_load_5 : List UInt8 := dkwX5_load_5 ++ dktX5_load_6
def dkwX5_load_4 : List UInt8 := [153, 0, 18, 42, 182, 0, 62, 2, 159, 0, 10, 42, 182, 0, 157, 167, 255, 237, 42, 42, 180, 0, 51]
abbrev dktX5_load_4 : List UInt8 := dkwX5_load_4 ++ dktX5_load_5
def dkwX5_load_3 : List UInt8 := [17, 7, 6, 162, 0, 16, 42, 180, 0, 20, 28, 3, 79, 132, 2, 1, 167, 255, 239, 42, 182, 0, 58]
abbrev dktX5_load_3 : List UInt8 := dkwX5_load_3 ++ dktX5_load_4
def dkwX5_load_2 : List UInt8 := [3, 181, 0, 48, 42, 2, 181, 0, 51, 42, 3, 181, 0, 91, 42, 3, 181, 0, 123, 3, 61, 28]
abbrev dktX5_load_2 : List UInt8 := dkwX5_load_2 ++ dktX5_load_3
def dkwX5_load_1 : List UInt8 := [182, 0, 153, 153, 0, 5, 3, 172, 42, 3, 181, 0, 35, 42, 27, 181, 0, 38, 42, 3, 181, 0, 41, 42]
abbrev dktX5_load_1 : List UInt8 := dkwX5_load_1 ++ dktX5_load_2
def dkwX5_load_0 : List UInt8 := [42, 3, 181, 0, 32, 42, 27, 3, 42, 180, 0, 35, 184, 0, 54, 154, 0, 7, 4, 167, 0, 4, 3, 4]
abbrev dktX5_load_0 : List UInt8 := dkwX5_load_0 ++ dktX5_load_1
theorem dksX5_load_0 : cX5_load.data.toList.drop 0 = dktX5_load_0 := by decide +kernel
theorem dksX5_load_1 : cX5_load.data.toList.drop 24 = dktX5_load_1 := dk_seg dksX5_load_0 24 rfl rfl
theorem dksX5_load_2 : cX5_load.data.toList.drop 48 = dktX5_load_2 := dk_seg dksX5_load_1 24 rfl rfl
theorem dksX5_load_3 : cX5_load.data.toList.drop 70 = dktX5_load_3 := dk_seg dksX5_load_2 22 rfl rfl
theorem dksX5_load_4 : cX5_load.data.toList.drop 93 = dktX5_load_4 := dk_seg dksX5_load_3 23 rfl rfl
theorem dksX5_load_5 : cX5_load.data.toList.drop 116 = dktX5_load_5 := dk_seg dksX5_load_4 23 rfl rfl
theorem dksX5_load_6 : cX5_load.data.toList.drop 140 = dktX5_load_6 := dk_seg dksX5_load_5 24 rfl rfl
theorem dX5_load_0 : decode cX5_load 0 = .ok (.aload_n 0, 1) := dk_42 (dk_at dksX5_load_0 0 rfl rfl)
theorem dX5_load_1 : decode cX5_load 1 = .ok (.iconst 0, 1) := dk_3 (dk_at dksX5_load_0 1 rfl rfl)
theorem dX5_load_2 : decode cX5_load 2 = .ok (.putfield 32, 3) := dk_181 0 32 (dk_at dksX5_load_0 2 rfl rfl)
theorem dX5_load_5 : decode cX5_load 5 = .ok (.aload_n 0, 1) := dk_42 (dk_at dksX5_load_0 5 rfl rfl)
theorem dX5_load_6 : decode cX5_load 6 = .ok (.iload_n 1, 1) := dk_27 (dk_at dksX5_load_0 6 rfl rfl)
theorem dX5_load_7 : decode cX5_load 7 = .ok (.iconst 0, 1) := dk_3 (dk_at dksX5_load_0 7 rfl rfl)
theorem dX5_load_8 : decode cX5_load 8 = .ok (.aload_n 0, 1) := dk_42 (dk_at dksX5_load_0 8 rfl rfl)
theorem dX5_load_9 : decode cX5_load 9 = .ok (.getfield 35, 3) := dk_180 0 35 (dk_at dksX5_load_0 9 rfl rfl)
theorem dX5_load_12 : decode cX5_load 12 = .ok (.invokestatic 54, 3) := dk_184 0 54 (dk_at dksX5_load_0 12 rfl rfl)
theorem dX5_load_15 : decode cX5_load 15 = .ok (.ifCond .ne 7, 3) := dk_154 0 7 (dk_at dksX5_load_0 15 rfl rfl)
theorem dX5_load_18 : decode cX5_load 18 = .ok (.iconst 1, 1) := dk_4 (dk_at dksX5_load_0 18 rfl rfl)
theorem dX5_load_19 : decode cX5_load 19 = .ok (.goto 4, 3) := dk_167 0 4 (dk_at dksX5_load_0 19 rfl rfl)
theorem dX5_load_22 : decode cX5_load 22 = .ok (.iconst 0, 1) := dk_3 (dk_at dksX5_load_0 22 rfl rfl)
theorem dX5_load_23 : decode cX5_load 23 = .ok (.iconst 1, 1) := dk_4 (dk_at dksX5_load_0 23 rfl rfl)
theorem dX5_load_24 : decode cX5_load 24 = .ok (.invokevirtual 153, 3) := dk_182 0 153 (dk_at dksX5_load_1 0 rfl rfl)
theorem dX5_load_27 : decode cX5_load 27 = .ok (.ifCond .eq 5, 3) := dk_153 0 5 (dk_at dksX5_load_1 3 rfl rfl)
theorem dX5_load_30 : decode cX5_load 30 = .ok (.iconst 0, 1) := dk_3 (dk_at dksX5_load_1 6 rfl rfl)
theorem dX5_load_31 : decode cX5_load 31 = .ok (.ireturn, 1) := dk_172 (dk_at dksX5_load_1 7 rfl rfl)
theorem dX5_load_32 : decode cX5_load 32 = .ok (.aload_n 0, 1) := dk_42 (dk_at dksX5_load_1 8 rfl rfl)
theorem dX5_load_33 : decode cX5_load 33 = .ok (.iconst 0, 1) := dk_3 (dk_at dksX5_load_1 9 rfl rfl)
theorem dX5_load_34 : decode cX5_load 34 = .ok (.putfield 35, 3) := dk_181 0 35 (dk_at dksX5_load_1 10 rfl rfl)
theorem dX5_load_37 : decode cX5_load 37 = .ok (.aload_n 0, 1) := dk_42 (dk_at dksX5_load_1 13 rfl rfl)
theorem dX5_load_38 : decode cX5_load 38 = .ok (.iload_n 1, 1) := dk_27 (dk_at dksX5_load_1 14 rfl rfl)
theorem dX5_load_39 : decode cX5_load 39 = .ok (.putfield 38, 3) := dk_181 0 38 (dk_at dksX5_load_1 15 rfl rfl)
theorem dX5_load_42 : decode cX5_load 42 = .ok (.aload_n 0, 1) := dk_42 (dk_at dksX5_load_1 18 rfl rfl)
theorem dX5_load_43 : decode cX5_load 43 = .ok (.iconst 0, 1) := dk_3 (dk_at dksX5_load_1 19 rfl rfl)
theorem dX5_load_44 : decode cX5_load 44 = .ok (.putfield 41, 3) := dk_181 0 41 (dk_at dksX5_load_1 20 rfl rfl)
theorem dX5_load_47 : decode cX5_load 47 = .ok (.aload_n 0, 1) := dk_42 (dk_at dksX5_load_1 23 rfl rfl)
theorem dX5_load_48 : decode cX5_load 48 = .ok (.iconst 0, 1) := dk_3 (dk_at dksX5_load_2 0 rfl rfl)
theorem dX5_load_49 : decode cX5_load 49 = .ok (.putfield 48, 3) := dk_181 0 48 (dk_at dksX5_load_2 1 rfl rfl)
theorem dX5_load_52 : decode cX5_load 52 = .ok (.aload_n 0, 1) := dk_42 (dk_at dksX5_load_2 4 rfl rfl)
theorem dX5_load_53 : decode cX5_load 53 = .ok (.iconst (-1), 1) := dk_2 (dk_at dksX5_load_2 5 rfl rfl)
theorem dX5_load_54 : decode cX5_load 54 = .ok (.putfield 51, 3) := dk_181 0 51 (dk_at dksX5_load_2 6 rfl rfl)
theorem dX5_load_57 : decode cX5_load 57 = .ok (.aload_n 0, 1) := dk_42 (dk_at dksX5_load_2 9 rfl rfl)
theorem dX5_load_58 : decode cX5_load 58 = .ok (.iconst 0, 1) := dk_3 (dk_at dksX5_load_2 10 rfl rfl)
theorem dX5_load_59 : decode cX5_load 59 = .ok (.putfield 91, 3) := dk_181 0 91 (dk_at dksX5_load_2 11 rfl rfl)
theorem dX5_load_62 : decode cX5_load 62 = .ok (.aload_n 0, 1) := dk_42 (dk_at dksX5_load_2 14 rfl rfl)
theorem dX5_load_63 : decode cX5_load 63 = .ok (.iconst 0, 1) := dk_3 (dk_at dksX5_load_2 15 rfl rfl)
theorem dX5_load_64 : decode cX5_load 64 = .ok (.putfield 123, 3) := dk_181 0 123 (dk_at dksX5_load_2 16 rfl rfl)
theorem dX5_load_67 : decode cX5_load 67 = .ok (.iconst 0, 1) := dk_3 (dk_at dksX5_load_2 19 rfl rfl)
theorem dX5_load_68 : decode cX5_load 68 = .ok (.istore_n 2, 1) := dk_61 (dk_at dksX5_load_2 20 rfl rfl)
theorem dX5_load_69 : decode cX5_load 69 = .ok (.iload_n 2, 1) := dk_28 (dk_at dksX5_load_2 21 rfl rfl)
theorem dX5_load_70 : decode cX5_load 70 = .ok (.sipush 1798, 3) := dk_17 7 6 (dk_at dksX5_load_3 0 rfl rfl)
theorem dX5_load_73 : decode cX5_load 73 = .ok (.if_icmp .ge 16, 3) := dk_162 0 16 (dk_at dksX5_load_3 3 rfl rfl)
theorem dX5_load_76 : decode cX5_load 76 = .ok (.aload_n 0, 1) := dk_42 (dk_at dksX5_load_3 6 rfl rfl)
theorem dX5_load_77 : decode cX5_load 77 = .ok (.getfield 20, 3) := dk_180 0 20 (dk_at dksX5_load_3 7 rfl rfl)
theorem dX5_load_80 : decode cX5_load 80 = .ok (.iload_n 2, 1) := dk_28 (dk_at dksX5_load_3 10 rfl rfl)
theorem dX5_load_81 : decode cX5_load 81 = .ok (.iconst 0, 1) := dk_3 (dk_at dksX5_load_3 11 rfl rfl)
theorem dX5_load_82 : decode cX5_load 82 = .ok (.iastore, 1) := dk_79 (dk_at dksX5_load_3 12 rfl rfl)
theorem dX5_load_83 : decode cX5_load 83 = .ok (.iinc 2 1, 3) := dk_132 2 1 (dk_at dksX5_load_3 13 rfl rfl)
theorem dX5_load_86 : decode cX5_load 86 = .ok (.goto (-17), 3) := dk_167 255 239 (dk_at dksX5_load_3 16 rfl rfl)
theorem dX5_load_89 : decode cX5_load 89 = .ok (.aload_n 0, 1) := dk_42 (dk_at dksX5_load_3 19 rfl rfl)
theorem dX5_load_90 : decode cX5_load 90 = .ok (.invokevirtual 58, 3) := dk_182 0 58 (dk_at dksX5_load_3 20 rfl rfl)
theorem dX5_load_93 : decode cX5_load 93 = .ok (.ifCond .eq 18, 3) := dk_153 0 18 (dk_at dksX5_load_4 0 rfl rfl)
theorem dX5_load_96 : decode cX5_load 96 = .ok (.aload_n 0, 1) := dk_42 (dk_at dksX5_load_4 3 rfl rfl)
theorem dX5_load_97 : decode cX5_load 97 = .ok (.invokevirtual 62, 3) := dk_182 0 62 (dk_at dksX5_load_4 4 rfl rfl)
theorem dX5_load_100 : decode cX5_load 100 = .ok (.iconst (-1), 1) := dk_2 (dk_at dksX5_load_4 7 rfl rfl)
theorem dX5_load_101 : decode cX5_load 101 = .ok (.if_icmp .eq 10, 3) := dk_159 0 10 (dk_at dksX5_load_4 8 rfl rfl)
theorem dX5_load_104 : decode cX5_load 104 = .ok (.aload_n 0, 1) := dk_42 (dk_at dksX5_load_4 11 rfl rfl)
theorem dX5_load_105 : decode cX5_load 105 = .ok (.invokevirtual 157, 3) := dk_182 0 157 (dk_at dksX5_load_4 12 rfl rfl)
theorem dX5_load_108 : decode cX5_load 108 = .ok (.goto (-19), 3) := dk_167 255 237 (dk_at dksX5_load_4 15 rfl rfl)
theorem dX5_load_111 : decode cX5_load 111 = .ok (.aload_n 0, 1) := dk_42 (dk_at dksX5_load_4 18 rfl rfl)
theorem dX5_load_112 : decode cX5_load 112 = .ok (.aload_n 0, 1) := dk_42 (dk_at dksX5_load_4 19 rfl rfl)
theorem dX5_load_113 : decode cX5_load 113 = .ok (.getfield 51, 3) := dk_180 0 51 (dk_at dksX5_load_4 20 rfl rfl)
theorem dX5_load_116 : decode cX5_load 116 = .ok (.putfield 13, 3) := dk_181 0 13 (dk_at dksX5_load_5 0 rfl rfl)
theorem dX5_load_119 : decode cX5_load 119 = .ok (.aload_n 0, 1) := dk_42 (dk_at dksX5_load_5 3 rfl rfl)
theorem dX5_load_120 : decode cX5_load 120 = .ok (.invokevirtual 58, 3) := dk_182 0 58 (dk_at dksX5_load_5 4 rfl rfl)
theorem dX5_load_123 : decode cX5_load 123 = .ok (.ifCond .ne 8, 3) := dk_154 0 8 (dk_at dksX5_load_5 7 rfl rfl)
theorem dX5_load_126 : decode cX5_load 126 = .ok (.aload_n 0, 1) := dk_42 (dk_at dksX5_load_5 10 rfl rfl)
theorem dX5_load_127 : decode cX5_load 127 = .ok (.getfield 48, 3) := dk_180 0 48 (dk_at dksX5_load_5 11 rfl rfl)
theorem dX5_load_130 : decode cX5_load 130 = .ok (.ireturn, 1) := dk_172 (dk_at dksX5_load_5 14 rfl rfl)
theorem dX5_load_131 : decode cX5_load 131 = .ok (.aload_n 0, 1) := dk_42 (dk_at dksX5_load_5 15 rfl rfl)
theorem dX5_load_132 : decode cX5_load 132 = .ok (.invokevirtual 160, 3) := dk_182 0 160 (dk_at dksX5_load_5 16 rfl rfl)
theorem dX5_load_135 : decode cX5_load 135 = .ok (.aload_n 0, 1) := dk_42 (dk_at dksX5_load_5 19 rfl rfl)
theorem dX5_load_136 : decode cX5_load 136 = .ok (.getfield 20, 3) := dk_180 0 20 (dk_at dksX5_load_5 20 rfl rfl)
theorem dX5_load_139 : decode cX5_load 139 = .ok (.aload_n 0, 1) := dk_42 (dk_at dksX5_load_5 23 rfl rfl)
theorem dX5_load_140 : decode cX5_load 140 = .ok (.getfield 17, 3) := dk_180 0 17 (dk_at dksX5_load_6 0 rfl rfl)
theorem dX5_load_143 : decode cX5_load 143 = .ok (.invokestatic 163, 3) := dk_184 0 163 (dk_at dksX5_load_6 3 rfl rfl)
theorem dX5_load_146 : decode cX5_load 146 = .ok (.aload_n 0, 1) := dk_42 (dk_at dksX5_load_6 6 rfl rfl)
theorem dX5_load_147 : decode cX5_load 147 = .ok (.getfield 17, 3) := dk_180 0 17 (dk_at dksX5_load_6 7 rfl rfl)
theorem dX5_load_150 : decode cX5_load 150 = .ok (.iconst 0, 1) := dk_3 (dk_at dksX5_load_6 10 rfl rfl)
theorem dX5_load_151 : decode cX5_load 151 = .ok (.iaload, 1) := dk_46 (dk_at dksX5_load_6 11 rfl rfl)
theorem dX5_load_152 : decode cX5_load 152 = .ok (.ireturn, 1) := dk_172 (dk_at dksX5_load_6 12 rfl rfl)
abbrev cX5_in : ByteArray := prog_14_method_4_code
def yX5_in : MethodName := ⟨RX5, "in", "(III)Z"⟩
def dkwX5_in_0 : List UInt8 := [26, 27, 161, 0, 12, 26, 28, 163, 0, 7, 4, 167, 0, 4, 3, 172]
abbrev dktX5_in_0 : List UInt8 := dkwX5_in_0 ++ []
theorem dksX5_in_0 : cX5_in.data.toList.drop 0 = dktX5_in_0 := by decide +kernel
theorem dX5_in_0 : decode cX5_in 0 = .ok (.iload_n 0, 1) := dk_26 (dk_at dksX5_in_0 0 rfl rfl)
theorem dX5_in_1 : decode cX5_in 1 = .ok (.iload_n 1, 1) := dk_27 (dk_at dksX5_in_0 1 rfl rfl)
theorem dX5_in_2 : decode cX5_in 2 = .ok (.if_icmp .lt 12, 3) := dk_161 0 12 (dk_at dksX5_in_0 2 rfl rfl)
theorem dX5_in_5 : decode cX5_in 5 = .ok (.iload_n 0, 1) := dk_26 (dk_at dksX5_in_0 5 rfl rfl)
theorem dX5_in_6 : decode cX5_in 6 = .ok (.iload_n 2, 1) := dk_28 (dk_at dksX5_in_0 6 rfl rfl)
theorem dX5_in_7 : decode cX5_in 7 = .ok (.if_icmp .gt 7, 3) := dk_163 0 7 (dk_at dksX5_in_0 7 rfl rfl)
theorem dX5_in_10 : decode cX5_in 10 = .ok (.iconst 1, 1) := dk_4 (dk_at dksX5_in_0 10 rfl rfl)
theorem dX5_in_11 : decode cX5_in 11 = .ok (.goto 4, 3) := dk_167 0 4 (dk_at dksX5_in_0 11 rfl rfl)
theorem dX5_in_14 : decode cX5_in 14 = .ok (.iconst 0, 1) := dk_3 (dk_at dksX5_in_0 14 rfl rfl)
theorem dX5_in_15 : decode cX5_in 15 = .ok (.ireturn, 1) := dk_172 (dk_at dksX5_in_0 15 rfl rfl)
abbrev cX5_fails : ByteArray := prog_14_method_3_code
def yX5_fails : MethodName := ⟨RX5, "fails", "(ZI)Z"⟩
def dkwX5_fails_1 : List UInt8 := [167, 0, 4, 3, 172]
abbrev dktX5_fails_1 : List UInt8 := dkwX5_fails_1 ++ []
def dkwX5_fails_0 : List UInt8 := [27, 153, 0, 15, 42, 180, 0, 32, 154, 0, 8, 42, 28, 181, 0, 32, 42, 180, 0, 32, 153, 0, 7, 4]
abbrev dktX5_fails_0 : List UInt8 := dkwX5_fails_0 ++ dktX5_fails_1
theorem dksX5_fails_0 : cX5_fails.data.toList.drop 0 = dktX5_fails_0 := by decide +kernel
theorem dksX5_fails_1 : cX5_fails.data.toList.drop 24 = dktX5_fails_1 := dk_seg dksX5_fails_0 24 rfl rfl
theorem dX5_fails_0 : decode cX5_fails 0 = .ok (.iload_n 1, 1) := dk_27 (dk_at dksX5_fails_0 0 rfl rfl)
theorem dX5_fails_1 : decode cX5_fails 1 = .ok (.ifCond .eq 15, 3) := dk_153 0 15 (dk_at dksX5_fails_0 1 rfl rfl)
theorem dX5_fails_4 : decode cX5_fails 4 = .ok (.aload_n 0, 1) := dk_42 (dk_at dksX5_fails_0 4 rfl rfl)
theorem dX5_fails_5 : decode cX5_fails 5 = .ok (.getfield 32, 3) := dk_180 0 32 (dk_at dksX5_fails_0 5 rfl rfl)
theorem dX5_fails_8 : decode cX5_fails 8 = .ok (.ifCond .ne 8, 3) := dk_154 0 8 (dk_at dksX5_fails_0 8 rfl rfl)
theorem dX5_fails_11 : decode cX5_fails 11 = .ok (.aload_n 0, 1) := dk_42 (dk_at dksX5_fails_0 11 rfl rfl)
theorem dX5_fails_12 : decode cX5_fails 12 = .ok (.iload_n 2, 1) := dk_28 (dk_at dksX5_fails_0 12 rfl rfl)
theorem dX5_fails_13 : decode cX5_fails 13 = .ok (.putfield 32, 3) := dk_181 0 32 (dk_at dksX5_fails_0 13 rfl rfl)
theorem dX5_fails_16 : decode cX5_fails 16 = .ok (.aload_n 0, 1) := dk_42 (dk_at dksX5_fails_0 16 rfl rfl)
theorem dX5_fails_17 : decode cX5_fails 17 = .ok (.getfield 32, 3) := dk_180 0 32 (dk_at dksX5_fails_0 17 rfl rfl)
theorem dX5_fails_20 : decode cX5_fails 20 = .ok (.ifCond .eq 7, 3) := dk_153 0 7 (dk_at dksX5_fails_0 20 rfl rfl)
theorem dX5_fails_23 : decode cX5_fails 23 = .ok (.iconst 1, 1) := dk_4 (dk_at dksX5_fails_0 23 rfl rfl)
theorem dX5_fails_24 : decode cX5_fails 24 = .ok (.goto 4, 3) := dk_167 0 4 (dk_at dksX5_fails_1 0 rfl rfl)
theorem dX5_fails_27 : decode cX5_fails 27 = .ok (.iconst 0, 1) := dk_3 (dk_at dksX5_fails_1 3 rfl rfl)
theorem dX5_fails_28 : decode cX5_fails 28 = .ok (.ireturn, 1) := dk_172 (dk_at dksX5_fails_1 4 rfl rfl)
abbrev cX5_isGood : ByteArray := prog_14_method_12_code
def yX5_isGood : MethodName := ⟨RX5, "isGood", "()Z"⟩
def dkwX5_isGood_0 : List UInt8 := [42, 180, 0, 48, 154, 0, 7, 4, 167, 0, 4, 3, 172]
abbrev dktX5_isGood_0 : List UInt8 := dkwX5_isGood_0 ++ []
theorem dksX5_isGood_0 : cX5_isGood.data.toList.drop 0 = dktX5_isGood_0 := by decide +kernel
theorem dX5_isGood_0 : decode cX5_isGood 0 = .ok (.aload_n 0, 1) := dk_42 (dk_at dksX5_isGood_0 0 rfl rfl)
theorem dX5_isGood_1 : decode cX5_isGood 1 = .ok (.getfield 48, 3) := dk_180 0 48 (dk_at dksX5_isGood_0 1 rfl rfl)
theorem dX5_isGood_4 : decode cX5_isGood 4 = .ok (.ifCond .ne 7, 3) := dk_154 0 7 (dk_at dksX5_isGood_0 4 rfl rfl)
theorem dX5_isGood_7 : decode cX5_isGood 7 = .ok (.iconst 1, 1) := dk_4 (dk_at dksX5_isGood_0 7 rfl rfl)
theorem dX5_isGood_8 : decode cX5_isGood 8 = .ok (.goto 4, 3) := dk_167 0 4 (dk_at dksX5_isGood_0 8 rfl rfl)
theorem dX5_isGood_11 : decode cX5_isGood 11 = .ok (.iconst 0, 1) := dk_3 (dk_at dksX5_isGood_0 11 rfl rfl)
theorem dX5_isGood_12 : decode cX5_isGood 12 = .ok (.ireturn, 1) := dk_172 (dk_at dksX5_isGood_0 12 rfl rfl)
abbrev cX5_next : ByteArray := prog_14_method_11_code
def yX5_next : MethodName := ⟨RX5, "next", "()I"⟩
def dkwX5_next_1 : List UInt8 := [167, 255, 233, 42, 42, 180, 0, 41, 182, 0, 44, 172]
abbrev dktX5_next_1 : List UInt8 := dkwX5_next_1 ++ []
def dkwX5_next_0 : List UInt8 := [42, 42, 180, 0, 41, 182, 0, 44, 16, 32, 160, 0, 16, 42, 89, 180, 0, 41, 4, 96, 181, 0, 41]
abbrev dktX5_next_0 : List UInt8 := dkwX5_next_0 ++ dktX5_next_1
theorem dksX5_next_0 : cX5_next.data.toList.drop 0 = dktX5_next_0 := by decide +kernel
theorem dksX5_next_1 : cX5_next.data.toList.drop 23 = dktX5_next_1 := dk_seg dksX5_next_0 23 rfl rfl
theorem dX5_next_0 : decode cX5_next 0 = .ok (.aload_n 0, 1) := dk_42 (dk_at dksX5_next_0 0 rfl rfl)
theorem dX5_next_1 : decode cX5_next 1 = .ok (.aload_n 0, 1) := dk_42 (dk_at dksX5_next_0 1 rfl rfl)
theorem dX5_next_2 : decode cX5_next 2 = .ok (.getfield 41, 3) := dk_180 0 41 (dk_at dksX5_next_0 2 rfl rfl)
theorem dX5_next_5 : decode cX5_next 5 = .ok (.invokevirtual 44, 3) := dk_182 0 44 (dk_at dksX5_next_0 5 rfl rfl)
theorem dX5_next_8 : decode cX5_next 8 = .ok (.bipush 32, 2) := dk_16 32 (dk_at dksX5_next_0 8 rfl rfl)
theorem dX5_next_10 : decode cX5_next 10 = .ok (.if_icmp .ne 16, 3) := dk_160 0 16 (dk_at dksX5_next_0 10 rfl rfl)
theorem dX5_next_13 : decode cX5_next 13 = .ok (.aload_n 0, 1) := dk_42 (dk_at dksX5_next_0 13 rfl rfl)
theorem dX5_next_14 : decode cX5_next 14 = .ok (.dup, 1) := dk_89 (dk_at dksX5_next_0 14 rfl rfl)
theorem dX5_next_15 : decode cX5_next 15 = .ok (.getfield 41, 3) := dk_180 0 41 (dk_at dksX5_next_0 15 rfl rfl)
theorem dX5_next_18 : decode cX5_next 18 = .ok (.iconst 1, 1) := dk_4 (dk_at dksX5_next_0 18 rfl rfl)
theorem dX5_next_19 : decode cX5_next 19 = .ok (.iadd, 1) := dk_96 (dk_at dksX5_next_0 19 rfl rfl)
theorem dX5_next_20 : decode cX5_next 20 = .ok (.putfield 41, 3) := dk_181 0 41 (dk_at dksX5_next_0 20 rfl rfl)
theorem dX5_next_23 : decode cX5_next 23 = .ok (.goto (-23), 3) := dk_167 255 233 (dk_at dksX5_next_1 0 rfl rfl)
theorem dX5_next_26 : decode cX5_next 26 = .ok (.aload_n 0, 1) := dk_42 (dk_at dksX5_next_1 3 rfl rfl)
theorem dX5_next_27 : decode cX5_next 27 = .ok (.aload_n 0, 1) := dk_42 (dk_at dksX5_next_1 4 rfl rfl)
theorem dX5_next_28 : decode cX5_next 28 = .ok (.getfield 41, 3) := dk_180 0 41 (dk_at dksX5_next_1 5 rfl rfl)
theorem dX5_next_31 : decode cX5_next 31 = .ok (.invokevirtual 44, 3) := dk_182 0 44 (dk_at dksX5_next_1 8 rfl rfl)
theorem dX5_next_34 : decode cX5_next 34 = .ok (.ireturn, 1) := dk_172 (dk_at dksX5_next_1 11 rfl rfl)
abbrev cX5_byteAt : ByteArray := prog_14_method_10_code
def yX5_byteAt : MethodName := ⟨RX5, "byteAt", "(I)I"⟩
def dkwX5_byteAt_0 : List UInt8 := [27, 42, 180, 0, 38, 162, 0, 12, 42, 180, 0, 9, 27, 46, 167, 0, 4, 2, 172]
abbrev dktX5_byteAt_0 : List UInt8 := dkwX5_byteAt_0 ++ []
theorem dksX5_byteAt_0 : cX5_byteAt.data.toList.drop 0 = dktX5_byteAt_0 := by decide +kernel
theorem dX5_byteAt_0 : decode cX5_byteAt 0 = .ok (.iload_n 1, 1) := dk_27 (dk_at dksX5_byteAt_0 0 rfl rfl)
theorem dX5_byteAt_1 : decode cX5_byteAt 1 = .ok (.aload_n 0, 1) := dk_42 (dk_at dksX5_byteAt_0 1 rfl rfl)
theorem dX5_byteAt_2 : decode cX5_byteAt 2 = .ok (.getfield 38, 3) := dk_180 0 38 (dk_at dksX5_byteAt_0 2 rfl rfl)
theorem dX5_byteAt_5 : decode cX5_byteAt 5 = .ok (.if_icmp .ge 12, 3) := dk_162 0 12 (dk_at dksX5_byteAt_0 5 rfl rfl)
theorem dX5_byteAt_8 : decode cX5_byteAt 8 = .ok (.aload_n 0, 1) := dk_42 (dk_at dksX5_byteAt_0 8 rfl rfl)
theorem dX5_byteAt_9 : decode cX5_byteAt 9 = .ok (.getfield 9, 3) := dk_180 0 9 (dk_at dksX5_byteAt_0 9 rfl rfl)
theorem dX5_byteAt_12 : decode cX5_byteAt 12 = .ok (.iload_n 1, 1) := dk_27 (dk_at dksX5_byteAt_0 12 rfl rfl)
theorem dX5_byteAt_13 : decode cX5_byteAt 13 = .ok (.iaload, 1) := dk_46 (dk_at dksX5_byteAt_0 13 rfl rfl)
theorem dX5_byteAt_14 : decode cX5_byteAt 14 = .ok (.goto 4, 3) := dk_167 0 4 (dk_at dksX5_byteAt_0 14 rfl rfl)
theorem dX5_byteAt_17 : decode cX5_byteAt 17 = .ok (.iconst (-1), 1) := dk_2 (dk_at dksX5_byteAt_0 17 rfl rfl)
theorem dX5_byteAt_18 : decode cX5_byteAt 18 = .ok (.ireturn, 1) := dk_172 (dk_at dksX5_byteAt_0 18 rfl rfl)
abbrev cX5_statement : ByteArray := prog_14_method_26_code
def yX5_statement : MethodName := ⟨RX5, "statement", "()V"⟩
def dkwX5_statement_3 : List UInt8 := [167, 0, 10, 42, 16, 254, 27, 182, 0, 75, 42, 16, 59, 182, 0, 97, 177]
abbrev dktX5_statement_3 : List UInt8 := dkwX5_statement_3 ++ []
def dkwX5_statement_2 : List UInt8 := [182, 0, 103, 153, 0, 23, 42, 3, 27, 182, 0, 150, 42, 180, 0, 20, 7, 4, 79, 42, 182, 0, 94]
abbrev dktX5_statement_2 : List UInt8 := dkwX5_statement_2 ++ dktX5_statement_3
def dkwX5_statement_1 : List UInt8 := [167, 0, 56, 42, 18, 144, 182, 0, 103, 153, 0, 11, 42, 27, 182, 0, 145, 167, 0, 39, 42, 18, 148]
abbrev dktX5_statement_1 : List UInt8 := dkwX5_statement_1 ++ dktX5_statement_2
def dkwX5_statement_0 : List UInt8 := [42, 182, 0, 62, 87, 42, 180, 0, 41, 60, 42, 18, 139, 182, 0, 103, 153, 0, 10, 42, 182, 0, 141]
abbrev dktX5_statement_0 : List UInt8 := dkwX5_statement_0 ++ dktX5_statement_1
theorem dksX5_statement_0 : cX5_statement.data.toList.drop 0 = dktX5_statement_0 := by decide +kernel
theorem dksX5_statement_1 : cX5_statement.data.toList.drop 23 = dktX5_statement_1 := dk_seg dksX5_statement_0 23 rfl rfl
theorem dksX5_statement_2 : cX5_statement.data.toList.drop 46 = dktX5_statement_2 := dk_seg dksX5_statement_1 23 rfl rfl
theorem dksX5_statement_3 : cX5_statement.data.toList.drop 69 = dktX5_statement_3 := dk_seg dksX5_statement_2 23 rfl rfl
theorem dX5_statement_0 : decode cX5_statement 0 = .ok (.aload_n 0, 1) := dk_42 (dk_at dksX5_statement_0 0 rfl rfl)
theorem dX5_statement_1 : decode cX5_statement 1 = .ok (.invokevirtual 62, 3) := dk_182 0 62 (dk_at dksX5_statement_0 1 rfl rfl)
theorem dX5_statement_4 : decode cX5_statement 4 = .ok (.pop, 1) := dk_87 (dk_at dksX5_statement_0 4 rfl rfl)
theorem dX5_statement_5 : decode cX5_statement 5 = .ok (.aload_n 0, 1) := dk_42 (dk_at dksX5_statement_0 5 rfl rfl)
theorem dX5_statement_6 : decode cX5_statement 6 = .ok (.getfield 41, 3) := dk_180 0 41 (dk_at dksX5_statement_0 6 rfl rfl)
theorem dX5_statement_9 : decode cX5_statement 9 = .ok (.istore_n 1, 1) := dk_60 (dk_at dksX5_statement_0 9 rfl rfl)
theorem dX5_statement_10 : decode cX5_statement 10 = .ok (.aload_n 0, 1) := dk_42 (dk_at dksX5_statement_0 10 rfl rfl)
theorem dX5_statement_11 : decode cX5_statement 11 = .ok (.ldc 139, 2) := dk_18 139 (dk_at dksX5_statement_0 11 rfl rfl)
theorem dX5_statement_13 : decode cX5_statement 13 = .ok (.invokevirtual 103, 3) := dk_182 0 103 (dk_at dksX5_statement_0 13 rfl rfl)
theorem dX5_statement_16 : decode cX5_statement 16 = .ok (.ifCond .eq 10, 3) := dk_153 0 10 (dk_at dksX5_statement_0 16 rfl rfl)
theorem dX5_statement_19 : decode cX5_statement 19 = .ok (.aload_n 0, 1) := dk_42 (dk_at dksX5_statement_0 19 rfl rfl)
theorem dX5_statement_20 : decode cX5_statement 20 = .ok (.invokevirtual 141, 3) := dk_182 0 141 (dk_at dksX5_statement_0 20 rfl rfl)
theorem dX5_statement_23 : decode cX5_statement 23 = .ok (.goto 56, 3) := dk_167 0 56 (dk_at dksX5_statement_1 0 rfl rfl)
theorem dX5_statement_26 : decode cX5_statement 26 = .ok (.aload_n 0, 1) := dk_42 (dk_at dksX5_statement_1 3 rfl rfl)
theorem dX5_statement_27 : decode cX5_statement 27 = .ok (.ldc 144, 2) := dk_18 144 (dk_at dksX5_statement_1 4 rfl rfl)
theorem dX5_statement_29 : decode cX5_statement 29 = .ok (.invokevirtual 103, 3) := dk_182 0 103 (dk_at dksX5_statement_1 6 rfl rfl)
theorem dX5_statement_32 : decode cX5_statement 32 = .ok (.ifCond .eq 11, 3) := dk_153 0 11 (dk_at dksX5_statement_1 9 rfl rfl)
theorem dX5_statement_35 : decode cX5_statement 35 = .ok (.aload_n 0, 1) := dk_42 (dk_at dksX5_statement_1 12 rfl rfl)
theorem dX5_statement_36 : decode cX5_statement 36 = .ok (.iload_n 1, 1) := dk_27 (dk_at dksX5_statement_1 13 rfl rfl)
theorem dX5_statement_37 : decode cX5_statement 37 = .ok (.invokevirtual 145, 3) := dk_182 0 145 (dk_at dksX5_statement_1 14 rfl rfl)
theorem dX5_statement_40 : decode cX5_statement 40 = .ok (.goto 39, 3) := dk_167 0 39 (dk_at dksX5_statement_1 17 rfl rfl)
theorem dX5_statement_43 : decode cX5_statement 43 = .ok (.aload_n 0, 1) := dk_42 (dk_at dksX5_statement_1 20 rfl rfl)
theorem dX5_statement_44 : decode cX5_statement 44 = .ok (.ldc 148, 2) := dk_18 148 (dk_at dksX5_statement_1 21 rfl rfl)
theorem dX5_statement_46 : decode cX5_statement 46 = .ok (.invokevirtual 103, 3) := dk_182 0 103 (dk_at dksX5_statement_2 0 rfl rfl)
theorem dX5_statement_49 : decode cX5_statement 49 = .ok (.ifCond .eq 23, 3) := dk_153 0 23 (dk_at dksX5_statement_2 3 rfl rfl)
theorem dX5_statement_52 : decode cX5_statement 52 = .ok (.aload_n 0, 1) := dk_42 (dk_at dksX5_statement_2 6 rfl rfl)
theorem dX5_statement_53 : decode cX5_statement 53 = .ok (.iconst 0, 1) := dk_3 (dk_at dksX5_statement_2 7 rfl rfl)
theorem dX5_statement_54 : decode cX5_statement 54 = .ok (.iload_n 1, 1) := dk_27 (dk_at dksX5_statement_2 8 rfl rfl)
theorem dX5_statement_55 : decode cX5_statement 55 = .ok (.invokevirtual 150, 3) := dk_182 0 150 (dk_at dksX5_statement_2 9 rfl rfl)
theorem dX5_statement_58 : decode cX5_statement 58 = .ok (.aload_n 0, 1) := dk_42 (dk_at dksX5_statement_2 12 rfl rfl)
theorem dX5_statement_59 : decode cX5_statement 59 = .ok (.getfield 20, 3) := dk_180 0 20 (dk_at dksX5_statement_2 13 rfl rfl)
theorem dX5_statement_62 : decode cX5_statement 62 = .ok (.iconst 4, 1) := dk_7 (dk_at dksX5_statement_2 16 rfl rfl)
theorem dX5_statement_63 : decode cX5_statement 63 = .ok (.iconst 1, 1) := dk_4 (dk_at dksX5_statement_2 17 rfl rfl)
theorem dX5_statement_64 : decode cX5_statement 64 = .ok (.iastore, 1) := dk_79 (dk_at dksX5_statement_2 18 rfl rfl)
theorem dX5_statement_65 : decode cX5_statement 65 = .ok (.aload_n 0, 1) := dk_42 (dk_at dksX5_statement_2 19 rfl rfl)
theorem dX5_statement_66 : decode cX5_statement 66 = .ok (.invokevirtual 94, 3) := dk_182 0 94 (dk_at dksX5_statement_2 20 rfl rfl)
theorem dX5_statement_69 : decode cX5_statement 69 = .ok (.goto 10, 3) := dk_167 0 10 (dk_at dksX5_statement_3 0 rfl rfl)
theorem dX5_statement_72 : decode cX5_statement 72 = .ok (.aload_n 0, 1) := dk_42 (dk_at dksX5_statement_3 3 rfl rfl)
theorem dX5_statement_73 : decode cX5_statement 73 = .ok (.bipush (-2), 2) := dk_16 254 (dk_at dksX5_statement_3 4 rfl rfl)
theorem dX5_statement_75 : decode cX5_statement 75 = .ok (.iload_n 1, 1) := dk_27 (dk_at dksX5_statement_3 6 rfl rfl)
theorem dX5_statement_76 : decode cX5_statement 76 = .ok (.invokevirtual 75, 3) := dk_182 0 75 (dk_at dksX5_statement_3 7 rfl rfl)
theorem dX5_statement_79 : decode cX5_statement 79 = .ok (.aload_n 0, 1) := dk_42 (dk_at dksX5_statement_3 10 rfl rfl)
theorem dX5_statement_80 : decode cX5_statement 80 = .ok (.bipush 59, 2) := dk_16 59 (dk_at dksX5_statement_3 11 rfl rfl)
theorem dX5_statement_82 : decode cX5_statement 82 = .ok (.invokevirtual 97, 3) := dk_182 0 97 (dk_at dksX5_statement_3 13 rfl rfl)
theorem dX5_statement_85 : decode cX5_statement 85 = .ok (.return_, 1) := dk_177 (dk_at dksX5_statement_3 16 rfl rfl)
abbrev cX5_takeWord : ByteArray := prog_14_method_15_code
def yX5_takeWord : MethodName := ⟨RX5, "takeWord", "(Ljava/lang/String;)Z"⟩
def dkwX5_takeWord_3 : List UInt8 := [184, 0, 54, 153, 0, 5, 3, 172, 42, 89, 180, 0, 41, 28, 96, 181, 0, 41, 4, 172]
abbrev dktX5_takeWord_3 : List UInt8 := dkwX5_takeWord_3 ++ []
def dkwX5_takeWord_2 : List UInt8 := [28, 43, 182, 0, 66, 161, 0, 23, 42, 42, 180, 0, 41, 28, 96, 182, 0, 44, 16, 97, 16, 122]
abbrev dktX5_takeWord_2 : List UInt8 := dkwX5_takeWord_2 ++ dktX5_takeWord_3
def dkwX5_takeWord_1 : List UInt8 := [42, 42, 180, 0, 41, 28, 96, 182, 0, 44, 43, 28, 182, 0, 71, 160, 0, 9, 132, 2, 1, 167, 255, 227]
abbrev dktX5_takeWord_1 : List UInt8 := dkwX5_takeWord_1 ++ dktX5_takeWord_2
def dkwX5_takeWord_0 : List UInt8 := [42, 182, 0, 58, 154, 0, 5, 3, 172, 42, 182, 0, 62, 87, 3, 61, 28, 43, 182, 0, 66, 162, 0, 27]
abbrev dktX5_takeWord_0 : List UInt8 := dkwX5_takeWord_0 ++ dktX5_takeWord_1
theorem dksX5_takeWord_0 : cX5_takeWord.data.toList.drop 0 = dktX5_takeWord_0 := by decide +kernel
theorem dksX5_takeWord_1 : cX5_takeWord.data.toList.drop 24 = dktX5_takeWord_1 := dk_seg dksX5_takeWord_0 24 rfl rfl
theorem dksX5_takeWord_2 : cX5_takeWord.data.toList.drop 48 = dktX5_takeWord_2 := dk_seg dksX5_takeWord_1 24 rfl rfl
theorem dksX5_takeWord_3 : cX5_takeWord.data.toList.drop 70 = dktX5_takeWord_3 := dk_seg dksX5_takeWord_2 22 rfl rfl
theorem dX5_takeWord_0 : decode cX5_takeWord 0 = .ok (.aload_n 0, 1) := dk_42 (dk_at dksX5_takeWord_0 0 rfl rfl)
theorem dX5_takeWord_1 : decode cX5_takeWord 1 = .ok (.invokevirtual 58, 3) := dk_182 0 58 (dk_at dksX5_takeWord_0 1 rfl rfl)
theorem dX5_takeWord_4 : decode cX5_takeWord 4 = .ok (.ifCond .ne 5, 3) := dk_154 0 5 (dk_at dksX5_takeWord_0 4 rfl rfl)
theorem dX5_takeWord_7 : decode cX5_takeWord 7 = .ok (.iconst 0, 1) := dk_3 (dk_at dksX5_takeWord_0 7 rfl rfl)
theorem dX5_takeWord_8 : decode cX5_takeWord 8 = .ok (.ireturn, 1) := dk_172 (dk_at dksX5_takeWord_0 8 rfl rfl)
theorem dX5_takeWord_9 : decode cX5_takeWord 9 = .ok (.aload_n 0, 1) := dk_42 (dk_at dksX5_takeWord_0 9 rfl rfl)
theorem dX5_takeWord_10 : decode cX5_takeWord 10 = .ok (.invokevirtual 62, 3) := dk_182 0 62 (dk_at dksX5_takeWord_0 10 rfl rfl)
theorem dX5_takeWord_13 : decode cX5_takeWord 13 = .ok (.pop, 1) := dk_87 (dk_at dksX5_takeWord_0 13 rfl rfl)
theorem dX5_takeWord_14 : decode cX5_takeWord 14 = .ok (.iconst 0, 1) := dk_3 (dk_at dksX5_takeWord_0 14 rfl rfl)
theorem dX5_takeWord_15 : decode cX5_takeWord 15 = .ok (.istore_n 2, 1) := dk_61 (dk_at dksX5_takeWord_0 15 rfl rfl)
theorem dX5_takeWord_16 : decode cX5_takeWord 16 = .ok (.iload_n 2, 1) := dk_28 (dk_at dksX5_takeWord_0 16 rfl rfl)
theorem dX5_takeWord_17 : decode cX5_takeWord 17 = .ok (.aload_n 1, 1) := dk_43 (dk_at dksX5_takeWord_0 17 rfl rfl)
theorem dX5_takeWord_18 : decode cX5_takeWord 18 = .ok (.invokevirtual 66, 3) := dk_182 0 66 (dk_at dksX5_takeWord_0 18 rfl rfl)
theorem dX5_takeWord_21 : decode cX5_takeWord 21 = .ok (.if_icmp .ge 27, 3) := dk_162 0 27 (dk_at dksX5_takeWord_0 21 rfl rfl)
theorem dX5_takeWord_24 : decode cX5_takeWord 24 = .ok (.aload_n 0, 1) := dk_42 (dk_at dksX5_takeWord_1 0 rfl rfl)
theorem dX5_takeWord_25 : decode cX5_takeWord 25 = .ok (.aload_n 0, 1) := dk_42 (dk_at dksX5_takeWord_1 1 rfl rfl)
theorem dX5_takeWord_26 : decode cX5_takeWord 26 = .ok (.getfield 41, 3) := dk_180 0 41 (dk_at dksX5_takeWord_1 2 rfl rfl)
theorem dX5_takeWord_29 : decode cX5_takeWord 29 = .ok (.iload_n 2, 1) := dk_28 (dk_at dksX5_takeWord_1 5 rfl rfl)
theorem dX5_takeWord_30 : decode cX5_takeWord 30 = .ok (.iadd, 1) := dk_96 (dk_at dksX5_takeWord_1 6 rfl rfl)
theorem dX5_takeWord_31 : decode cX5_takeWord 31 = .ok (.invokevirtual 44, 3) := dk_182 0 44 (dk_at dksX5_takeWord_1 7 rfl rfl)
theorem dX5_takeWord_34 : decode cX5_takeWord 34 = .ok (.aload_n 1, 1) := dk_43 (dk_at dksX5_takeWord_1 10 rfl rfl)
theorem dX5_takeWord_35 : decode cX5_takeWord 35 = .ok (.iload_n 2, 1) := dk_28 (dk_at dksX5_takeWord_1 11 rfl rfl)
theorem dX5_takeWord_36 : decode cX5_takeWord 36 = .ok (.invokevirtual 71, 3) := dk_182 0 71 (dk_at dksX5_takeWord_1 12 rfl rfl)
theorem dX5_takeWord_39 : decode cX5_takeWord 39 = .ok (.if_icmp .ne 9, 3) := dk_160 0 9 (dk_at dksX5_takeWord_1 15 rfl rfl)
theorem dX5_takeWord_42 : decode cX5_takeWord 42 = .ok (.iinc 2 1, 3) := dk_132 2 1 (dk_at dksX5_takeWord_1 18 rfl rfl)
theorem dX5_takeWord_45 : decode cX5_takeWord 45 = .ok (.goto (-29), 3) := dk_167 255 227 (dk_at dksX5_takeWord_1 21 rfl rfl)
theorem dX5_takeWord_48 : decode cX5_takeWord 48 = .ok (.iload_n 2, 1) := dk_28 (dk_at dksX5_takeWord_2 0 rfl rfl)
theorem dX5_takeWord_49 : decode cX5_takeWord 49 = .ok (.aload_n 1, 1) := dk_43 (dk_at dksX5_takeWord_2 1 rfl rfl)
theorem dX5_takeWord_50 : decode cX5_takeWord 50 = .ok (.invokevirtual 66, 3) := dk_182 0 66 (dk_at dksX5_takeWord_2 2 rfl rfl)
theorem dX5_takeWord_53 : decode cX5_takeWord 53 = .ok (.if_icmp .lt 23, 3) := dk_161 0 23 (dk_at dksX5_takeWord_2 5 rfl rfl)
theorem dX5_takeWord_56 : decode cX5_takeWord 56 = .ok (.aload_n 0, 1) := dk_42 (dk_at dksX5_takeWord_2 8 rfl rfl)
theorem dX5_takeWord_57 : decode cX5_takeWord 57 = .ok (.aload_n 0, 1) := dk_42 (dk_at dksX5_takeWord_2 9 rfl rfl)
theorem dX5_takeWord_58 : decode cX5_takeWord 58 = .ok (.getfield 41, 3) := dk_180 0 41 (dk_at dksX5_takeWord_2 10 rfl rfl)
theorem dX5_takeWord_61 : decode cX5_takeWord 61 = .ok (.iload_n 2, 1) := dk_28 (dk_at dksX5_takeWord_2 13 rfl rfl)
theorem dX5_takeWord_62 : decode cX5_takeWord 62 = .ok (.iadd, 1) := dk_96 (dk_at dksX5_takeWord_2 14 rfl rfl)
theorem dX5_takeWord_63 : decode cX5_takeWord 63 = .ok (.invokevirtual 44, 3) := dk_182 0 44 (dk_at dksX5_takeWord_2 15 rfl rfl)
theorem dX5_takeWord_66 : decode cX5_takeWord 66 = .ok (.bipush 97, 2) := dk_16 97 (dk_at dksX5_takeWord_2 18 rfl rfl)
theorem dX5_takeWord_68 : decode cX5_takeWord 68 = .ok (.bipush 122, 2) := dk_16 122 (dk_at dksX5_takeWord_2 20 rfl rfl)
theorem dX5_takeWord_70 : decode cX5_takeWord 70 = .ok (.invokestatic 54, 3) := dk_184 0 54 (dk_at dksX5_takeWord_3 0 rfl rfl)
theorem dX5_takeWord_73 : decode cX5_takeWord 73 = .ok (.ifCond .eq 5, 3) := dk_153 0 5 (dk_at dksX5_takeWord_3 3 rfl rfl)
theorem dX5_takeWord_76 : decode cX5_takeWord 76 = .ok (.iconst 0, 1) := dk_3 (dk_at dksX5_takeWord_3 6 rfl rfl)
theorem dX5_takeWord_77 : decode cX5_takeWord 77 = .ok (.ireturn, 1) := dk_172 (dk_at dksX5_takeWord_3 7 rfl rfl)
theorem dX5_takeWord_78 : decode cX5_takeWord 78 = .ok (.aload_n 0, 1) := dk_42 (dk_at dksX5_takeWord_3 8 rfl rfl)
theorem dX5_takeWord_79 : decode cX5_takeWord 79 = .ok (.dup, 1) := dk_89 (dk_at dksX5_takeWord_3 9 rfl rfl)
theorem dX5_takeWord_80 : decode cX5_takeWord 80 = .ok (.getfield 41, 3) := dk_180 0 41 (dk_at dksX5_takeWord_3 10 rfl rfl)
theorem dX5_takeWord_83 : decode cX5_takeWord 83 = .ok (.iload_n 2, 1) := dk_28 (dk_at dksX5_takeWord_3 13 rfl rfl)
theorem dX5_takeWord_84 : decode cX5_takeWord 84 = .ok (.iadd, 1) := dk_96 (dk_at dksX5_takeWord_3 14 rfl rfl)
theorem dX5_takeWord_85 : decode cX5_takeWord 85 = .ok (.putfield 41, 3) := dk_181 0 41 (dk_at dksX5_takeWord_3 15 rfl rfl)
theorem dX5_takeWord_88 : decode cX5_takeWord 88 = .ok (.iconst 1, 1) := dk_4 (dk_at dksX5_takeWord_3 18 rfl rfl)
theorem dX5_takeWord_89 : decode cX5_takeWord 89 = .ok (.ireturn, 1) := dk_172 (dk_at dksX5_takeWord_3 19 rfl rfl)
abbrev cX5_readHoliday : ByteArray := prog_14_method_23_code
def yX5_readHoliday : MethodName := ⟨RX5, "readHoliday", "()V"⟩
def dkwX5_readHoliday_5 : List UInt8 := [184, 0, 79, 154, 255, 138, 177]
abbrev dktX5_readHoliday_5 : List UInt8 := dkwX5_readHoliday_5 ++ []
def dkwX5_readHoliday_4 : List UInt8 := [180, 0, 20, 5, 46, 96, 27, 79, 42, 180, 0, 20, 5, 92, 46, 4, 96, 79, 42, 182, 0, 62]
abbrev dktX5_readHoliday_4 : List UInt8 := dkwX5_readHoliday_4 ++ dktX5_readHoliday_5
def dkwX5_readHoliday_3 : List UInt8 := [16, 252, 42, 180, 0, 83, 182, 0, 75, 42, 182, 0, 58, 154, 0, 4, 177, 42, 180, 0, 20, 16, 6, 42]
abbrev dktX5_readHoliday_3 : List UInt8 := dkwX5_readHoliday_3 ++ dktX5_readHoliday_4
def dkwX5_readHoliday_2 : List UInt8 := [180, 0, 83, 182, 0, 75, 132, 2, 1, 167, 255, 213, 42, 180, 0, 20, 5, 46, 16, 16, 160, 0, 13, 42]
abbrev dktX5_readHoliday_2 : List UInt8 := dkwX5_readHoliday_2 ++ dktX5_readHoliday_3
def dkwX5_readHoliday_1 : List UInt8 := [182, 0, 58, 153, 0, 26, 42, 180, 0, 20, 16, 6, 28, 96, 46, 27, 160, 0, 13, 42, 16, 253, 42]
abbrev dktX5_readHoliday_1 : List UInt8 := dkwX5_readHoliday_1 ++ dktX5_readHoliday_2
def dkwX5_readHoliday_0 : List UInt8 := [42, 3, 17, 3, 231, 182, 0, 111, 60, 3, 61, 28, 42, 180, 0, 20, 5, 46, 162, 0, 39, 42]
abbrev dktX5_readHoliday_0 : List UInt8 := dkwX5_readHoliday_0 ++ dktX5_readHoliday_1
theorem dksX5_readHoliday_0 : cX5_readHoliday.data.toList.drop 0 = dktX5_readHoliday_0 := by decide +kernel
theorem dksX5_readHoliday_1 : cX5_readHoliday.data.toList.drop 22 = dktX5_readHoliday_1 := dk_seg dksX5_readHoliday_0 22 rfl rfl
theorem dksX5_readHoliday_2 : cX5_readHoliday.data.toList.drop 45 = dktX5_readHoliday_2 := dk_seg dksX5_readHoliday_1 23 rfl rfl
theorem dksX5_readHoliday_3 : cX5_readHoliday.data.toList.drop 69 = dktX5_readHoliday_3 := dk_seg dksX5_readHoliday_2 24 rfl rfl
theorem dksX5_readHoliday_4 : cX5_readHoliday.data.toList.drop 93 = dktX5_readHoliday_4 := dk_seg dksX5_readHoliday_3 24 rfl rfl
theorem dksX5_readHoliday_5 : cX5_readHoliday.data.toList.drop 115 = dktX5_readHoliday_5 := dk_seg dksX5_readHoliday_4 22 rfl rfl
theorem dX5_readHoliday_0 : decode cX5_readHoliday 0 = .ok (.aload_n 0, 1) := dk_42 (dk_at dksX5_readHoliday_0 0 rfl rfl)
theorem dX5_readHoliday_1 : decode cX5_readHoliday 1 = .ok (.iconst 0, 1) := dk_3 (dk_at dksX5_readHoliday_0 1 rfl rfl)
theorem dX5_readHoliday_2 : decode cX5_readHoliday 2 = .ok (.sipush 999, 3) := dk_17 3 231 (dk_at dksX5_readHoliday_0 2 rfl rfl)
theorem dX5_readHoliday_5 : decode cX5_readHoliday 5 = .ok (.invokevirtual 111, 3) := dk_182 0 111 (dk_at dksX5_readHoliday_0 5 rfl rfl)
theorem dX5_readHoliday_8 : decode cX5_readHoliday 8 = .ok (.istore_n 1, 1) := dk_60 (dk_at dksX5_readHoliday_0 8 rfl rfl)
theorem dX5_readHoliday_9 : decode cX5_readHoliday 9 = .ok (.iconst 0, 1) := dk_3 (dk_at dksX5_readHoliday_0 9 rfl rfl)
theorem dX5_readHoliday_10 : decode cX5_readHoliday 10 = .ok (.istore_n 2, 1) := dk_61 (dk_at dksX5_readHoliday_0 10 rfl rfl)
theorem dX5_readHoliday_11 : decode cX5_readHoliday 11 = .ok (.iload_n 2, 1) := dk_28 (dk_at dksX5_readHoliday_0 11 rfl rfl)
theorem dX5_readHoliday_12 : decode cX5_readHoliday 12 = .ok (.aload_n 0, 1) := dk_42 (dk_at dksX5_readHoliday_0 12 rfl rfl)
theorem dX5_readHoliday_13 : decode cX5_readHoliday 13 = .ok (.getfield 20, 3) := dk_180 0 20 (dk_at dksX5_readHoliday_0 13 rfl rfl)
theorem dX5_readHoliday_16 : decode cX5_readHoliday 16 = .ok (.iconst 2, 1) := dk_5 (dk_at dksX5_readHoliday_0 16 rfl rfl)
theorem dX5_readHoliday_17 : decode cX5_readHoliday 17 = .ok (.iaload, 1) := dk_46 (dk_at dksX5_readHoliday_0 17 rfl rfl)
theorem dX5_readHoliday_18 : decode cX5_readHoliday 18 = .ok (.if_icmp .ge 39, 3) := dk_162 0 39 (dk_at dksX5_readHoliday_0 18 rfl rfl)
theorem dX5_readHoliday_21 : decode cX5_readHoliday 21 = .ok (.aload_n 0, 1) := dk_42 (dk_at dksX5_readHoliday_0 21 rfl rfl)
theorem dX5_readHoliday_22 : decode cX5_readHoliday 22 = .ok (.invokevirtual 58, 3) := dk_182 0 58 (dk_at dksX5_readHoliday_1 0 rfl rfl)
theorem dX5_readHoliday_25 : decode cX5_readHoliday 25 = .ok (.ifCond .eq 26, 3) := dk_153 0 26 (dk_at dksX5_readHoliday_1 3 rfl rfl)
theorem dX5_readHoliday_28 : decode cX5_readHoliday 28 = .ok (.aload_n 0, 1) := dk_42 (dk_at dksX5_readHoliday_1 6 rfl rfl)
theorem dX5_readHoliday_29 : decode cX5_readHoliday 29 = .ok (.getfield 20, 3) := dk_180 0 20 (dk_at dksX5_readHoliday_1 7 rfl rfl)
theorem dX5_readHoliday_32 : decode cX5_readHoliday 32 = .ok (.bipush 6, 2) := dk_16 6 (dk_at dksX5_readHoliday_1 10 rfl rfl)
theorem dX5_readHoliday_34 : decode cX5_readHoliday 34 = .ok (.iload_n 2, 1) := dk_28 (dk_at dksX5_readHoliday_1 12 rfl rfl)
theorem dX5_readHoliday_35 : decode cX5_readHoliday 35 = .ok (.iadd, 1) := dk_96 (dk_at dksX5_readHoliday_1 13 rfl rfl)
theorem dX5_readHoliday_36 : decode cX5_readHoliday 36 = .ok (.iaload, 1) := dk_46 (dk_at dksX5_readHoliday_1 14 rfl rfl)
theorem dX5_readHoliday_37 : decode cX5_readHoliday 37 = .ok (.iload_n 1, 1) := dk_27 (dk_at dksX5_readHoliday_1 15 rfl rfl)
theorem dX5_readHoliday_38 : decode cX5_readHoliday 38 = .ok (.if_icmp .ne 13, 3) := dk_160 0 13 (dk_at dksX5_readHoliday_1 16 rfl rfl)
theorem dX5_readHoliday_41 : decode cX5_readHoliday 41 = .ok (.aload_n 0, 1) := dk_42 (dk_at dksX5_readHoliday_1 19 rfl rfl)
theorem dX5_readHoliday_42 : decode cX5_readHoliday 42 = .ok (.bipush (-3), 2) := dk_16 253 (dk_at dksX5_readHoliday_1 20 rfl rfl)
theorem dX5_readHoliday_44 : decode cX5_readHoliday 44 = .ok (.aload_n 0, 1) := dk_42 (dk_at dksX5_readHoliday_1 22 rfl rfl)
theorem dX5_readHoliday_45 : decode cX5_readHoliday 45 = .ok (.getfield 83, 3) := dk_180 0 83 (dk_at dksX5_readHoliday_2 0 rfl rfl)
theorem dX5_readHoliday_48 : decode cX5_readHoliday 48 = .ok (.invokevirtual 75, 3) := dk_182 0 75 (dk_at dksX5_readHoliday_2 3 rfl rfl)
theorem dX5_readHoliday_51 : decode cX5_readHoliday 51 = .ok (.iinc 2 1, 3) := dk_132 2 1 (dk_at dksX5_readHoliday_2 6 rfl rfl)
theorem dX5_readHoliday_54 : decode cX5_readHoliday 54 = .ok (.goto (-43), 3) := dk_167 255 213 (dk_at dksX5_readHoliday_2 9 rfl rfl)
theorem dX5_readHoliday_57 : decode cX5_readHoliday 57 = .ok (.aload_n 0, 1) := dk_42 (dk_at dksX5_readHoliday_2 12 rfl rfl)
theorem dX5_readHoliday_58 : decode cX5_readHoliday 58 = .ok (.getfield 20, 3) := dk_180 0 20 (dk_at dksX5_readHoliday_2 13 rfl rfl)
theorem dX5_readHoliday_61 : decode cX5_readHoliday 61 = .ok (.iconst 2, 1) := dk_5 (dk_at dksX5_readHoliday_2 16 rfl rfl)
theorem dX5_readHoliday_62 : decode cX5_readHoliday 62 = .ok (.iaload, 1) := dk_46 (dk_at dksX5_readHoliday_2 17 rfl rfl)
theorem dX5_readHoliday_63 : decode cX5_readHoliday 63 = .ok (.bipush 16, 2) := dk_16 16 (dk_at dksX5_readHoliday_2 18 rfl rfl)
theorem dX5_readHoliday_65 : decode cX5_readHoliday 65 = .ok (.if_icmp .ne 13, 3) := dk_160 0 13 (dk_at dksX5_readHoliday_2 20 rfl rfl)
theorem dX5_readHoliday_68 : decode cX5_readHoliday 68 = .ok (.aload_n 0, 1) := dk_42 (dk_at dksX5_readHoliday_2 23 rfl rfl)
theorem dX5_readHoliday_69 : decode cX5_readHoliday 69 = .ok (.bipush (-4), 2) := dk_16 252 (dk_at dksX5_readHoliday_3 0 rfl rfl)
theorem dX5_readHoliday_71 : decode cX5_readHoliday 71 = .ok (.aload_n 0, 1) := dk_42 (dk_at dksX5_readHoliday_3 2 rfl rfl)
theorem dX5_readHoliday_72 : decode cX5_readHoliday 72 = .ok (.getfield 83, 3) := dk_180 0 83 (dk_at dksX5_readHoliday_3 3 rfl rfl)
theorem dX5_readHoliday_75 : decode cX5_readHoliday 75 = .ok (.invokevirtual 75, 3) := dk_182 0 75 (dk_at dksX5_readHoliday_3 6 rfl rfl)
theorem dX5_readHoliday_78 : decode cX5_readHoliday 78 = .ok (.aload_n 0, 1) := dk_42 (dk_at dksX5_readHoliday_3 9 rfl rfl)
theorem dX5_readHoliday_79 : decode cX5_readHoliday 79 = .ok (.invokevirtual 58, 3) := dk_182 0 58 (dk_at dksX5_readHoliday_3 10 rfl rfl)
theorem dX5_readHoliday_82 : decode cX5_readHoliday 82 = .ok (.ifCond .ne 4, 3) := dk_154 0 4 (dk_at dksX5_readHoliday_3 13 rfl rfl)
theorem dX5_readHoliday_85 : decode cX5_readHoliday 85 = .ok (.return_, 1) := dk_177 (dk_at dksX5_readHoliday_3 16 rfl rfl)
theorem dX5_readHoliday_86 : decode cX5_readHoliday 86 = .ok (.aload_n 0, 1) := dk_42 (dk_at dksX5_readHoliday_3 17 rfl rfl)
theorem dX5_readHoliday_87 : decode cX5_readHoliday 87 = .ok (.getfield 20, 3) := dk_180 0 20 (dk_at dksX5_readHoliday_3 18 rfl rfl)
theorem dX5_readHoliday_90 : decode cX5_readHoliday 90 = .ok (.bipush 6, 2) := dk_16 6 (dk_at dksX5_readHoliday_3 21 rfl rfl)
theorem dX5_readHoliday_92 : decode cX5_readHoliday 92 = .ok (.aload_n 0, 1) := dk_42 (dk_at dksX5_readHoliday_3 23 rfl rfl)
theorem dX5_readHoliday_93 : decode cX5_readHoliday 93 = .ok (.getfield 20, 3) := dk_180 0 20 (dk_at dksX5_readHoliday_4 0 rfl rfl)
theorem dX5_readHoliday_96 : decode cX5_readHoliday 96 = .ok (.iconst 2, 1) := dk_5 (dk_at dksX5_readHoliday_4 3 rfl rfl)
theorem dX5_readHoliday_97 : decode cX5_readHoliday 97 = .ok (.iaload, 1) := dk_46 (dk_at dksX5_readHoliday_4 4 rfl rfl)
theorem dX5_readHoliday_98 : decode cX5_readHoliday 98 = .ok (.iadd, 1) := dk_96 (dk_at dksX5_readHoliday_4 5 rfl rfl)
theorem dX5_readHoliday_99 : decode cX5_readHoliday 99 = .ok (.iload_n 1, 1) := dk_27 (dk_at dksX5_readHoliday_4 6 rfl rfl)
theorem dX5_readHoliday_100 : decode cX5_readHoliday 100 = .ok (.iastore, 1) := dk_79 (dk_at dksX5_readHoliday_4 7 rfl rfl)
theorem dX5_readHoliday_101 : decode cX5_readHoliday 101 = .ok (.aload_n 0, 1) := dk_42 (dk_at dksX5_readHoliday_4 8 rfl rfl)
theorem dX5_readHoliday_102 : decode cX5_readHoliday 102 = .ok (.getfield 20, 3) := dk_180 0 20 (dk_at dksX5_readHoliday_4 9 rfl rfl)
theorem dX5_readHoliday_105 : decode cX5_readHoliday 105 = .ok (.iconst 2, 1) := dk_5 (dk_at dksX5_readHoliday_4 12 rfl rfl)
theorem dX5_readHoliday_106 : decode cX5_readHoliday 106 = .ok (.dup2, 1) := dk_92 (dk_at dksX5_readHoliday_4 13 rfl rfl)
theorem dX5_readHoliday_107 : decode cX5_readHoliday 107 = .ok (.iaload, 1) := dk_46 (dk_at dksX5_readHoliday_4 14 rfl rfl)
theorem dX5_readHoliday_108 : decode cX5_readHoliday 108 = .ok (.iconst 1, 1) := dk_4 (dk_at dksX5_readHoliday_4 15 rfl rfl)
theorem dX5_readHoliday_109 : decode cX5_readHoliday 109 = .ok (.iadd, 1) := dk_96 (dk_at dksX5_readHoliday_4 16 rfl rfl)
theorem dX5_readHoliday_110 : decode cX5_readHoliday 110 = .ok (.iastore, 1) := dk_79 (dk_at dksX5_readHoliday_4 17 rfl rfl)
theorem dX5_readHoliday_111 : decode cX5_readHoliday 111 = .ok (.aload_n 0, 1) := dk_42 (dk_at dksX5_readHoliday_4 18 rfl rfl)
theorem dX5_readHoliday_112 : decode cX5_readHoliday 112 = .ok (.invokevirtual 62, 3) := dk_182 0 62 (dk_at dksX5_readHoliday_4 19 rfl rfl)
theorem dX5_readHoliday_115 : decode cX5_readHoliday 115 = .ok (.invokestatic 79, 3) := dk_184 0 79 (dk_at dksX5_readHoliday_5 0 rfl rfl)
theorem dX5_readHoliday_118 : decode cX5_readHoliday 118 = .ok (.ifCond .ne (-118), 3) := dk_154 255 138 (dk_at dksX5_readHoliday_5 3 rfl rfl)
theorem dX5_readHoliday_121 : decode cX5_readHoliday 121 = .ok (.return_, 1) := dk_177 (dk_at dksX5_readHoliday_5 6 rfl rfl)
abbrev cX5_number : ByteArray := prog_14_method_17_code
def yX5_number : MethodName := ⟨RX5, "number", "(II)I"⟩
def dkwX5_number_4 : List UInt8 := [184, 0, 54, 154, 0, 13, 42, 16, 253, 42, 180, 0, 83, 182, 0, 75, 29, 172]
abbrev dktX5_number_4 : List UInt8 := dkwX5_number_4 ++ []
def dkwX5_number_3 : List UInt8 := [16, 48, 100, 184, 0, 87, 62, 42, 89, 180, 0, 41, 4, 96, 181, 0, 41, 167, 255, 210, 29, 27, 28]
abbrev dktX5_number_3 : List UInt8 := dkwX5_number_3 ++ dktX5_number_4
def dkwX5_number_2 : List UInt8 := [182, 0, 44, 184, 0, 79, 153, 0, 38, 18, 86, 16, 10, 29, 104, 42, 42, 180, 0, 41, 182, 0, 44, 96]
abbrev dktX5_number_2 : List UInt8 := dkwX5_number_2 ++ dktX5_number_3
def dkwX5_number_1 : List UInt8 := [180, 0, 41, 182, 0, 75, 3, 172, 42, 42, 180, 0, 41, 181, 0, 83, 3, 62, 42, 42, 180, 0, 41]
abbrev dktX5_number_1 : List UInt8 := dkwX5_number_1 ++ dktX5_number_2
def dkwX5_number_0 : List UInt8 := [42, 182, 0, 58, 154, 0, 5, 3, 172, 42, 182, 0, 62, 184, 0, 79, 154, 0, 15, 42, 16, 254, 42]
abbrev dktX5_number_0 : List UInt8 := dkwX5_number_0 ++ dktX5_number_1
theorem dksX5_number_0 : cX5_number.data.toList.drop 0 = dktX5_number_0 := by decide +kernel
theorem dksX5_number_1 : cX5_number.data.toList.drop 23 = dktX5_number_1 := dk_seg dksX5_number_0 23 rfl rfl
theorem dksX5_number_2 : cX5_number.data.toList.drop 46 = dktX5_number_2 := dk_seg dksX5_number_1 23 rfl rfl
theorem dksX5_number_3 : cX5_number.data.toList.drop 70 = dktX5_number_3 := dk_seg dksX5_number_2 24 rfl rfl
theorem dksX5_number_4 : cX5_number.data.toList.drop 93 = dktX5_number_4 := dk_seg dksX5_number_3 23 rfl rfl
theorem dX5_number_0 : decode cX5_number 0 = .ok (.aload_n 0, 1) := dk_42 (dk_at dksX5_number_0 0 rfl rfl)
theorem dX5_number_1 : decode cX5_number 1 = .ok (.invokevirtual 58, 3) := dk_182 0 58 (dk_at dksX5_number_0 1 rfl rfl)
theorem dX5_number_4 : decode cX5_number 4 = .ok (.ifCond .ne 5, 3) := dk_154 0 5 (dk_at dksX5_number_0 4 rfl rfl)
theorem dX5_number_7 : decode cX5_number 7 = .ok (.iconst 0, 1) := dk_3 (dk_at dksX5_number_0 7 rfl rfl)
theorem dX5_number_8 : decode cX5_number 8 = .ok (.ireturn, 1) := dk_172 (dk_at dksX5_number_0 8 rfl rfl)
theorem dX5_number_9 : decode cX5_number 9 = .ok (.aload_n 0, 1) := dk_42 (dk_at dksX5_number_0 9 rfl rfl)
theorem dX5_number_10 : decode cX5_number 10 = .ok (.invokevirtual 62, 3) := dk_182 0 62 (dk_at dksX5_number_0 10 rfl rfl)
theorem dX5_number_13 : decode cX5_number 13 = .ok (.invokestatic 79, 3) := dk_184 0 79 (dk_at dksX5_number_0 13 rfl rfl)
theorem dX5_number_16 : decode cX5_number 16 = .ok (.ifCond .ne 15, 3) := dk_154 0 15 (dk_at dksX5_number_0 16 rfl rfl)
theorem dX5_number_19 : decode cX5_number 19 = .ok (.aload_n 0, 1) := dk_42 (dk_at dksX5_number_0 19 rfl rfl)
theorem dX5_number_20 : decode cX5_number 20 = .ok (.bipush (-2), 2) := dk_16 254 (dk_at dksX5_number_0 20 rfl rfl)
theorem dX5_number_22 : decode cX5_number 22 = .ok (.aload_n 0, 1) := dk_42 (dk_at dksX5_number_0 22 rfl rfl)
theorem dX5_number_23 : decode cX5_number 23 = .ok (.getfield 41, 3) := dk_180 0 41 (dk_at dksX5_number_1 0 rfl rfl)
theorem dX5_number_26 : decode cX5_number 26 = .ok (.invokevirtual 75, 3) := dk_182 0 75 (dk_at dksX5_number_1 3 rfl rfl)
theorem dX5_number_29 : decode cX5_number 29 = .ok (.iconst 0, 1) := dk_3 (dk_at dksX5_number_1 6 rfl rfl)
theorem dX5_number_30 : decode cX5_number 30 = .ok (.ireturn, 1) := dk_172 (dk_at dksX5_number_1 7 rfl rfl)
theorem dX5_number_31 : decode cX5_number 31 = .ok (.aload_n 0, 1) := dk_42 (dk_at dksX5_number_1 8 rfl rfl)
theorem dX5_number_32 : decode cX5_number 32 = .ok (.aload_n 0, 1) := dk_42 (dk_at dksX5_number_1 9 rfl rfl)
theorem dX5_number_33 : decode cX5_number 33 = .ok (.getfield 41, 3) := dk_180 0 41 (dk_at dksX5_number_1 10 rfl rfl)
theorem dX5_number_36 : decode cX5_number 36 = .ok (.putfield 83, 3) := dk_181 0 83 (dk_at dksX5_number_1 13 rfl rfl)
theorem dX5_number_39 : decode cX5_number 39 = .ok (.iconst 0, 1) := dk_3 (dk_at dksX5_number_1 16 rfl rfl)
theorem dX5_number_40 : decode cX5_number 40 = .ok (.istore_n 3, 1) := dk_62 (dk_at dksX5_number_1 17 rfl rfl)
theorem dX5_number_41 : decode cX5_number 41 = .ok (.aload_n 0, 1) := dk_42 (dk_at dksX5_number_1 18 rfl rfl)
theorem dX5_number_42 : decode cX5_number 42 = .ok (.aload_n 0, 1) := dk_42 (dk_at dksX5_number_1 19 rfl rfl)
theorem dX5_number_43 : decode cX5_number 43 = .ok (.getfield 41, 3) := dk_180 0 41 (dk_at dksX5_number_1 20 rfl rfl)
theorem dX5_number_46 : decode cX5_number 46 = .ok (.invokevirtual 44, 3) := dk_182 0 44 (dk_at dksX5_number_2 0 rfl rfl)
theorem dX5_number_49 : decode cX5_number 49 = .ok (.invokestatic 79, 3) := dk_184 0 79 (dk_at dksX5_number_2 3 rfl rfl)
theorem dX5_number_52 : decode cX5_number 52 = .ok (.ifCond .eq 38, 3) := dk_153 0 38 (dk_at dksX5_number_2 6 rfl rfl)
theorem dX5_number_55 : decode cX5_number 55 = .ok (.ldc 86, 2) := dk_18 86 (dk_at dksX5_number_2 9 rfl rfl)
theorem dX5_number_57 : decode cX5_number 57 = .ok (.bipush 10, 2) := dk_16 10 (dk_at dksX5_number_2 11 rfl rfl)
theorem dX5_number_59 : decode cX5_number 59 = .ok (.iload_n 3, 1) := dk_29 (dk_at dksX5_number_2 13 rfl rfl)
theorem dX5_number_60 : decode cX5_number 60 = .ok (.imul, 1) := dk_104 (dk_at dksX5_number_2 14 rfl rfl)
theorem dX5_number_61 : decode cX5_number 61 = .ok (.aload_n 0, 1) := dk_42 (dk_at dksX5_number_2 15 rfl rfl)
theorem dX5_number_62 : decode cX5_number 62 = .ok (.aload_n 0, 1) := dk_42 (dk_at dksX5_number_2 16 rfl rfl)
theorem dX5_number_63 : decode cX5_number 63 = .ok (.getfield 41, 3) := dk_180 0 41 (dk_at dksX5_number_2 17 rfl rfl)
theorem dX5_number_66 : decode cX5_number 66 = .ok (.invokevirtual 44, 3) := dk_182 0 44 (dk_at dksX5_number_2 20 rfl rfl)
theorem dX5_number_69 : decode cX5_number 69 = .ok (.iadd, 1) := dk_96 (dk_at dksX5_number_2 23 rfl rfl)
theorem dX5_number_70 : decode cX5_number 70 = .ok (.bipush 48, 2) := dk_16 48 (dk_at dksX5_number_3 0 rfl rfl)
theorem dX5_number_72 : decode cX5_number 72 = .ok (.isub, 1) := dk_100 (dk_at dksX5_number_3 2 rfl rfl)
theorem dX5_number_73 : decode cX5_number 73 = .ok (.invokestatic 87, 3) := dk_184 0 87 (dk_at dksX5_number_3 3 rfl rfl)
theorem dX5_number_76 : decode cX5_number 76 = .ok (.istore_n 3, 1) := dk_62 (dk_at dksX5_number_3 6 rfl rfl)
theorem dX5_number_77 : decode cX5_number 77 = .ok (.aload_n 0, 1) := dk_42 (dk_at dksX5_number_3 7 rfl rfl)
theorem dX5_number_78 : decode cX5_number 78 = .ok (.dup, 1) := dk_89 (dk_at dksX5_number_3 8 rfl rfl)
theorem dX5_number_79 : decode cX5_number 79 = .ok (.getfield 41, 3) := dk_180 0 41 (dk_at dksX5_number_3 9 rfl rfl)
theorem dX5_number_82 : decode cX5_number 82 = .ok (.iconst 1, 1) := dk_4 (dk_at dksX5_number_3 12 rfl rfl)
theorem dX5_number_83 : decode cX5_number 83 = .ok (.iadd, 1) := dk_96 (dk_at dksX5_number_3 13 rfl rfl)
theorem dX5_number_84 : decode cX5_number 84 = .ok (.putfield 41, 3) := dk_181 0 41 (dk_at dksX5_number_3 14 rfl rfl)
theorem dX5_number_87 : decode cX5_number 87 = .ok (.goto (-46), 3) := dk_167 255 210 (dk_at dksX5_number_3 17 rfl rfl)
theorem dX5_number_90 : decode cX5_number 90 = .ok (.iload_n 3, 1) := dk_29 (dk_at dksX5_number_3 20 rfl rfl)
theorem dX5_number_91 : decode cX5_number 91 = .ok (.iload_n 1, 1) := dk_27 (dk_at dksX5_number_3 21 rfl rfl)
theorem dX5_number_92 : decode cX5_number 92 = .ok (.iload_n 2, 1) := dk_28 (dk_at dksX5_number_3 22 rfl rfl)
theorem dX5_number_93 : decode cX5_number 93 = .ok (.invokestatic 54, 3) := dk_184 0 54 (dk_at dksX5_number_4 0 rfl rfl)
theorem dX5_number_96 : decode cX5_number 96 = .ok (.ifCond .ne 13, 3) := dk_154 0 13 (dk_at dksX5_number_4 3 rfl rfl)
theorem dX5_number_99 : decode cX5_number 99 = .ok (.aload_n 0, 1) := dk_42 (dk_at dksX5_number_4 6 rfl rfl)
theorem dX5_number_100 : decode cX5_number 100 = .ok (.bipush (-3), 2) := dk_16 253 (dk_at dksX5_number_4 7 rfl rfl)
theorem dX5_number_102 : decode cX5_number 102 = .ok (.aload_n 0, 1) := dk_42 (dk_at dksX5_number_4 9 rfl rfl)
theorem dX5_number_103 : decode cX5_number 103 = .ok (.getfield 83, 3) := dk_180 0 83 (dk_at dksX5_number_4 10 rfl rfl)
theorem dX5_number_106 : decode cX5_number 106 = .ok (.invokevirtual 75, 3) := dk_182 0 75 (dk_at dksX5_number_4 13 rfl rfl)
theorem dX5_number_109 : decode cX5_number 109 = .ok (.iload_n 3, 1) := dk_29 (dk_at dksX5_number_4 16 rfl rfl)
theorem dX5_number_110 : decode cX5_number 110 = .ok (.ireturn, 1) := dk_172 (dk_at dksX5_number_4 17 rfl rfl)
abbrev cX5_isDigit : ByteArray := prog_14_method_14_code
def yX5_isDigit : MethodName := ⟨RX5, "isDigit", "(I)Z"⟩
def dkwX5_isDigit_0 : List UInt8 := [26, 16, 48, 16, 57, 184, 0, 54, 172]
abbrev dktX5_isDigit_0 : List UInt8 := dkwX5_isDigit_0 ++ []
theorem dksX5_isDigit_0 : cX5_isDigit.data.toList.drop 0 = dktX5_isDigit_0 := by decide +kernel
theorem dX5_isDigit_0 : decode cX5_isDigit 0 = .ok (.iload_n 0, 1) := dk_26 (dk_at dksX5_isDigit_0 0 rfl rfl)
theorem dX5_isDigit_1 : decode cX5_isDigit 1 = .ok (.bipush 48, 2) := dk_16 48 (dk_at dksX5_isDigit_0 1 rfl rfl)
theorem dX5_isDigit_3 : decode cX5_isDigit 3 = .ok (.bipush 57, 2) := dk_16 57 (dk_at dksX5_isDigit_0 3 rfl rfl)
theorem dX5_isDigit_5 : decode cX5_isDigit 5 = .ok (.invokestatic 54, 3) := dk_184 0 54 (dk_at dksX5_isDigit_0 5 rfl rfl)
theorem dX5_isDigit_8 : decode cX5_isDigit 8 = .ok (.ireturn, 1) := dk_172 (dk_at dksX5_isDigit_0 8 rfl rfl)
abbrev cX5_report : ByteArray := prog_14_method_13_code
def yX5_report : MethodName := ⟨RX5, "report", "(II)V"⟩
def dkwX5_report_0 : List UInt8 := [42, 180, 0, 48, 153, 0, 4, 177, 42, 27, 181, 0, 48, 42, 28, 181, 0, 51, 177]
abbrev dktX5_report_0 : List UInt8 := dkwX5_report_0 ++ []
theorem dksX5_report_0 : cX5_report.data.toList.drop 0 = dktX5_report_0 := by decide +kernel
theorem dX5_report_0 : decode cX5_report 0 = .ok (.aload_n 0, 1) := dk_42 (dk_at dksX5_report_0 0 rfl rfl)
theorem dX5_report_1 : decode cX5_report 1 = .ok (.getfield 48, 3) := dk_180 0 48 (dk_at dksX5_report_0 1 rfl rfl)
theorem dX5_report_4 : decode cX5_report 4 = .ok (.ifCond .eq 4, 3) := dk_153 0 4 (dk_at dksX5_report_0 4 rfl rfl)
theorem dX5_report_7 : decode cX5_report 7 = .ok (.return_, 1) := dk_177 (dk_at dksX5_report_0 7 rfl rfl)
theorem dX5_report_8 : decode cX5_report 8 = .ok (.aload_n 0, 1) := dk_42 (dk_at dksX5_report_0 8 rfl rfl)
theorem dX5_report_9 : decode cX5_report 9 = .ok (.iload_n 1, 1) := dk_27 (dk_at dksX5_report_0 9 rfl rfl)
theorem dX5_report_10 : decode cX5_report 10 = .ok (.putfield 48, 3) := dk_181 0 48 (dk_at dksX5_report_0 10 rfl rfl)
theorem dX5_report_13 : decode cX5_report 13 = .ok (.aload_n 0, 1) := dk_42 (dk_at dksX5_report_0 13 rfl rfl)
theorem dX5_report_14 : decode cX5_report 14 = .ok (.iload_n 2, 1) := dk_28 (dk_at dksX5_report_0 14 rfl rfl)
theorem dX5_report_15 : decode cX5_report 15 = .ok (.putfield 51, 3) := dk_181 0 51 (dk_at dksX5_report_0 15 rfl rfl)
theorem dX5_report_18 : decode cX5_report 18 = .ok (.return_, 1) := dk_177 (dk_at dksX5_report_0 18 rfl rfl)
abbrev cX5_min : ByteArray := prog_14_method_5_code
def yX5_min : MethodName := ⟨RX5, "min", "(II)I"⟩
def dkwX5_min_0 : List UInt8 := [26, 27, 162, 0, 7, 26, 167, 0, 4, 27, 172]
abbrev dktX5_min_0 : List UInt8 := dkwX5_min_0 ++ []
theorem dksX5_min_0 : cX5_min.data.toList.drop 0 = dktX5_min_0 := by decide +kernel
theorem dX5_min_0 : decode cX5_min 0 = .ok (.iload_n 0, 1) := dk_26 (dk_at dksX5_min_0 0 rfl rfl)
theorem dX5_min_1 : decode cX5_min 1 = .ok (.iload_n 1, 1) := dk_27 (dk_at dksX5_min_0 1 rfl rfl)
theorem dX5_min_2 : decode cX5_min 2 = .ok (.if_icmp .ge 7, 3) := dk_162 0 7 (dk_at dksX5_min_0 2 rfl rfl)
theorem dX5_min_5 : decode cX5_min 5 = .ok (.iload_n 0, 1) := dk_26 (dk_at dksX5_min_0 5 rfl rfl)
theorem dX5_min_6 : decode cX5_min 6 = .ok (.goto 4, 3) := dk_167 0 4 (dk_at dksX5_min_0 6 rfl rfl)
theorem dX5_min_9 : decode cX5_min 9 = .ok (.iload_n 1, 1) := dk_27 (dk_at dksX5_min_0 9 rfl rfl)
theorem dX5_min_10 : decode cX5_min 10 = .ok (.ireturn, 1) := dk_172 (dk_at dksX5_min_0 10 rfl rfl)
abbrev cX5_readCredit : ByteArray := prog_14_method_25_code
def yX5_readCredit : MethodName := ⟨RX5, "readCredit", "(I)V"⟩
def dkwX5_readCredit_10 : List UInt8 := [46, 4, 96, 79, 177]
abbrev dktX5_readCredit_10 : List UInt8 := dkwX5_readCredit_10 ++ []
def dkwX5_readCredit_9 : List UInt8 := [79, 42, 18, 134, 182, 0, 103, 153, 0, 11, 42, 28, 16, 9, 96, 182, 0, 136, 42, 180, 0, 20, 3, 92]
abbrev dktX5_readCredit_9 : List UInt8 := dkwX5_readCredit_9 ++ dktX5_readCredit_10
def dkwX5_readCredit_8 : List UInt8 := [167, 0, 4, 3, 79, 42, 180, 0, 20, 28, 16, 9, 96, 3, 79, 42, 180, 0, 20, 28, 16, 10, 96, 2]
abbrev dktX5_readCredit_8 : List UInt8 := dkwX5_readCredit_8 ++ dktX5_readCredit_9
def dkwX5_readCredit_7 : List UInt8 := [167, 0, 4, 3, 79, 42, 180, 0, 20, 28, 16, 8, 96, 42, 18, 132, 182, 0, 103, 153, 0, 7, 4]
abbrev dktX5_readCredit_7 : List UInt8 := dkwX5_readCredit_7 ++ dktX5_readCredit_8
def dkwX5_readCredit_6 : List UInt8 := [182, 0, 111, 79, 42, 180, 0, 20, 28, 16, 7, 96, 42, 18, 130, 182, 0, 103, 153, 0, 7, 4]
abbrev dktX5_readCredit_6 : List UInt8 := dkwX5_readCredit_6 ++ dktX5_readCredit_7
def dkwX5_readCredit_5 : List UInt8 := [28, 8, 96, 42, 4, 16, 60, 182, 0, 111, 79, 42, 180, 0, 20, 28, 16, 6, 96, 42, 3, 17, 0, 180]
abbrev dktX5_readCredit_5 : List UInt8 := dkwX5_readCredit_5 ++ dktX5_readCredit_6
def dkwX5_readCredit_4 : List UInt8 := [182, 0, 111, 79, 42, 180, 0, 20, 28, 7, 96, 42, 3, 17, 3, 231, 182, 0, 111, 79, 42, 180, 0, 20]
abbrev dktX5_readCredit_4 : List UInt8 := dkwX5_readCredit_4 ++ dktX5_readCredit_5
def dkwX5_readCredit_3 : List UInt8 := [5, 96, 42, 3, 16, 10, 182, 0, 111, 79, 42, 180, 0, 20, 28, 6, 96, 42, 3, 17, 3, 231]
abbrev dktX5_readCredit_3 : List UInt8 := dkwX5_readCredit_3 ++ dktX5_readCredit_4
def dkwX5_readCredit_2 : List UInt8 := [182, 0, 111, 79, 42, 180, 0, 20, 28, 4, 96, 42, 3, 16, 10, 182, 0, 111, 79, 42, 180, 0, 20, 28]
abbrev dktX5_readCredit_2 : List UInt8 := dkwX5_readCredit_2 ++ dktX5_readCredit_3
def dkwX5_readCredit_1 : List UInt8 := [154, 0, 4, 177, 42, 180, 0, 20, 3, 46, 184, 0, 126, 61, 42, 180, 0, 20, 28, 42, 4, 18, 129]
abbrev dktX5_readCredit_1 : List UInt8 := dkwX5_readCredit_1 ++ dktX5_readCredit_2
def dkwX5_readCredit_0 : List UInt8 := [42, 180, 0, 20, 3, 46, 16, 12, 160, 0, 10, 42, 16, 252, 27, 182, 0, 75, 42, 182, 0, 58]
abbrev dktX5_readCredit_0 : List UInt8 := dkwX5_readCredit_0 ++ dktX5_readCredit_1
theorem dksX5_readCredit_0 : cX5_readCredit.data.toList.drop 0 = dktX5_readCredit_0 := by decide +kernel
theorem dksX5_readCredit_1 : cX5_readCredit.data.toList.drop 22 = dktX5_readCredit_1 := dk_seg dksX5_readCredit_0 22 rfl rfl
theorem dksX5_readCredit_2 : cX5_readCredit.data.toList.drop 45 = dktX5_readCredit_2 := dk_seg dksX5_readCredit_1 23 rfl rfl
theorem dksX5_readCredit_3 : cX5_readCredit.data.toList.drop 69 = dktX5_readCredit_3 := dk_seg dksX5_readCredit_2 24 rfl rfl
theorem dksX5_readCredit_4 : cX5_readCredit.data.toList.drop 91 = dktX5_readCredit_4 := dk_seg dksX5_readCredit_3 22 rfl rfl
theorem dksX5_readCredit_5 : cX5_readCredit.data.toList.drop 115 = dktX5_readCredit_5 := dk_seg dksX5_readCredit_4 24 rfl rfl
theorem dksX5_readCredit_6 : cX5_readCredit.data.toList.drop 139 = dktX5_readCredit_6 := dk_seg dksX5_readCredit_5 24 rfl rfl
theorem dksX5_readCredit_7 : cX5_readCredit.data.toList.drop 161 = dktX5_readCredit_7 := dk_seg dksX5_readCredit_6 22 rfl rfl
theorem dksX5_readCredit_8 : cX5_readCredit.data.toList.drop 184 = dktX5_readCredit_8 := dk_seg dksX5_readCredit_7 23 rfl rfl
theorem dksX5_readCredit_9 : cX5_readCredit.data.toList.drop 208 = dktX5_readCredit_9 := dk_seg dksX5_readCredit_8 24 rfl rfl
theorem dksX5_readCredit_10 : cX5_readCredit.data.toList.drop 232 = dktX5_readCredit_10 := dk_seg dksX5_readCredit_9 24 rfl rfl
theorem dX5_readCredit_0 : decode cX5_readCredit 0 = .ok (.aload_n 0, 1) := dk_42 (dk_at dksX5_readCredit_0 0 rfl rfl)
theorem dX5_readCredit_1 : decode cX5_readCredit 1 = .ok (.getfield 20, 3) := dk_180 0 20 (dk_at dksX5_readCredit_0 1 rfl rfl)
theorem dX5_readCredit_4 : decode cX5_readCredit 4 = .ok (.iconst 0, 1) := dk_3 (dk_at dksX5_readCredit_0 4 rfl rfl)
theorem dX5_readCredit_5 : decode cX5_readCredit 5 = .ok (.iaload, 1) := dk_46 (dk_at dksX5_readCredit_0 5 rfl rfl)
theorem dX5_readCredit_6 : decode cX5_readCredit 6 = .ok (.bipush 12, 2) := dk_16 12 (dk_at dksX5_readCredit_0 6 rfl rfl)
theorem dX5_readCredit_8 : decode cX5_readCredit 8 = .ok (.if_icmp .ne 10, 3) := dk_160 0 10 (dk_at dksX5_readCredit_0 8 rfl rfl)
theorem dX5_readCredit_11 : decode cX5_readCredit 11 = .ok (.aload_n 0, 1) := dk_42 (dk_at dksX5_readCredit_0 11 rfl rfl)
theorem dX5_readCredit_12 : decode cX5_readCredit 12 = .ok (.bipush (-4), 2) := dk_16 252 (dk_at dksX5_readCredit_0 12 rfl rfl)
theorem dX5_readCredit_14 : decode cX5_readCredit 14 = .ok (.iload_n 1, 1) := dk_27 (dk_at dksX5_readCredit_0 14 rfl rfl)
theorem dX5_readCredit_15 : decode cX5_readCredit 15 = .ok (.invokevirtual 75, 3) := dk_182 0 75 (dk_at dksX5_readCredit_0 15 rfl rfl)
theorem dX5_readCredit_18 : decode cX5_readCredit 18 = .ok (.aload_n 0, 1) := dk_42 (dk_at dksX5_readCredit_0 18 rfl rfl)
theorem dX5_readCredit_19 : decode cX5_readCredit 19 = .ok (.invokevirtual 58, 3) := dk_182 0 58 (dk_at dksX5_readCredit_0 19 rfl rfl)
theorem dX5_readCredit_22 : decode cX5_readCredit 22 = .ok (.ifCond .ne 4, 3) := dk_154 0 4 (dk_at dksX5_readCredit_1 0 rfl rfl)
theorem dX5_readCredit_25 : decode cX5_readCredit 25 = .ok (.return_, 1) := dk_177 (dk_at dksX5_readCredit_1 3 rfl rfl)
theorem dX5_readCredit_26 : decode cX5_readCredit 26 = .ok (.aload_n 0, 1) := dk_42 (dk_at dksX5_readCredit_1 4 rfl rfl)
theorem dX5_readCredit_27 : decode cX5_readCredit 27 = .ok (.getfield 20, 3) := dk_180 0 20 (dk_at dksX5_readCredit_1 5 rfl rfl)
theorem dX5_readCredit_30 : decode cX5_readCredit 30 = .ok (.iconst 0, 1) := dk_3 (dk_at dksX5_readCredit_1 8 rfl rfl)
theorem dX5_readCredit_31 : decode cX5_readCredit 31 = .ok (.iaload, 1) := dk_46 (dk_at dksX5_readCredit_1 9 rfl rfl)
theorem dX5_readCredit_32 : decode cX5_readCredit 32 = .ok (.invokestatic 126, 3) := dk_184 0 126 (dk_at dksX5_readCredit_1 10 rfl rfl)
theorem dX5_readCredit_35 : decode cX5_readCredit 35 = .ok (.istore_n 2, 1) := dk_61 (dk_at dksX5_readCredit_1 13 rfl rfl)
theorem dX5_readCredit_36 : decode cX5_readCredit 36 = .ok (.aload_n 0, 1) := dk_42 (dk_at dksX5_readCredit_1 14 rfl rfl)
theorem dX5_readCredit_37 : decode cX5_readCredit 37 = .ok (.getfield 20, 3) := dk_180 0 20 (dk_at dksX5_readCredit_1 15 rfl rfl)
theorem dX5_readCredit_40 : decode cX5_readCredit 40 = .ok (.iload_n 2, 1) := dk_28 (dk_at dksX5_readCredit_1 18 rfl rfl)
theorem dX5_readCredit_41 : decode cX5_readCredit 41 = .ok (.aload_n 0, 1) := dk_42 (dk_at dksX5_readCredit_1 19 rfl rfl)
theorem dX5_readCredit_42 : decode cX5_readCredit 42 = .ok (.iconst 1, 1) := dk_4 (dk_at dksX5_readCredit_1 20 rfl rfl)
theorem dX5_readCredit_43 : decode cX5_readCredit 43 = .ok (.ldc 129, 2) := dk_18 129 (dk_at dksX5_readCredit_1 21 rfl rfl)
theorem dX5_readCredit_45 : decode cX5_readCredit 45 = .ok (.invokevirtual 111, 3) := dk_182 0 111 (dk_at dksX5_readCredit_2 0 rfl rfl)
theorem dX5_readCredit_48 : decode cX5_readCredit 48 = .ok (.iastore, 1) := dk_79 (dk_at dksX5_readCredit_2 3 rfl rfl)
theorem dX5_readCredit_49 : decode cX5_readCredit 49 = .ok (.aload_n 0, 1) := dk_42 (dk_at dksX5_readCredit_2 4 rfl rfl)
theorem dX5_readCredit_50 : decode cX5_readCredit 50 = .ok (.getfield 20, 3) := dk_180 0 20 (dk_at dksX5_readCredit_2 5 rfl rfl)
theorem dX5_readCredit_53 : decode cX5_readCredit 53 = .ok (.iload_n 2, 1) := dk_28 (dk_at dksX5_readCredit_2 8 rfl rfl)
theorem dX5_readCredit_54 : decode cX5_readCredit 54 = .ok (.iconst 1, 1) := dk_4 (dk_at dksX5_readCredit_2 9 rfl rfl)
theorem dX5_readCredit_55 : decode cX5_readCredit 55 = .ok (.iadd, 1) := dk_96 (dk_at dksX5_readCredit_2 10 rfl rfl)
theorem dX5_readCredit_56 : decode cX5_readCredit 56 = .ok (.aload_n 0, 1) := dk_42 (dk_at dksX5_readCredit_2 11 rfl rfl)
theorem dX5_readCredit_57 : decode cX5_readCredit 57 = .ok (.iconst 0, 1) := dk_3 (dk_at dksX5_readCredit_2 12 rfl rfl)
theorem dX5_readCredit_58 : decode cX5_readCredit 58 = .ok (.bipush 10, 2) := dk_16 10 (dk_at dksX5_readCredit_2 13 rfl rfl)
theorem dX5_readCredit_60 : decode cX5_readCredit 60 = .ok (.invokevirtual 111, 3) := dk_182 0 111 (dk_at dksX5_readCredit_2 15 rfl rfl)
theorem dX5_readCredit_63 : decode cX5_readCredit 63 = .ok (.iastore, 1) := dk_79 (dk_at dksX5_readCredit_2 18 rfl rfl)
theorem dX5_readCredit_64 : decode cX5_readCredit 64 = .ok (.aload_n 0, 1) := dk_42 (dk_at dksX5_readCredit_2 19 rfl rfl)
theorem dX5_readCredit_65 : decode cX5_readCredit 65 = .ok (.getfield 20, 3) := dk_180 0 20 (dk_at dksX5_readCredit_2 20 rfl rfl)
theorem dX5_readCredit_68 : decode cX5_readCredit 68 = .ok (.iload_n 2, 1) := dk_28 (dk_at dksX5_readCredit_2 23 rfl rfl)
theorem dX5_readCredit_69 : decode cX5_readCredit 69 = .ok (.iconst 2, 1) := dk_5 (dk_at dksX5_readCredit_3 0 rfl rfl)
theorem dX5_readCredit_70 : decode cX5_readCredit 70 = .ok (.iadd, 1) := dk_96 (dk_at dksX5_readCredit_3 1 rfl rfl)
theorem dX5_readCredit_71 : decode cX5_readCredit 71 = .ok (.aload_n 0, 1) := dk_42 (dk_at dksX5_readCredit_3 2 rfl rfl)
theorem dX5_readCredit_72 : decode cX5_readCredit 72 = .ok (.iconst 0, 1) := dk_3 (dk_at dksX5_readCredit_3 3 rfl rfl)
theorem dX5_readCredit_73 : decode cX5_readCredit 73 = .ok (.bipush 10, 2) := dk_16 10 (dk_at dksX5_readCredit_3 4 rfl rfl)
theorem dX5_readCredit_75 : decode cX5_readCredit 75 = .ok (.invokevirtual 111, 3) := dk_182 0 111 (dk_at dksX5_readCredit_3 6 rfl rfl)
theorem dX5_readCredit_78 : decode cX5_readCredit 78 = .ok (.iastore, 1) := dk_79 (dk_at dksX5_readCredit_3 9 rfl rfl)
theorem dX5_readCredit_79 : decode cX5_readCredit 79 = .ok (.aload_n 0, 1) := dk_42 (dk_at dksX5_readCredit_3 10 rfl rfl)
theorem dX5_readCredit_80 : decode cX5_readCredit 80 = .ok (.getfield 20, 3) := dk_180 0 20 (dk_at dksX5_readCredit_3 11 rfl rfl)
theorem dX5_readCredit_83 : decode cX5_readCredit 83 = .ok (.iload_n 2, 1) := dk_28 (dk_at dksX5_readCredit_3 14 rfl rfl)
theorem dX5_readCredit_84 : decode cX5_readCredit 84 = .ok (.iconst 3, 1) := dk_6 (dk_at dksX5_readCredit_3 15 rfl rfl)
theorem dX5_readCredit_85 : decode cX5_readCredit 85 = .ok (.iadd, 1) := dk_96 (dk_at dksX5_readCredit_3 16 rfl rfl)
theorem dX5_readCredit_86 : decode cX5_readCredit 86 = .ok (.aload_n 0, 1) := dk_42 (dk_at dksX5_readCredit_3 17 rfl rfl)
theorem dX5_readCredit_87 : decode cX5_readCredit 87 = .ok (.iconst 0, 1) := dk_3 (dk_at dksX5_readCredit_3 18 rfl rfl)
theorem dX5_readCredit_88 : decode cX5_readCredit 88 = .ok (.sipush 999, 3) := dk_17 3 231 (dk_at dksX5_readCredit_3 19 rfl rfl)
theorem dX5_readCredit_91 : decode cX5_readCredit 91 = .ok (.invokevirtual 111, 3) := dk_182 0 111 (dk_at dksX5_readCredit_4 0 rfl rfl)
theorem dX5_readCredit_94 : decode cX5_readCredit 94 = .ok (.iastore, 1) := dk_79 (dk_at dksX5_readCredit_4 3 rfl rfl)
theorem dX5_readCredit_95 : decode cX5_readCredit 95 = .ok (.aload_n 0, 1) := dk_42 (dk_at dksX5_readCredit_4 4 rfl rfl)
theorem dX5_readCredit_96 : decode cX5_readCredit 96 = .ok (.getfield 20, 3) := dk_180 0 20 (dk_at dksX5_readCredit_4 5 rfl rfl)
theorem dX5_readCredit_99 : decode cX5_readCredit 99 = .ok (.iload_n 2, 1) := dk_28 (dk_at dksX5_readCredit_4 8 rfl rfl)
theorem dX5_readCredit_100 : decode cX5_readCredit 100 = .ok (.iconst 4, 1) := dk_7 (dk_at dksX5_readCredit_4 9 rfl rfl)
theorem dX5_readCredit_101 : decode cX5_readCredit 101 = .ok (.iadd, 1) := dk_96 (dk_at dksX5_readCredit_4 10 rfl rfl)
theorem dX5_readCredit_102 : decode cX5_readCredit 102 = .ok (.aload_n 0, 1) := dk_42 (dk_at dksX5_readCredit_4 11 rfl rfl)
theorem dX5_readCredit_103 : decode cX5_readCredit 103 = .ok (.iconst 0, 1) := dk_3 (dk_at dksX5_readCredit_4 12 rfl rfl)
theorem dX5_readCredit_104 : decode cX5_readCredit 104 = .ok (.sipush 999, 3) := dk_17 3 231 (dk_at dksX5_readCredit_4 13 rfl rfl)
theorem dX5_readCredit_107 : decode cX5_readCredit 107 = .ok (.invokevirtual 111, 3) := dk_182 0 111 (dk_at dksX5_readCredit_4 16 rfl rfl)
theorem dX5_readCredit_110 : decode cX5_readCredit 110 = .ok (.iastore, 1) := dk_79 (dk_at dksX5_readCredit_4 19 rfl rfl)
theorem dX5_readCredit_111 : decode cX5_readCredit 111 = .ok (.aload_n 0, 1) := dk_42 (dk_at dksX5_readCredit_4 20 rfl rfl)
theorem dX5_readCredit_112 : decode cX5_readCredit 112 = .ok (.getfield 20, 3) := dk_180 0 20 (dk_at dksX5_readCredit_4 21 rfl rfl)
theorem dX5_readCredit_115 : decode cX5_readCredit 115 = .ok (.iload_n 2, 1) := dk_28 (dk_at dksX5_readCredit_5 0 rfl rfl)
theorem dX5_readCredit_116 : decode cX5_readCredit 116 = .ok (.iconst 5, 1) := dk_8 (dk_at dksX5_readCredit_5 1 rfl rfl)
theorem dX5_readCredit_117 : decode cX5_readCredit 117 = .ok (.iadd, 1) := dk_96 (dk_at dksX5_readCredit_5 2 rfl rfl)
theorem dX5_readCredit_118 : decode cX5_readCredit 118 = .ok (.aload_n 0, 1) := dk_42 (dk_at dksX5_readCredit_5 3 rfl rfl)
theorem dX5_readCredit_119 : decode cX5_readCredit 119 = .ok (.iconst 1, 1) := dk_4 (dk_at dksX5_readCredit_5 4 rfl rfl)
theorem dX5_readCredit_120 : decode cX5_readCredit 120 = .ok (.bipush 60, 2) := dk_16 60 (dk_at dksX5_readCredit_5 5 rfl rfl)
theorem dX5_readCredit_122 : decode cX5_readCredit 122 = .ok (.invokevirtual 111, 3) := dk_182 0 111 (dk_at dksX5_readCredit_5 7 rfl rfl)
theorem dX5_readCredit_125 : decode cX5_readCredit 125 = .ok (.iastore, 1) := dk_79 (dk_at dksX5_readCredit_5 10 rfl rfl)
theorem dX5_readCredit_126 : decode cX5_readCredit 126 = .ok (.aload_n 0, 1) := dk_42 (dk_at dksX5_readCredit_5 11 rfl rfl)
theorem dX5_readCredit_127 : decode cX5_readCredit 127 = .ok (.getfield 20, 3) := dk_180 0 20 (dk_at dksX5_readCredit_5 12 rfl rfl)
theorem dX5_readCredit_130 : decode cX5_readCredit 130 = .ok (.iload_n 2, 1) := dk_28 (dk_at dksX5_readCredit_5 15 rfl rfl)
theorem dX5_readCredit_131 : decode cX5_readCredit 131 = .ok (.bipush 6, 2) := dk_16 6 (dk_at dksX5_readCredit_5 16 rfl rfl)
theorem dX5_readCredit_133 : decode cX5_readCredit 133 = .ok (.iadd, 1) := dk_96 (dk_at dksX5_readCredit_5 18 rfl rfl)
theorem dX5_readCredit_134 : decode cX5_readCredit 134 = .ok (.aload_n 0, 1) := dk_42 (dk_at dksX5_readCredit_5 19 rfl rfl)
theorem dX5_readCredit_135 : decode cX5_readCredit 135 = .ok (.iconst 0, 1) := dk_3 (dk_at dksX5_readCredit_5 20 rfl rfl)
theorem dX5_readCredit_136 : decode cX5_readCredit 136 = .ok (.sipush 180, 3) := dk_17 0 180 (dk_at dksX5_readCredit_5 21 rfl rfl)
theorem dX5_readCredit_139 : decode cX5_readCredit 139 = .ok (.invokevirtual 111, 3) := dk_182 0 111 (dk_at dksX5_readCredit_6 0 rfl rfl)
theorem dX5_readCredit_142 : decode cX5_readCredit 142 = .ok (.iastore, 1) := dk_79 (dk_at dksX5_readCredit_6 3 rfl rfl)
theorem dX5_readCredit_143 : decode cX5_readCredit 143 = .ok (.aload_n 0, 1) := dk_42 (dk_at dksX5_readCredit_6 4 rfl rfl)
theorem dX5_readCredit_144 : decode cX5_readCredit 144 = .ok (.getfield 20, 3) := dk_180 0 20 (dk_at dksX5_readCredit_6 5 rfl rfl)
theorem dX5_readCredit_147 : decode cX5_readCredit 147 = .ok (.iload_n 2, 1) := dk_28 (dk_at dksX5_readCredit_6 8 rfl rfl)
theorem dX5_readCredit_148 : decode cX5_readCredit 148 = .ok (.bipush 7, 2) := dk_16 7 (dk_at dksX5_readCredit_6 9 rfl rfl)
theorem dX5_readCredit_150 : decode cX5_readCredit 150 = .ok (.iadd, 1) := dk_96 (dk_at dksX5_readCredit_6 11 rfl rfl)
theorem dX5_readCredit_151 : decode cX5_readCredit 151 = .ok (.aload_n 0, 1) := dk_42 (dk_at dksX5_readCredit_6 12 rfl rfl)
theorem dX5_readCredit_152 : decode cX5_readCredit 152 = .ok (.ldc 130, 2) := dk_18 130 (dk_at dksX5_readCredit_6 13 rfl rfl)
theorem dX5_readCredit_154 : decode cX5_readCredit 154 = .ok (.invokevirtual 103, 3) := dk_182 0 103 (dk_at dksX5_readCredit_6 15 rfl rfl)
theorem dX5_readCredit_157 : decode cX5_readCredit 157 = .ok (.ifCond .eq 7, 3) := dk_153 0 7 (dk_at dksX5_readCredit_6 18 rfl rfl)
theorem dX5_readCredit_160 : decode cX5_readCredit 160 = .ok (.iconst 1, 1) := dk_4 (dk_at dksX5_readCredit_6 21 rfl rfl)
theorem dX5_readCredit_161 : decode cX5_readCredit 161 = .ok (.goto 4, 3) := dk_167 0 4 (dk_at dksX5_readCredit_7 0 rfl rfl)
theorem dX5_readCredit_164 : decode cX5_readCredit 164 = .ok (.iconst 0, 1) := dk_3 (dk_at dksX5_readCredit_7 3 rfl rfl)
theorem dX5_readCredit_165 : decode cX5_readCredit 165 = .ok (.iastore, 1) := dk_79 (dk_at dksX5_readCredit_7 4 rfl rfl)
theorem dX5_readCredit_166 : decode cX5_readCredit 166 = .ok (.aload_n 0, 1) := dk_42 (dk_at dksX5_readCredit_7 5 rfl rfl)
theorem dX5_readCredit_167 : decode cX5_readCredit 167 = .ok (.getfield 20, 3) := dk_180 0 20 (dk_at dksX5_readCredit_7 6 rfl rfl)
theorem dX5_readCredit_170 : decode cX5_readCredit 170 = .ok (.iload_n 2, 1) := dk_28 (dk_at dksX5_readCredit_7 9 rfl rfl)
theorem dX5_readCredit_171 : decode cX5_readCredit 171 = .ok (.bipush 8, 2) := dk_16 8 (dk_at dksX5_readCredit_7 10 rfl rfl)
theorem dX5_readCredit_173 : decode cX5_readCredit 173 = .ok (.iadd, 1) := dk_96 (dk_at dksX5_readCredit_7 12 rfl rfl)
theorem dX5_readCredit_174 : decode cX5_readCredit 174 = .ok (.aload_n 0, 1) := dk_42 (dk_at dksX5_readCredit_7 13 rfl rfl)
theorem dX5_readCredit_175 : decode cX5_readCredit 175 = .ok (.ldc 132, 2) := dk_18 132 (dk_at dksX5_readCredit_7 14 rfl rfl)
theorem dX5_readCredit_177 : decode cX5_readCredit 177 = .ok (.invokevirtual 103, 3) := dk_182 0 103 (dk_at dksX5_readCredit_7 16 rfl rfl)
theorem dX5_readCredit_180 : decode cX5_readCredit 180 = .ok (.ifCond .eq 7, 3) := dk_153 0 7 (dk_at dksX5_readCredit_7 19 rfl rfl)
theorem dX5_readCredit_183 : decode cX5_readCredit 183 = .ok (.iconst 1, 1) := dk_4 (dk_at dksX5_readCredit_7 22 rfl rfl)
theorem dX5_readCredit_184 : decode cX5_readCredit 184 = .ok (.goto 4, 3) := dk_167 0 4 (dk_at dksX5_readCredit_8 0 rfl rfl)
theorem dX5_readCredit_187 : decode cX5_readCredit 187 = .ok (.iconst 0, 1) := dk_3 (dk_at dksX5_readCredit_8 3 rfl rfl)
theorem dX5_readCredit_188 : decode cX5_readCredit 188 = .ok (.iastore, 1) := dk_79 (dk_at dksX5_readCredit_8 4 rfl rfl)
theorem dX5_readCredit_189 : decode cX5_readCredit 189 = .ok (.aload_n 0, 1) := dk_42 (dk_at dksX5_readCredit_8 5 rfl rfl)
theorem dX5_readCredit_190 : decode cX5_readCredit 190 = .ok (.getfield 20, 3) := dk_180 0 20 (dk_at dksX5_readCredit_8 6 rfl rfl)
theorem dX5_readCredit_193 : decode cX5_readCredit 193 = .ok (.iload_n 2, 1) := dk_28 (dk_at dksX5_readCredit_8 9 rfl rfl)
theorem dX5_readCredit_194 : decode cX5_readCredit 194 = .ok (.bipush 9, 2) := dk_16 9 (dk_at dksX5_readCredit_8 10 rfl rfl)
theorem dX5_readCredit_196 : decode cX5_readCredit 196 = .ok (.iadd, 1) := dk_96 (dk_at dksX5_readCredit_8 12 rfl rfl)
theorem dX5_readCredit_197 : decode cX5_readCredit 197 = .ok (.iconst 0, 1) := dk_3 (dk_at dksX5_readCredit_8 13 rfl rfl)
theorem dX5_readCredit_198 : decode cX5_readCredit 198 = .ok (.iastore, 1) := dk_79 (dk_at dksX5_readCredit_8 14 rfl rfl)
theorem dX5_readCredit_199 : decode cX5_readCredit 199 = .ok (.aload_n 0, 1) := dk_42 (dk_at dksX5_readCredit_8 15 rfl rfl)
theorem dX5_readCredit_200 : decode cX5_readCredit 200 = .ok (.getfield 20, 3) := dk_180 0 20 (dk_at dksX5_readCredit_8 16 rfl rfl)
theorem dX5_readCredit_203 : decode cX5_readCredit 203 = .ok (.iload_n 2, 1) := dk_28 (dk_at dksX5_readCredit_8 19 rfl rfl)
theorem dX5_readCredit_204 : decode cX5_readCredit 204 = .ok (.bipush 10, 2) := dk_16 10 (dk_at dksX5_readCredit_8 20 rfl rfl)
theorem dX5_readCredit_206 : decode cX5_readCredit 206 = .ok (.iadd, 1) := dk_96 (dk_at dksX5_readCredit_8 22 rfl rfl)
theorem dX5_readCredit_207 : decode cX5_readCredit 207 = .ok (.iconst (-1), 1) := dk_2 (dk_at dksX5_readCredit_8 23 rfl rfl)
theorem dX5_readCredit_208 : decode cX5_readCredit 208 = .ok (.iastore, 1) := dk_79 (dk_at dksX5_readCredit_9 0 rfl rfl)
theorem dX5_readCredit_209 : decode cX5_readCredit 209 = .ok (.aload_n 0, 1) := dk_42 (dk_at dksX5_readCredit_9 1 rfl rfl)
theorem dX5_readCredit_210 : decode cX5_readCredit 210 = .ok (.ldc 134, 2) := dk_18 134 (dk_at dksX5_readCredit_9 2 rfl rfl)
theorem dX5_readCredit_212 : decode cX5_readCredit 212 = .ok (.invokevirtual 103, 3) := dk_182 0 103 (dk_at dksX5_readCredit_9 4 rfl rfl)
theorem dX5_readCredit_215 : decode cX5_readCredit 215 = .ok (.ifCond .eq 11, 3) := dk_153 0 11 (dk_at dksX5_readCredit_9 7 rfl rfl)
theorem dX5_readCredit_218 : decode cX5_readCredit 218 = .ok (.aload_n 0, 1) := dk_42 (dk_at dksX5_readCredit_9 10 rfl rfl)
theorem dX5_readCredit_219 : decode cX5_readCredit 219 = .ok (.iload_n 2, 1) := dk_28 (dk_at dksX5_readCredit_9 11 rfl rfl)
theorem dX5_readCredit_220 : decode cX5_readCredit 220 = .ok (.bipush 9, 2) := dk_16 9 (dk_at dksX5_readCredit_9 12 rfl rfl)
theorem dX5_readCredit_222 : decode cX5_readCredit 222 = .ok (.iadd, 1) := dk_96 (dk_at dksX5_readCredit_9 14 rfl rfl)
theorem dX5_readCredit_223 : decode cX5_readCredit 223 = .ok (.invokevirtual 136, 3) := dk_182 0 136 (dk_at dksX5_readCredit_9 15 rfl rfl)
theorem dX5_readCredit_226 : decode cX5_readCredit 226 = .ok (.aload_n 0, 1) := dk_42 (dk_at dksX5_readCredit_9 18 rfl rfl)
theorem dX5_readCredit_227 : decode cX5_readCredit 227 = .ok (.getfield 20, 3) := dk_180 0 20 (dk_at dksX5_readCredit_9 19 rfl rfl)
theorem dX5_readCredit_230 : decode cX5_readCredit 230 = .ok (.iconst 0, 1) := dk_3 (dk_at dksX5_readCredit_9 22 rfl rfl)
theorem dX5_readCredit_231 : decode cX5_readCredit 231 = .ok (.dup2, 1) := dk_92 (dk_at dksX5_readCredit_9 23 rfl rfl)
theorem dX5_readCredit_232 : decode cX5_readCredit 232 = .ok (.iaload, 1) := dk_46 (dk_at dksX5_readCredit_10 0 rfl rfl)
theorem dX5_readCredit_233 : decode cX5_readCredit 233 = .ok (.iconst 1, 1) := dk_4 (dk_at dksX5_readCredit_10 1 rfl rfl)
theorem dX5_readCredit_234 : decode cX5_readCredit 234 = .ok (.iadd, 1) := dk_96 (dk_at dksX5_readCredit_10 2 rfl rfl)
theorem dX5_readCredit_235 : decode cX5_readCredit 235 = .ok (.iastore, 1) := dk_79 (dk_at dksX5_readCredit_10 3 rfl rfl)
theorem dX5_readCredit_236 : decode cX5_readCredit 236 = .ok (.return_, 1) := dk_177 (dk_at dksX5_readCredit_10 4 rfl rfl)
abbrev cX5_credit : ByteArray := prog_14_method_7_code
def yX5_credit : MethodName := ⟨RX5, "credit", "(I)I"⟩
def dkwX5_credit_0 : List UInt8 := [16, 22, 16, 11, 26, 104, 96, 172]
abbrev dktX5_credit_0 : List UInt8 := dkwX5_credit_0 ++ []
theorem dksX5_credit_0 : cX5_credit.data.toList.drop 0 = dktX5_credit_0 := by decide +kernel
theorem dX5_credit_0 : decode cX5_credit 0 = .ok (.bipush 22, 2) := dk_16 22 (dk_at dksX5_credit_0 0 rfl rfl)
theorem dX5_credit_2 : decode cX5_credit 2 = .ok (.bipush 11, 2) := dk_16 11 (dk_at dksX5_credit_0 2 rfl rfl)
theorem dX5_credit_4 : decode cX5_credit 4 = .ok (.iload_n 0, 1) := dk_26 (dk_at dksX5_credit_0 4 rfl rfl)
theorem dX5_credit_5 : decode cX5_credit 5 = .ok (.imul, 1) := dk_104 (dk_at dksX5_credit_0 5 rfl rfl)
theorem dX5_credit_6 : decode cX5_credit 6 = .ok (.iadd, 1) := dk_96 (dk_at dksX5_credit_0 6 rfl rfl)
theorem dX5_credit_7 : decode cX5_credit 7 = .ok (.ireturn, 1) := dk_172 (dk_at dksX5_credit_0 7 rfl rfl)
abbrev cX5_readNeeds : ByteArray := prog_14_method_24_code
def yX5_readNeeds : MethodName := ⟨RX5, "readNeeds", "(I)V"⟩
def dkwX5_readNeeds_2 : List UInt8 := [180, 0, 20, 27, 92, 46, 4, 28, 120, 128, 79, 42, 182, 0, 62, 184, 0, 79, 154, 255, 190, 177]
abbrev dktX5_readNeeds_2 : List UInt8 := dkwX5_readNeeds_2 ++ []
def dkwX5_readNeeds_1 : List UInt8 := [126, 4, 160, 0, 13, 42, 16, 253, 42, 180, 0, 83, 182, 0, 75, 42, 182, 0, 58, 154, 0, 4, 177, 42]
abbrev dktX5_readNeeds_1 : List UInt8 := dkwX5_readNeeds_1 ++ dktX5_readNeeds_2
def dkwX5_readNeeds_0 : List UInt8 := [42, 3, 16, 7, 182, 0, 111, 61, 42, 182, 0, 58, 153, 0, 27, 42, 180, 0, 20, 27, 46, 28, 122, 4]
abbrev dktX5_readNeeds_0 : List UInt8 := dkwX5_readNeeds_0 ++ dktX5_readNeeds_1
theorem dksX5_readNeeds_0 : cX5_readNeeds.data.toList.drop 0 = dktX5_readNeeds_0 := by decide +kernel
theorem dksX5_readNeeds_1 : cX5_readNeeds.data.toList.drop 24 = dktX5_readNeeds_1 := dk_seg dksX5_readNeeds_0 24 rfl rfl
theorem dksX5_readNeeds_2 : cX5_readNeeds.data.toList.drop 48 = dktX5_readNeeds_2 := dk_seg dksX5_readNeeds_1 24 rfl rfl
theorem dX5_readNeeds_0 : decode cX5_readNeeds 0 = .ok (.aload_n 0, 1) := dk_42 (dk_at dksX5_readNeeds_0 0 rfl rfl)
theorem dX5_readNeeds_1 : decode cX5_readNeeds 1 = .ok (.iconst 0, 1) := dk_3 (dk_at dksX5_readNeeds_0 1 rfl rfl)
theorem dX5_readNeeds_2 : decode cX5_readNeeds 2 = .ok (.bipush 7, 2) := dk_16 7 (dk_at dksX5_readNeeds_0 2 rfl rfl)
theorem dX5_readNeeds_4 : decode cX5_readNeeds 4 = .ok (.invokevirtual 111, 3) := dk_182 0 111 (dk_at dksX5_readNeeds_0 4 rfl rfl)
theorem dX5_readNeeds_7 : decode cX5_readNeeds 7 = .ok (.istore_n 2, 1) := dk_61 (dk_at dksX5_readNeeds_0 7 rfl rfl)
theorem dX5_readNeeds_8 : decode cX5_readNeeds 8 = .ok (.aload_n 0, 1) := dk_42 (dk_at dksX5_readNeeds_0 8 rfl rfl)
theorem dX5_readNeeds_9 : decode cX5_readNeeds 9 = .ok (.invokevirtual 58, 3) := dk_182 0 58 (dk_at dksX5_readNeeds_0 9 rfl rfl)
theorem dX5_readNeeds_12 : decode cX5_readNeeds 12 = .ok (.ifCond .eq 27, 3) := dk_153 0 27 (dk_at dksX5_readNeeds_0 12 rfl rfl)
theorem dX5_readNeeds_15 : decode cX5_readNeeds 15 = .ok (.aload_n 0, 1) := dk_42 (dk_at dksX5_readNeeds_0 15 rfl rfl)
theorem dX5_readNeeds_16 : decode cX5_readNeeds 16 = .ok (.getfield 20, 3) := dk_180 0 20 (dk_at dksX5_readNeeds_0 16 rfl rfl)
theorem dX5_readNeeds_19 : decode cX5_readNeeds 19 = .ok (.iload_n 1, 1) := dk_27 (dk_at dksX5_readNeeds_0 19 rfl rfl)
theorem dX5_readNeeds_20 : decode cX5_readNeeds 20 = .ok (.iaload, 1) := dk_46 (dk_at dksX5_readNeeds_0 20 rfl rfl)
theorem dX5_readNeeds_21 : decode cX5_readNeeds 21 = .ok (.iload_n 2, 1) := dk_28 (dk_at dksX5_readNeeds_0 21 rfl rfl)
theorem dX5_readNeeds_22 : decode cX5_readNeeds 22 = .ok (.ishr, 1) := dk_122 (dk_at dksX5_readNeeds_0 22 rfl rfl)
theorem dX5_readNeeds_23 : decode cX5_readNeeds 23 = .ok (.iconst 1, 1) := dk_4 (dk_at dksX5_readNeeds_0 23 rfl rfl)
theorem dX5_readNeeds_24 : decode cX5_readNeeds 24 = .ok (.iand, 1) := dk_126 (dk_at dksX5_readNeeds_1 0 rfl rfl)
theorem dX5_readNeeds_25 : decode cX5_readNeeds 25 = .ok (.iconst 1, 1) := dk_4 (dk_at dksX5_readNeeds_1 1 rfl rfl)
theorem dX5_readNeeds_26 : decode cX5_readNeeds 26 = .ok (.if_icmp .ne 13, 3) := dk_160 0 13 (dk_at dksX5_readNeeds_1 2 rfl rfl)
theorem dX5_readNeeds_29 : decode cX5_readNeeds 29 = .ok (.aload_n 0, 1) := dk_42 (dk_at dksX5_readNeeds_1 5 rfl rfl)
theorem dX5_readNeeds_30 : decode cX5_readNeeds 30 = .ok (.bipush (-3), 2) := dk_16 253 (dk_at dksX5_readNeeds_1 6 rfl rfl)
theorem dX5_readNeeds_32 : decode cX5_readNeeds 32 = .ok (.aload_n 0, 1) := dk_42 (dk_at dksX5_readNeeds_1 8 rfl rfl)
theorem dX5_readNeeds_33 : decode cX5_readNeeds 33 = .ok (.getfield 83, 3) := dk_180 0 83 (dk_at dksX5_readNeeds_1 9 rfl rfl)
theorem dX5_readNeeds_36 : decode cX5_readNeeds 36 = .ok (.invokevirtual 75, 3) := dk_182 0 75 (dk_at dksX5_readNeeds_1 12 rfl rfl)
theorem dX5_readNeeds_39 : decode cX5_readNeeds 39 = .ok (.aload_n 0, 1) := dk_42 (dk_at dksX5_readNeeds_1 15 rfl rfl)
theorem dX5_readNeeds_40 : decode cX5_readNeeds 40 = .ok (.invokevirtual 58, 3) := dk_182 0 58 (dk_at dksX5_readNeeds_1 16 rfl rfl)
theorem dX5_readNeeds_43 : decode cX5_readNeeds 43 = .ok (.ifCond .ne 4, 3) := dk_154 0 4 (dk_at dksX5_readNeeds_1 19 rfl rfl)
theorem dX5_readNeeds_46 : decode cX5_readNeeds 46 = .ok (.return_, 1) := dk_177 (dk_at dksX5_readNeeds_1 22 rfl rfl)
theorem dX5_readNeeds_47 : decode cX5_readNeeds 47 = .ok (.aload_n 0, 1) := dk_42 (dk_at dksX5_readNeeds_1 23 rfl rfl)
theorem dX5_readNeeds_48 : decode cX5_readNeeds 48 = .ok (.getfield 20, 3) := dk_180 0 20 (dk_at dksX5_readNeeds_2 0 rfl rfl)
theorem dX5_readNeeds_51 : decode cX5_readNeeds 51 = .ok (.iload_n 1, 1) := dk_27 (dk_at dksX5_readNeeds_2 3 rfl rfl)
theorem dX5_readNeeds_52 : decode cX5_readNeeds 52 = .ok (.dup2, 1) := dk_92 (dk_at dksX5_readNeeds_2 4 rfl rfl)
theorem dX5_readNeeds_53 : decode cX5_readNeeds 53 = .ok (.iaload, 1) := dk_46 (dk_at dksX5_readNeeds_2 5 rfl rfl)
theorem dX5_readNeeds_54 : decode cX5_readNeeds 54 = .ok (.iconst 1, 1) := dk_4 (dk_at dksX5_readNeeds_2 6 rfl rfl)
theorem dX5_readNeeds_55 : decode cX5_readNeeds 55 = .ok (.iload_n 2, 1) := dk_28 (dk_at dksX5_readNeeds_2 7 rfl rfl)
theorem dX5_readNeeds_56 : decode cX5_readNeeds 56 = .ok (.ishl, 1) := dk_120 (dk_at dksX5_readNeeds_2 8 rfl rfl)
theorem dX5_readNeeds_57 : decode cX5_readNeeds 57 = .ok (.ior, 1) := dk_128 (dk_at dksX5_readNeeds_2 9 rfl rfl)
theorem dX5_readNeeds_58 : decode cX5_readNeeds 58 = .ok (.iastore, 1) := dk_79 (dk_at dksX5_readNeeds_2 10 rfl rfl)
theorem dX5_readNeeds_59 : decode cX5_readNeeds 59 = .ok (.aload_n 0, 1) := dk_42 (dk_at dksX5_readNeeds_2 11 rfl rfl)
theorem dX5_readNeeds_60 : decode cX5_readNeeds 60 = .ok (.invokevirtual 62, 3) := dk_182 0 62 (dk_at dksX5_readNeeds_2 12 rfl rfl)
theorem dX5_readNeeds_63 : decode cX5_readNeeds 63 = .ok (.invokestatic 79, 3) := dk_184 0 79 (dk_at dksX5_readNeeds_2 15 rfl rfl)
theorem dX5_readNeeds_66 : decode cX5_readNeeds 66 = .ok (.ifCond .ne (-66), 3) := dk_154 255 190 (dk_at dksX5_readNeeds_2 18 rfl rfl)
theorem dX5_readNeeds_69 : decode cX5_readNeeds 69 = .ok (.return_, 1) := dk_177 (dk_at dksX5_readNeeds_2 21 rfl rfl)
abbrev cX5_once : ByteArray := prog_14_method_22_code
def yX5_once : MethodName := ⟨RX5, "once", "(II)V"⟩
def dkwX5_once_1 : List UInt8 := [4, 27, 120, 128, 181, 0, 123, 177]
abbrev dktX5_once_1 : List UInt8 := dkwX5_once_1 ++ []
def dkwX5_once_0 : List UInt8 := [42, 180, 0, 123, 27, 122, 4, 126, 4, 160, 0, 10, 42, 16, 254, 28, 182, 0, 75, 42, 89, 180, 0, 123]
abbrev dktX5_once_0 : List UInt8 := dkwX5_once_0 ++ dktX5_once_1
theorem dksX5_once_0 : cX5_once.data.toList.drop 0 = dktX5_once_0 := by decide +kernel
theorem dksX5_once_1 : cX5_once.data.toList.drop 24 = dktX5_once_1 := dk_seg dksX5_once_0 24 rfl rfl
theorem dX5_once_0 : decode cX5_once 0 = .ok (.aload_n 0, 1) := dk_42 (dk_at dksX5_once_0 0 rfl rfl)
theorem dX5_once_1 : decode cX5_once 1 = .ok (.getfield 123, 3) := dk_180 0 123 (dk_at dksX5_once_0 1 rfl rfl)
theorem dX5_once_4 : decode cX5_once 4 = .ok (.iload_n 1, 1) := dk_27 (dk_at dksX5_once_0 4 rfl rfl)
theorem dX5_once_5 : decode cX5_once 5 = .ok (.ishr, 1) := dk_122 (dk_at dksX5_once_0 5 rfl rfl)
theorem dX5_once_6 : decode cX5_once 6 = .ok (.iconst 1, 1) := dk_4 (dk_at dksX5_once_0 6 rfl rfl)
theorem dX5_once_7 : decode cX5_once 7 = .ok (.iand, 1) := dk_126 (dk_at dksX5_once_0 7 rfl rfl)
theorem dX5_once_8 : decode cX5_once 8 = .ok (.iconst 1, 1) := dk_4 (dk_at dksX5_once_0 8 rfl rfl)
theorem dX5_once_9 : decode cX5_once 9 = .ok (.if_icmp .ne 10, 3) := dk_160 0 10 (dk_at dksX5_once_0 9 rfl rfl)
theorem dX5_once_12 : decode cX5_once 12 = .ok (.aload_n 0, 1) := dk_42 (dk_at dksX5_once_0 12 rfl rfl)
theorem dX5_once_13 : decode cX5_once 13 = .ok (.bipush (-2), 2) := dk_16 254 (dk_at dksX5_once_0 13 rfl rfl)
theorem dX5_once_15 : decode cX5_once 15 = .ok (.iload_n 2, 1) := dk_28 (dk_at dksX5_once_0 15 rfl rfl)
theorem dX5_once_16 : decode cX5_once 16 = .ok (.invokevirtual 75, 3) := dk_182 0 75 (dk_at dksX5_once_0 16 rfl rfl)
theorem dX5_once_19 : decode cX5_once 19 = .ok (.aload_n 0, 1) := dk_42 (dk_at dksX5_once_0 19 rfl rfl)
theorem dX5_once_20 : decode cX5_once 20 = .ok (.dup, 1) := dk_89 (dk_at dksX5_once_0 20 rfl rfl)
theorem dX5_once_21 : decode cX5_once 21 = .ok (.getfield 123, 3) := dk_180 0 123 (dk_at dksX5_once_0 21 rfl rfl)
theorem dX5_once_24 : decode cX5_once 24 = .ok (.iconst 1, 1) := dk_4 (dk_at dksX5_once_1 0 rfl rfl)
theorem dX5_once_25 : decode cX5_once 25 = .ok (.iload_n 1, 1) := dk_27 (dk_at dksX5_once_1 1 rfl rfl)
theorem dX5_once_26 : decode cX5_once 26 = .ok (.ishl, 1) := dk_120 (dk_at dksX5_once_1 2 rfl rfl)
theorem dX5_once_27 : decode cX5_once 27 = .ok (.ior, 1) := dk_128 (dk_at dksX5_once_1 3 rfl rfl)
theorem dX5_once_28 : decode cX5_once 28 = .ok (.putfield 123, 3) := dk_181 0 123 (dk_at dksX5_once_1 4 rfl rfl)
theorem dX5_once_31 : decode cX5_once 31 = .ok (.return_, 1) := dk_177 (dk_at dksX5_once_1 7 rfl rfl)
abbrev cX5_sum : ByteArray := prog_14_method_21_code
def yX5_sum : MethodName := ⟨RX5, "sum", "()V"⟩
def dkwX5_sum_3 : List UInt8 := [182, 0, 114, 167, 255, 189, 177]
abbrev dktX5_sum_3 : List UInt8 := dkwX5_sum_3 ++ []
def dkwX5_sum_2 : List UInt8 := [180, 0, 41, 4, 96, 181, 0, 41, 42, 182, 0, 120, 42, 27, 153, 0, 7, 5, 167, 0, 4, 6]
abbrev dktX5_sum_2 : List UInt8 := dkwX5_sum_2 ++ dktX5_sum_3
def dkwX5_sum_1 : List UInt8 := [16, 45, 160, 0, 48, 42, 182, 0, 62, 16, 43, 160, 0, 7, 4, 167, 0, 4, 3, 60, 42, 89]
abbrev dktX5_sum_1 : List UInt8 := dkwX5_sum_1 ++ dktX5_sum_2
def dkwX5_sum_0 : List UInt8 := [42, 182, 0, 120, 42, 182, 0, 58, 153, 0, 66, 42, 182, 0, 62, 16, 43, 159, 0, 12, 42, 182, 0, 62]
abbrev dktX5_sum_0 : List UInt8 := dkwX5_sum_0 ++ dktX5_sum_1
theorem dksX5_sum_0 : cX5_sum.data.toList.drop 0 = dktX5_sum_0 := by decide +kernel
theorem dksX5_sum_1 : cX5_sum.data.toList.drop 24 = dktX5_sum_1 := dk_seg dksX5_sum_0 24 rfl rfl
theorem dksX5_sum_2 : cX5_sum.data.toList.drop 46 = dktX5_sum_2 := dk_seg dksX5_sum_1 22 rfl rfl
theorem dksX5_sum_3 : cX5_sum.data.toList.drop 68 = dktX5_sum_3 := dk_seg dksX5_sum_2 22 rfl rfl
theorem dX5_sum_0 : decode cX5_sum 0 = .ok (.aload_n 0, 1) := dk_42 (dk_at dksX5_sum_0 0 rfl rfl)
theorem dX5_sum_1 : decode cX5_sum 1 = .ok (.invokevirtual 120, 3) := dk_182 0 120 (dk_at dksX5_sum_0 1 rfl rfl)
theorem dX5_sum_4 : decode cX5_sum 4 = .ok (.aload_n 0, 1) := dk_42 (dk_at dksX5_sum_0 4 rfl rfl)
theorem dX5_sum_5 : decode cX5_sum 5 = .ok (.invokevirtual 58, 3) := dk_182 0 58 (dk_at dksX5_sum_0 5 rfl rfl)
theorem dX5_sum_8 : decode cX5_sum 8 = .ok (.ifCond .eq 66, 3) := dk_153 0 66 (dk_at dksX5_sum_0 8 rfl rfl)
theorem dX5_sum_11 : decode cX5_sum 11 = .ok (.aload_n 0, 1) := dk_42 (dk_at dksX5_sum_0 11 rfl rfl)
theorem dX5_sum_12 : decode cX5_sum 12 = .ok (.invokevirtual 62, 3) := dk_182 0 62 (dk_at dksX5_sum_0 12 rfl rfl)
theorem dX5_sum_15 : decode cX5_sum 15 = .ok (.bipush 43, 2) := dk_16 43 (dk_at dksX5_sum_0 15 rfl rfl)
theorem dX5_sum_17 : decode cX5_sum 17 = .ok (.if_icmp .eq 12, 3) := dk_159 0 12 (dk_at dksX5_sum_0 17 rfl rfl)
theorem dX5_sum_20 : decode cX5_sum 20 = .ok (.aload_n 0, 1) := dk_42 (dk_at dksX5_sum_0 20 rfl rfl)
theorem dX5_sum_21 : decode cX5_sum 21 = .ok (.invokevirtual 62, 3) := dk_182 0 62 (dk_at dksX5_sum_0 21 rfl rfl)
theorem dX5_sum_24 : decode cX5_sum 24 = .ok (.bipush 45, 2) := dk_16 45 (dk_at dksX5_sum_1 0 rfl rfl)
theorem dX5_sum_26 : decode cX5_sum 26 = .ok (.if_icmp .ne 48, 3) := dk_160 0 48 (dk_at dksX5_sum_1 2 rfl rfl)
theorem dX5_sum_29 : decode cX5_sum 29 = .ok (.aload_n 0, 1) := dk_42 (dk_at dksX5_sum_1 5 rfl rfl)
theorem dX5_sum_30 : decode cX5_sum 30 = .ok (.invokevirtual 62, 3) := dk_182 0 62 (dk_at dksX5_sum_1 6 rfl rfl)
theorem dX5_sum_33 : decode cX5_sum 33 = .ok (.bipush 43, 2) := dk_16 43 (dk_at dksX5_sum_1 9 rfl rfl)
theorem dX5_sum_35 : decode cX5_sum 35 = .ok (.if_icmp .ne 7, 3) := dk_160 0 7 (dk_at dksX5_sum_1 11 rfl rfl)
theorem dX5_sum_38 : decode cX5_sum 38 = .ok (.iconst 1, 1) := dk_4 (dk_at dksX5_sum_1 14 rfl rfl)
theorem dX5_sum_39 : decode cX5_sum 39 = .ok (.goto 4, 3) := dk_167 0 4 (dk_at dksX5_sum_1 15 rfl rfl)
theorem dX5_sum_42 : decode cX5_sum 42 = .ok (.iconst 0, 1) := dk_3 (dk_at dksX5_sum_1 18 rfl rfl)
theorem dX5_sum_43 : decode cX5_sum 43 = .ok (.istore_n 1, 1) := dk_60 (dk_at dksX5_sum_1 19 rfl rfl)
theorem dX5_sum_44 : decode cX5_sum 44 = .ok (.aload_n 0, 1) := dk_42 (dk_at dksX5_sum_1 20 rfl rfl)
theorem dX5_sum_45 : decode cX5_sum 45 = .ok (.dup, 1) := dk_89 (dk_at dksX5_sum_1 21 rfl rfl)
theorem dX5_sum_46 : decode cX5_sum 46 = .ok (.getfield 41, 3) := dk_180 0 41 (dk_at dksX5_sum_2 0 rfl rfl)
theorem dX5_sum_49 : decode cX5_sum 49 = .ok (.iconst 1, 1) := dk_4 (dk_at dksX5_sum_2 3 rfl rfl)
theorem dX5_sum_50 : decode cX5_sum 50 = .ok (.iadd, 1) := dk_96 (dk_at dksX5_sum_2 4 rfl rfl)
theorem dX5_sum_51 : decode cX5_sum 51 = .ok (.putfield 41, 3) := dk_181 0 41 (dk_at dksX5_sum_2 5 rfl rfl)
theorem dX5_sum_54 : decode cX5_sum 54 = .ok (.aload_n 0, 1) := dk_42 (dk_at dksX5_sum_2 8 rfl rfl)
theorem dX5_sum_55 : decode cX5_sum 55 = .ok (.invokevirtual 120, 3) := dk_182 0 120 (dk_at dksX5_sum_2 9 rfl rfl)
theorem dX5_sum_58 : decode cX5_sum 58 = .ok (.aload_n 0, 1) := dk_42 (dk_at dksX5_sum_2 12 rfl rfl)
theorem dX5_sum_59 : decode cX5_sum 59 = .ok (.iload_n 1, 1) := dk_27 (dk_at dksX5_sum_2 13 rfl rfl)
theorem dX5_sum_60 : decode cX5_sum 60 = .ok (.ifCond .eq 7, 3) := dk_153 0 7 (dk_at dksX5_sum_2 14 rfl rfl)
theorem dX5_sum_63 : decode cX5_sum 63 = .ok (.iconst 2, 1) := dk_5 (dk_at dksX5_sum_2 17 rfl rfl)
theorem dX5_sum_64 : decode cX5_sum 64 = .ok (.goto 4, 3) := dk_167 0 4 (dk_at dksX5_sum_2 18 rfl rfl)
theorem dX5_sum_67 : decode cX5_sum 67 = .ok (.iconst 3, 1) := dk_6 (dk_at dksX5_sum_2 21 rfl rfl)
theorem dX5_sum_68 : decode cX5_sum 68 = .ok (.invokevirtual 114, 3) := dk_182 0 114 (dk_at dksX5_sum_3 0 rfl rfl)
theorem dX5_sum_71 : decode cX5_sum 71 = .ok (.goto (-67), 3) := dk_167 255 189 (dk_at dksX5_sum_3 3 rfl rfl)
theorem dX5_sum_74 : decode cX5_sum 74 = .ok (.return_, 1) := dk_177 (dk_at dksX5_sum_3 6 rfl rfl)
abbrev cX5_term : ByteArray := prog_14_method_20_code
def yX5_term : MethodName := ⟨RX5, "term", "()V"⟩
def dkwX5_term_3 : List UInt8 := [182, 0, 114, 167, 255, 189, 177]
abbrev dktX5_term_3 : List UInt8 := dkwX5_term_3 ++ []
def dkwX5_term_2 : List UInt8 := [180, 0, 41, 4, 96, 181, 0, 41, 42, 182, 0, 117, 42, 27, 153, 0, 7, 7, 167, 0, 4, 8]
abbrev dktX5_term_2 : List UInt8 := dkwX5_term_2 ++ dktX5_term_3
def dkwX5_term_1 : List UInt8 := [16, 47, 160, 0, 48, 42, 182, 0, 62, 16, 42, 160, 0, 7, 4, 167, 0, 4, 3, 60, 42, 89]
abbrev dktX5_term_1 : List UInt8 := dkwX5_term_1 ++ dktX5_term_2
def dkwX5_term_0 : List UInt8 := [42, 182, 0, 117, 42, 182, 0, 58, 153, 0, 66, 42, 182, 0, 62, 16, 42, 159, 0, 12, 42, 182, 0, 62]
abbrev dktX5_term_0 : List UInt8 := dkwX5_term_0 ++ dktX5_term_1
theorem dksX5_term_0 : cX5_term.data.toList.drop 0 = dktX5_term_0 := by decide +kernel
theorem dksX5_term_1 : cX5_term.data.toList.drop 24 = dktX5_term_1 := dk_seg dksX5_term_0 24 rfl rfl
theorem dksX5_term_2 : cX5_term.data.toList.drop 46 = dktX5_term_2 := dk_seg dksX5_term_1 22 rfl rfl
theorem dksX5_term_3 : cX5_term.data.toList.drop 68 = dktX5_term_3 := dk_seg dksX5_term_2 22 rfl rfl
theorem dX5_term_0 : decode cX5_term 0 = .ok (.aload_n 0, 1) := dk_42 (dk_at dksX5_term_0 0 rfl rfl)
theorem dX5_term_1 : decode cX5_term 1 = .ok (.invokevirtual 117, 3) := dk_182 0 117 (dk_at dksX5_term_0 1 rfl rfl)
theorem dX5_term_4 : decode cX5_term 4 = .ok (.aload_n 0, 1) := dk_42 (dk_at dksX5_term_0 4 rfl rfl)
theorem dX5_term_5 : decode cX5_term 5 = .ok (.invokevirtual 58, 3) := dk_182 0 58 (dk_at dksX5_term_0 5 rfl rfl)
theorem dX5_term_8 : decode cX5_term 8 = .ok (.ifCond .eq 66, 3) := dk_153 0 66 (dk_at dksX5_term_0 8 rfl rfl)
theorem dX5_term_11 : decode cX5_term 11 = .ok (.aload_n 0, 1) := dk_42 (dk_at dksX5_term_0 11 rfl rfl)
theorem dX5_term_12 : decode cX5_term 12 = .ok (.invokevirtual 62, 3) := dk_182 0 62 (dk_at dksX5_term_0 12 rfl rfl)
theorem dX5_term_15 : decode cX5_term 15 = .ok (.bipush 42, 2) := dk_16 42 (dk_at dksX5_term_0 15 rfl rfl)
theorem dX5_term_17 : decode cX5_term 17 = .ok (.if_icmp .eq 12, 3) := dk_159 0 12 (dk_at dksX5_term_0 17 rfl rfl)
theorem dX5_term_20 : decode cX5_term 20 = .ok (.aload_n 0, 1) := dk_42 (dk_at dksX5_term_0 20 rfl rfl)
theorem dX5_term_21 : decode cX5_term 21 = .ok (.invokevirtual 62, 3) := dk_182 0 62 (dk_at dksX5_term_0 21 rfl rfl)
theorem dX5_term_24 : decode cX5_term 24 = .ok (.bipush 47, 2) := dk_16 47 (dk_at dksX5_term_1 0 rfl rfl)
theorem dX5_term_26 : decode cX5_term 26 = .ok (.if_icmp .ne 48, 3) := dk_160 0 48 (dk_at dksX5_term_1 2 rfl rfl)
theorem dX5_term_29 : decode cX5_term 29 = .ok (.aload_n 0, 1) := dk_42 (dk_at dksX5_term_1 5 rfl rfl)
theorem dX5_term_30 : decode cX5_term 30 = .ok (.invokevirtual 62, 3) := dk_182 0 62 (dk_at dksX5_term_1 6 rfl rfl)
theorem dX5_term_33 : decode cX5_term 33 = .ok (.bipush 42, 2) := dk_16 42 (dk_at dksX5_term_1 9 rfl rfl)
theorem dX5_term_35 : decode cX5_term 35 = .ok (.if_icmp .ne 7, 3) := dk_160 0 7 (dk_at dksX5_term_1 11 rfl rfl)
theorem dX5_term_38 : decode cX5_term 38 = .ok (.iconst 1, 1) := dk_4 (dk_at dksX5_term_1 14 rfl rfl)
theorem dX5_term_39 : decode cX5_term 39 = .ok (.goto 4, 3) := dk_167 0 4 (dk_at dksX5_term_1 15 rfl rfl)
theorem dX5_term_42 : decode cX5_term 42 = .ok (.iconst 0, 1) := dk_3 (dk_at dksX5_term_1 18 rfl rfl)
theorem dX5_term_43 : decode cX5_term 43 = .ok (.istore_n 1, 1) := dk_60 (dk_at dksX5_term_1 19 rfl rfl)
theorem dX5_term_44 : decode cX5_term 44 = .ok (.aload_n 0, 1) := dk_42 (dk_at dksX5_term_1 20 rfl rfl)
theorem dX5_term_45 : decode cX5_term 45 = .ok (.dup, 1) := dk_89 (dk_at dksX5_term_1 21 rfl rfl)
theorem dX5_term_46 : decode cX5_term 46 = .ok (.getfield 41, 3) := dk_180 0 41 (dk_at dksX5_term_2 0 rfl rfl)
theorem dX5_term_49 : decode cX5_term 49 = .ok (.iconst 1, 1) := dk_4 (dk_at dksX5_term_2 3 rfl rfl)
theorem dX5_term_50 : decode cX5_term 50 = .ok (.iadd, 1) := dk_96 (dk_at dksX5_term_2 4 rfl rfl)
theorem dX5_term_51 : decode cX5_term 51 = .ok (.putfield 41, 3) := dk_181 0 41 (dk_at dksX5_term_2 5 rfl rfl)
theorem dX5_term_54 : decode cX5_term 54 = .ok (.aload_n 0, 1) := dk_42 (dk_at dksX5_term_2 8 rfl rfl)
theorem dX5_term_55 : decode cX5_term 55 = .ok (.invokevirtual 117, 3) := dk_182 0 117 (dk_at dksX5_term_2 9 rfl rfl)
theorem dX5_term_58 : decode cX5_term 58 = .ok (.aload_n 0, 1) := dk_42 (dk_at dksX5_term_2 12 rfl rfl)
theorem dX5_term_59 : decode cX5_term 59 = .ok (.iload_n 1, 1) := dk_27 (dk_at dksX5_term_2 13 rfl rfl)
theorem dX5_term_60 : decode cX5_term 60 = .ok (.ifCond .eq 7, 3) := dk_153 0 7 (dk_at dksX5_term_2 14 rfl rfl)
theorem dX5_term_63 : decode cX5_term 63 = .ok (.iconst 4, 1) := dk_7 (dk_at dksX5_term_2 17 rfl rfl)
theorem dX5_term_64 : decode cX5_term 64 = .ok (.goto 4, 3) := dk_167 0 4 (dk_at dksX5_term_2 18 rfl rfl)
theorem dX5_term_67 : decode cX5_term 67 = .ok (.iconst 5, 1) := dk_8 (dk_at dksX5_term_2 21 rfl rfl)
theorem dX5_term_68 : decode cX5_term 68 = .ok (.invokevirtual 114, 3) := dk_182 0 114 (dk_at dksX5_term_3 0 rfl rfl)
theorem dX5_term_71 : decode cX5_term 71 = .ok (.goto (-67), 3) := dk_167 255 189 (dk_at dksX5_term_3 3 rfl rfl)
theorem dX5_term_74 : decode cX5_term 74 = .ok (.return_, 1) := dk_177 (dk_at dksX5_term_3 6 rfl rfl)
abbrev cX5_factor : ByteArray := prog_14_method_19_code
def yX5_factor : MethodName := ⟨RX5, "factor", "()V"⟩
def dkwX5_factor_6 : List UInt8 := [167, 0, 4, 28, 62, 42, 28, 156, 0, 7, 3, 167, 0, 4, 4, 182, 0, 114, 42, 29, 182, 0, 114, 177]
abbrev dktX5_factor_6 : List UInt8 := dkwX5_factor_6 ++ []
def dkwX5_factor_5 : List UInt8 := [182, 0, 103, 153, 0, 7, 5, 167, 0, 4, 2, 61, 28, 156, 0, 14, 42, 3, 17, 39, 15, 182, 0, 111]
abbrev dktX5_factor_5 : List UInt8 := dkwX5_factor_5 ++ dktX5_factor_6
def dkwX5_factor_4 : List UInt8 := [153, 0, 7, 3, 167, 0, 30, 42, 18, 107, 182, 0, 103, 153, 0, 7, 4, 167, 0, 17, 42, 18, 109]
abbrev dktX5_factor_4 : List UInt8 := dkwX5_factor_4 ++ dktX5_factor_5
def dkwX5_factor_3 : List UInt8 := [4, 100, 181, 0, 91, 177, 27, 184, 0, 79, 153, 0, 7, 2, 167, 0, 43, 42, 18, 101, 182, 0, 103]
abbrev dktX5_factor_3 : List UInt8 := dkwX5_factor_3 ++ dktX5_factor_4
def dkwX5_factor_2 : List UInt8 := [89, 180, 0, 91, 4, 96, 181, 0, 91, 42, 182, 0, 94, 42, 16, 41, 182, 0, 97, 42, 89, 180, 0, 91]
abbrev dktX5_factor_2 : List UInt8 := dkwX5_factor_2 ++ dktX5_factor_3
def dkwX5_factor_1 : List UInt8 := [160, 0, 13, 42, 16, 251, 42, 180, 0, 41, 182, 0, 75, 42, 89, 180, 0, 41, 4, 96, 181, 0, 41, 42]
abbrev dktX5_factor_1 : List UInt8 := dkwX5_factor_1 ++ dktX5_factor_2
def dkwX5_factor_0 : List UInt8 := [42, 182, 0, 58, 154, 0, 4, 177, 42, 182, 0, 62, 60, 27, 16, 40, 160, 0, 62, 42, 180, 0, 91, 7]
abbrev dktX5_factor_0 : List UInt8 := dkwX5_factor_0 ++ dktX5_factor_1
theorem dksX5_factor_0 : cX5_factor.data.toList.drop 0 = dktX5_factor_0 := by decide +kernel
theorem dksX5_factor_1 : cX5_factor.data.toList.drop 24 = dktX5_factor_1 := dk_seg dksX5_factor_0 24 rfl rfl
theorem dksX5_factor_2 : cX5_factor.data.toList.drop 48 = dktX5_factor_2 := dk_seg dksX5_factor_1 24 rfl rfl
theorem dksX5_factor_3 : cX5_factor.data.toList.drop 72 = dktX5_factor_3 := dk_seg dksX5_factor_2 24 rfl rfl
theorem dksX5_factor_4 : cX5_factor.data.toList.drop 95 = dktX5_factor_4 := dk_seg dksX5_factor_3 23 rfl rfl
theorem dksX5_factor_5 : cX5_factor.data.toList.drop 118 = dktX5_factor_5 := dk_seg dksX5_factor_4 23 rfl rfl
theorem dksX5_factor_6 : cX5_factor.data.toList.drop 142 = dktX5_factor_6 := dk_seg dksX5_factor_5 24 rfl rfl
theorem dX5_factor_0 : decode cX5_factor 0 = .ok (.aload_n 0, 1) := dk_42 (dk_at dksX5_factor_0 0 rfl rfl)
theorem dX5_factor_1 : decode cX5_factor 1 = .ok (.invokevirtual 58, 3) := dk_182 0 58 (dk_at dksX5_factor_0 1 rfl rfl)
theorem dX5_factor_4 : decode cX5_factor 4 = .ok (.ifCond .ne 4, 3) := dk_154 0 4 (dk_at dksX5_factor_0 4 rfl rfl)
theorem dX5_factor_7 : decode cX5_factor 7 = .ok (.return_, 1) := dk_177 (dk_at dksX5_factor_0 7 rfl rfl)
theorem dX5_factor_8 : decode cX5_factor 8 = .ok (.aload_n 0, 1) := dk_42 (dk_at dksX5_factor_0 8 rfl rfl)
theorem dX5_factor_9 : decode cX5_factor 9 = .ok (.invokevirtual 62, 3) := dk_182 0 62 (dk_at dksX5_factor_0 9 rfl rfl)
theorem dX5_factor_12 : decode cX5_factor 12 = .ok (.istore_n 1, 1) := dk_60 (dk_at dksX5_factor_0 12 rfl rfl)
theorem dX5_factor_13 : decode cX5_factor 13 = .ok (.iload_n 1, 1) := dk_27 (dk_at dksX5_factor_0 13 rfl rfl)
theorem dX5_factor_14 : decode cX5_factor 14 = .ok (.bipush 40, 2) := dk_16 40 (dk_at dksX5_factor_0 14 rfl rfl)
theorem dX5_factor_16 : decode cX5_factor 16 = .ok (.if_icmp .ne 62, 3) := dk_160 0 62 (dk_at dksX5_factor_0 16 rfl rfl)
theorem dX5_factor_19 : decode cX5_factor 19 = .ok (.aload_n 0, 1) := dk_42 (dk_at dksX5_factor_0 19 rfl rfl)
theorem dX5_factor_20 : decode cX5_factor 20 = .ok (.getfield 91, 3) := dk_180 0 91 (dk_at dksX5_factor_0 20 rfl rfl)
theorem dX5_factor_23 : decode cX5_factor 23 = .ok (.iconst 4, 1) := dk_7 (dk_at dksX5_factor_0 23 rfl rfl)
theorem dX5_factor_24 : decode cX5_factor 24 = .ok (.if_icmp .ne 13, 3) := dk_160 0 13 (dk_at dksX5_factor_1 0 rfl rfl)
theorem dX5_factor_27 : decode cX5_factor 27 = .ok (.aload_n 0, 1) := dk_42 (dk_at dksX5_factor_1 3 rfl rfl)
theorem dX5_factor_28 : decode cX5_factor 28 = .ok (.bipush (-5), 2) := dk_16 251 (dk_at dksX5_factor_1 4 rfl rfl)
theorem dX5_factor_30 : decode cX5_factor 30 = .ok (.aload_n 0, 1) := dk_42 (dk_at dksX5_factor_1 6 rfl rfl)
theorem dX5_factor_31 : decode cX5_factor 31 = .ok (.getfield 41, 3) := dk_180 0 41 (dk_at dksX5_factor_1 7 rfl rfl)
theorem dX5_factor_34 : decode cX5_factor 34 = .ok (.invokevirtual 75, 3) := dk_182 0 75 (dk_at dksX5_factor_1 10 rfl rfl)
theorem dX5_factor_37 : decode cX5_factor 37 = .ok (.aload_n 0, 1) := dk_42 (dk_at dksX5_factor_1 13 rfl rfl)
theorem dX5_factor_38 : decode cX5_factor 38 = .ok (.dup, 1) := dk_89 (dk_at dksX5_factor_1 14 rfl rfl)
theorem dX5_factor_39 : decode cX5_factor 39 = .ok (.getfield 41, 3) := dk_180 0 41 (dk_at dksX5_factor_1 15 rfl rfl)
theorem dX5_factor_42 : decode cX5_factor 42 = .ok (.iconst 1, 1) := dk_4 (dk_at dksX5_factor_1 18 rfl rfl)
theorem dX5_factor_43 : decode cX5_factor 43 = .ok (.iadd, 1) := dk_96 (dk_at dksX5_factor_1 19 rfl rfl)
theorem dX5_factor_44 : decode cX5_factor 44 = .ok (.putfield 41, 3) := dk_181 0 41 (dk_at dksX5_factor_1 20 rfl rfl)
theorem dX5_factor_47 : decode cX5_factor 47 = .ok (.aload_n 0, 1) := dk_42 (dk_at dksX5_factor_1 23 rfl rfl)
theorem dX5_factor_48 : decode cX5_factor 48 = .ok (.dup, 1) := dk_89 (dk_at dksX5_factor_2 0 rfl rfl)
theorem dX5_factor_49 : decode cX5_factor 49 = .ok (.getfield 91, 3) := dk_180 0 91 (dk_at dksX5_factor_2 1 rfl rfl)
theorem dX5_factor_52 : decode cX5_factor 52 = .ok (.iconst 1, 1) := dk_4 (dk_at dksX5_factor_2 4 rfl rfl)
theorem dX5_factor_53 : decode cX5_factor 53 = .ok (.iadd, 1) := dk_96 (dk_at dksX5_factor_2 5 rfl rfl)
theorem dX5_factor_54 : decode cX5_factor 54 = .ok (.putfield 91, 3) := dk_181 0 91 (dk_at dksX5_factor_2 6 rfl rfl)
theorem dX5_factor_57 : decode cX5_factor 57 = .ok (.aload_n 0, 1) := dk_42 (dk_at dksX5_factor_2 9 rfl rfl)
theorem dX5_factor_58 : decode cX5_factor 58 = .ok (.invokevirtual 94, 3) := dk_182 0 94 (dk_at dksX5_factor_2 10 rfl rfl)
theorem dX5_factor_61 : decode cX5_factor 61 = .ok (.aload_n 0, 1) := dk_42 (dk_at dksX5_factor_2 13 rfl rfl)
theorem dX5_factor_62 : decode cX5_factor 62 = .ok (.bipush 41, 2) := dk_16 41 (dk_at dksX5_factor_2 14 rfl rfl)
theorem dX5_factor_64 : decode cX5_factor 64 = .ok (.invokevirtual 97, 3) := dk_182 0 97 (dk_at dksX5_factor_2 16 rfl rfl)
theorem dX5_factor_67 : decode cX5_factor 67 = .ok (.aload_n 0, 1) := dk_42 (dk_at dksX5_factor_2 19 rfl rfl)
theorem dX5_factor_68 : decode cX5_factor 68 = .ok (.dup, 1) := dk_89 (dk_at dksX5_factor_2 20 rfl rfl)
theorem dX5_factor_69 : decode cX5_factor 69 = .ok (.getfield 91, 3) := dk_180 0 91 (dk_at dksX5_factor_2 21 rfl rfl)
theorem dX5_factor_72 : decode cX5_factor 72 = .ok (.iconst 1, 1) := dk_4 (dk_at dksX5_factor_3 0 rfl rfl)
theorem dX5_factor_73 : decode cX5_factor 73 = .ok (.isub, 1) := dk_100 (dk_at dksX5_factor_3 1 rfl rfl)
theorem dX5_factor_74 : decode cX5_factor 74 = .ok (.putfield 91, 3) := dk_181 0 91 (dk_at dksX5_factor_3 2 rfl rfl)
theorem dX5_factor_77 : decode cX5_factor 77 = .ok (.return_, 1) := dk_177 (dk_at dksX5_factor_3 5 rfl rfl)
theorem dX5_factor_78 : decode cX5_factor 78 = .ok (.iload_n 1, 1) := dk_27 (dk_at dksX5_factor_3 6 rfl rfl)
theorem dX5_factor_79 : decode cX5_factor 79 = .ok (.invokestatic 79, 3) := dk_184 0 79 (dk_at dksX5_factor_3 7 rfl rfl)
theorem dX5_factor_82 : decode cX5_factor 82 = .ok (.ifCond .eq 7, 3) := dk_153 0 7 (dk_at dksX5_factor_3 10 rfl rfl)
theorem dX5_factor_85 : decode cX5_factor 85 = .ok (.iconst (-1), 1) := dk_2 (dk_at dksX5_factor_3 13 rfl rfl)
theorem dX5_factor_86 : decode cX5_factor 86 = .ok (.goto 43, 3) := dk_167 0 43 (dk_at dksX5_factor_3 14 rfl rfl)
theorem dX5_factor_89 : decode cX5_factor 89 = .ok (.aload_n 0, 1) := dk_42 (dk_at dksX5_factor_3 17 rfl rfl)
theorem dX5_factor_90 : decode cX5_factor 90 = .ok (.ldc 101, 2) := dk_18 101 (dk_at dksX5_factor_3 18 rfl rfl)
theorem dX5_factor_92 : decode cX5_factor 92 = .ok (.invokevirtual 103, 3) := dk_182 0 103 (dk_at dksX5_factor_3 20 rfl rfl)
theorem dX5_factor_95 : decode cX5_factor 95 = .ok (.ifCond .eq 7, 3) := dk_153 0 7 (dk_at dksX5_factor_4 0 rfl rfl)
theorem dX5_factor_98 : decode cX5_factor 98 = .ok (.iconst 0, 1) := dk_3 (dk_at dksX5_factor_4 3 rfl rfl)
theorem dX5_factor_99 : decode cX5_factor 99 = .ok (.goto 30, 3) := dk_167 0 30 (dk_at dksX5_factor_4 4 rfl rfl)
theorem dX5_factor_102 : decode cX5_factor 102 = .ok (.aload_n 0, 1) := dk_42 (dk_at dksX5_factor_4 7 rfl rfl)
theorem dX5_factor_103 : decode cX5_factor 103 = .ok (.ldc 107, 2) := dk_18 107 (dk_at dksX5_factor_4 8 rfl rfl)
theorem dX5_factor_105 : decode cX5_factor 105 = .ok (.invokevirtual 103, 3) := dk_182 0 103 (dk_at dksX5_factor_4 10 rfl rfl)
theorem dX5_factor_108 : decode cX5_factor 108 = .ok (.ifCond .eq 7, 3) := dk_153 0 7 (dk_at dksX5_factor_4 13 rfl rfl)
theorem dX5_factor_111 : decode cX5_factor 111 = .ok (.iconst 1, 1) := dk_4 (dk_at dksX5_factor_4 16 rfl rfl)
theorem dX5_factor_112 : decode cX5_factor 112 = .ok (.goto 17, 3) := dk_167 0 17 (dk_at dksX5_factor_4 17 rfl rfl)
theorem dX5_factor_115 : decode cX5_factor 115 = .ok (.aload_n 0, 1) := dk_42 (dk_at dksX5_factor_4 20 rfl rfl)
theorem dX5_factor_116 : decode cX5_factor 116 = .ok (.ldc 109, 2) := dk_18 109 (dk_at dksX5_factor_4 21 rfl rfl)
theorem dX5_factor_118 : decode cX5_factor 118 = .ok (.invokevirtual 103, 3) := dk_182 0 103 (dk_at dksX5_factor_5 0 rfl rfl)
theorem dX5_factor_121 : decode cX5_factor 121 = .ok (.ifCond .eq 7, 3) := dk_153 0 7 (dk_at dksX5_factor_5 3 rfl rfl)
theorem dX5_factor_124 : decode cX5_factor 124 = .ok (.iconst 2, 1) := dk_5 (dk_at dksX5_factor_5 6 rfl rfl)
theorem dX5_factor_125 : decode cX5_factor 125 = .ok (.goto 4, 3) := dk_167 0 4 (dk_at dksX5_factor_5 7 rfl rfl)
theorem dX5_factor_128 : decode cX5_factor 128 = .ok (.iconst (-1), 1) := dk_2 (dk_at dksX5_factor_5 10 rfl rfl)
theorem dX5_factor_129 : decode cX5_factor 129 = .ok (.istore_n 2, 1) := dk_61 (dk_at dksX5_factor_5 11 rfl rfl)
theorem dX5_factor_130 : decode cX5_factor 130 = .ok (.iload_n 2, 1) := dk_28 (dk_at dksX5_factor_5 12 rfl rfl)
theorem dX5_factor_131 : decode cX5_factor 131 = .ok (.ifCond .ge 14, 3) := dk_156 0 14 (dk_at dksX5_factor_5 13 rfl rfl)
theorem dX5_factor_134 : decode cX5_factor 134 = .ok (.aload_n 0, 1) := dk_42 (dk_at dksX5_factor_5 16 rfl rfl)
theorem dX5_factor_135 : decode cX5_factor 135 = .ok (.iconst 0, 1) := dk_3 (dk_at dksX5_factor_5 17 rfl rfl)
theorem dX5_factor_136 : decode cX5_factor 136 = .ok (.sipush 9999, 3) := dk_17 39 15 (dk_at dksX5_factor_5 18 rfl rfl)
theorem dX5_factor_139 : decode cX5_factor 139 = .ok (.invokevirtual 111, 3) := dk_182 0 111 (dk_at dksX5_factor_5 21 rfl rfl)
theorem dX5_factor_142 : decode cX5_factor 142 = .ok (.goto 4, 3) := dk_167 0 4 (dk_at dksX5_factor_6 0 rfl rfl)
theorem dX5_factor_145 : decode cX5_factor 145 = .ok (.iload_n 2, 1) := dk_28 (dk_at dksX5_factor_6 3 rfl rfl)
theorem dX5_factor_146 : decode cX5_factor 146 = .ok (.istore_n 3, 1) := dk_62 (dk_at dksX5_factor_6 4 rfl rfl)
theorem dX5_factor_147 : decode cX5_factor 147 = .ok (.aload_n 0, 1) := dk_42 (dk_at dksX5_factor_6 5 rfl rfl)
theorem dX5_factor_148 : decode cX5_factor 148 = .ok (.iload_n 2, 1) := dk_28 (dk_at dksX5_factor_6 6 rfl rfl)
theorem dX5_factor_149 : decode cX5_factor 149 = .ok (.ifCond .ge 7, 3) := dk_156 0 7 (dk_at dksX5_factor_6 7 rfl rfl)
theorem dX5_factor_152 : decode cX5_factor 152 = .ok (.iconst 0, 1) := dk_3 (dk_at dksX5_factor_6 10 rfl rfl)
theorem dX5_factor_153 : decode cX5_factor 153 = .ok (.goto 4, 3) := dk_167 0 4 (dk_at dksX5_factor_6 11 rfl rfl)
theorem dX5_factor_156 : decode cX5_factor 156 = .ok (.iconst 1, 1) := dk_4 (dk_at dksX5_factor_6 14 rfl rfl)
theorem dX5_factor_157 : decode cX5_factor 157 = .ok (.invokevirtual 114, 3) := dk_182 0 114 (dk_at dksX5_factor_6 15 rfl rfl)
theorem dX5_factor_160 : decode cX5_factor 160 = .ok (.aload_n 0, 1) := dk_42 (dk_at dksX5_factor_6 18 rfl rfl)
theorem dX5_factor_161 : decode cX5_factor 161 = .ok (.iload_n 3, 1) := dk_29 (dk_at dksX5_factor_6 19 rfl rfl)
theorem dX5_factor_162 : decode cX5_factor 162 = .ok (.invokevirtual 114, 3) := dk_182 0 114 (dk_at dksX5_factor_6 20 rfl rfl)
theorem dX5_factor_165 : decode cX5_factor 165 = .ok (.return_, 1) := dk_177 (dk_at dksX5_factor_6 23 rfl rfl)
abbrev cX5_expect : ByteArray := prog_14_method_16_code
def yX5_expect : MethodName := ⟨RX5, "expect", "(I)V"⟩
def dkwX5_expect_1 : List UInt8 := [181, 0, 41, 167, 0, 13, 42, 16, 254, 42, 180, 0, 41, 182, 0, 75, 177]
abbrev dktX5_expect_1 : List UInt8 := dkwX5_expect_1 ++ []
def dkwX5_expect_0 : List UInt8 := [42, 182, 0, 58, 154, 0, 4, 177, 42, 182, 0, 62, 27, 160, 0, 16, 42, 89, 180, 0, 41, 4, 96]
abbrev dktX5_expect_0 : List UInt8 := dkwX5_expect_0 ++ dktX5_expect_1
theorem dksX5_expect_0 : cX5_expect.data.toList.drop 0 = dktX5_expect_0 := by decide +kernel
theorem dksX5_expect_1 : cX5_expect.data.toList.drop 23 = dktX5_expect_1 := dk_seg dksX5_expect_0 23 rfl rfl
theorem dX5_expect_0 : decode cX5_expect 0 = .ok (.aload_n 0, 1) := dk_42 (dk_at dksX5_expect_0 0 rfl rfl)
theorem dX5_expect_1 : decode cX5_expect 1 = .ok (.invokevirtual 58, 3) := dk_182 0 58 (dk_at dksX5_expect_0 1 rfl rfl)
theorem dX5_expect_4 : decode cX5_expect 4 = .ok (.ifCond .ne 4, 3) := dk_154 0 4 (dk_at dksX5_expect_0 4 rfl rfl)
theorem dX5_expect_7 : decode cX5_expect 7 = .ok (.return_, 1) := dk_177 (dk_at dksX5_expect_0 7 rfl rfl)
theorem dX5_expect_8 : decode cX5_expect 8 = .ok (.aload_n 0, 1) := dk_42 (dk_at dksX5_expect_0 8 rfl rfl)
theorem dX5_expect_9 : decode cX5_expect 9 = .ok (.invokevirtual 62, 3) := dk_182 0 62 (dk_at dksX5_expect_0 9 rfl rfl)
theorem dX5_expect_12 : decode cX5_expect 12 = .ok (.iload_n 1, 1) := dk_27 (dk_at dksX5_expect_0 12 rfl rfl)
theorem dX5_expect_13 : decode cX5_expect 13 = .ok (.if_icmp .ne 16, 3) := dk_160 0 16 (dk_at dksX5_expect_0 13 rfl rfl)
theorem dX5_expect_16 : decode cX5_expect 16 = .ok (.aload_n 0, 1) := dk_42 (dk_at dksX5_expect_0 16 rfl rfl)
theorem dX5_expect_17 : decode cX5_expect 17 = .ok (.dup, 1) := dk_89 (dk_at dksX5_expect_0 17 rfl rfl)
theorem dX5_expect_18 : decode cX5_expect 18 = .ok (.getfield 41, 3) := dk_180 0 41 (dk_at dksX5_expect_0 18 rfl rfl)
theorem dX5_expect_21 : decode cX5_expect 21 = .ok (.iconst 1, 1) := dk_4 (dk_at dksX5_expect_0 21 rfl rfl)
theorem dX5_expect_22 : decode cX5_expect 22 = .ok (.iadd, 1) := dk_96 (dk_at dksX5_expect_0 22 rfl rfl)
theorem dX5_expect_23 : decode cX5_expect 23 = .ok (.putfield 41, 3) := dk_181 0 41 (dk_at dksX5_expect_1 0 rfl rfl)
theorem dX5_expect_26 : decode cX5_expect 26 = .ok (.goto 13, 3) := dk_167 0 13 (dk_at dksX5_expect_1 3 rfl rfl)
theorem dX5_expect_29 : decode cX5_expect 29 = .ok (.aload_n 0, 1) := dk_42 (dk_at dksX5_expect_1 6 rfl rfl)
theorem dX5_expect_30 : decode cX5_expect 30 = .ok (.bipush (-2), 2) := dk_16 254 (dk_at dksX5_expect_1 7 rfl rfl)
theorem dX5_expect_32 : decode cX5_expect 32 = .ok (.aload_n 0, 1) := dk_42 (dk_at dksX5_expect_1 9 rfl rfl)
theorem dX5_expect_33 : decode cX5_expect 33 = .ok (.getfield 41, 3) := dk_180 0 41 (dk_at dksX5_expect_1 10 rfl rfl)
theorem dX5_expect_36 : decode cX5_expect 36 = .ok (.invokevirtual 75, 3) := dk_182 0 75 (dk_at dksX5_expect_1 13 rfl rfl)
theorem dX5_expect_39 : decode cX5_expect 39 = .ok (.return_, 1) := dk_177 (dk_at dksX5_expect_1 16 rfl rfl)
abbrev cX5_emit : ByteArray := prog_14_method_18_code
def yX5_emit : MethodName := ⟨RX5, "emit", "(I)V"⟩
def dkwX5_emit_1 : List UInt8 := [42, 180, 0, 20, 8, 92, 46, 4, 96, 79, 177]
abbrev dktX5_emit_1 : List UInt8 := dkwX5_emit_1 ++ []
def dkwX5_emit_0 : List UInt8 := [42, 182, 0, 58, 154, 0, 4, 177, 42, 180, 0, 20, 17, 1, 42, 42, 180, 0, 20, 8, 46, 96, 27, 79]
abbrev dktX5_emit_0 : List UInt8 := dkwX5_emit_0 ++ dktX5_emit_1
theorem dksX5_emit_0 : cX5_emit.data.toList.drop 0 = dktX5_emit_0 := by decide +kernel
theorem dksX5_emit_1 : cX5_emit.data.toList.drop 24 = dktX5_emit_1 := dk_seg dksX5_emit_0 24 rfl rfl
theorem dX5_emit_0 : decode cX5_emit 0 = .ok (.aload_n 0, 1) := dk_42 (dk_at dksX5_emit_0 0 rfl rfl)
theorem dX5_emit_1 : decode cX5_emit 1 = .ok (.invokevirtual 58, 3) := dk_182 0 58 (dk_at dksX5_emit_0 1 rfl rfl)
theorem dX5_emit_4 : decode cX5_emit 4 = .ok (.ifCond .ne 4, 3) := dk_154 0 4 (dk_at dksX5_emit_0 4 rfl rfl)
theorem dX5_emit_7 : decode cX5_emit 7 = .ok (.return_, 1) := dk_177 (dk_at dksX5_emit_0 7 rfl rfl)
theorem dX5_emit_8 : decode cX5_emit 8 = .ok (.aload_n 0, 1) := dk_42 (dk_at dksX5_emit_0 8 rfl rfl)
theorem dX5_emit_9 : decode cX5_emit 9 = .ok (.getfield 20, 3) := dk_180 0 20 (dk_at dksX5_emit_0 9 rfl rfl)
theorem dX5_emit_12 : decode cX5_emit 12 = .ok (.sipush 298, 3) := dk_17 1 42 (dk_at dksX5_emit_0 12 rfl rfl)
theorem dX5_emit_15 : decode cX5_emit 15 = .ok (.aload_n 0, 1) := dk_42 (dk_at dksX5_emit_0 15 rfl rfl)
theorem dX5_emit_16 : decode cX5_emit 16 = .ok (.getfield 20, 3) := dk_180 0 20 (dk_at dksX5_emit_0 16 rfl rfl)
theorem dX5_emit_19 : decode cX5_emit 19 = .ok (.iconst 5, 1) := dk_8 (dk_at dksX5_emit_0 19 rfl rfl)
theorem dX5_emit_20 : decode cX5_emit 20 = .ok (.iaload, 1) := dk_46 (dk_at dksX5_emit_0 20 rfl rfl)
theorem dX5_emit_21 : decode cX5_emit 21 = .ok (.iadd, 1) := dk_96 (dk_at dksX5_emit_0 21 rfl rfl)
theorem dX5_emit_22 : decode cX5_emit 22 = .ok (.iload_n 1, 1) := dk_27 (dk_at dksX5_emit_0 22 rfl rfl)
theorem dX5_emit_23 : decode cX5_emit 23 = .ok (.iastore, 1) := dk_79 (dk_at dksX5_emit_0 23 rfl rfl)
theorem dX5_emit_24 : decode cX5_emit 24 = .ok (.aload_n 0, 1) := dk_42 (dk_at dksX5_emit_1 0 rfl rfl)
theorem dX5_emit_25 : decode cX5_emit 25 = .ok (.getfield 20, 3) := dk_180 0 20 (dk_at dksX5_emit_1 1 rfl rfl)
theorem dX5_emit_28 : decode cX5_emit 28 = .ok (.iconst 5, 1) := dk_8 (dk_at dksX5_emit_1 4 rfl rfl)
theorem dX5_emit_29 : decode cX5_emit 29 = .ok (.dup2, 1) := dk_92 (dk_at dksX5_emit_1 5 rfl rfl)
theorem dX5_emit_30 : decode cX5_emit 30 = .ok (.iaload, 1) := dk_46 (dk_at dksX5_emit_1 6 rfl rfl)
theorem dX5_emit_31 : decode cX5_emit 31 = .ok (.iconst 1, 1) := dk_4 (dk_at dksX5_emit_1 7 rfl rfl)
theorem dX5_emit_32 : decode cX5_emit 32 = .ok (.iadd, 1) := dk_96 (dk_at dksX5_emit_1 8 rfl rfl)
theorem dX5_emit_33 : decode cX5_emit 33 = .ok (.iastore, 1) := dk_79 (dk_at dksX5_emit_1 9 rfl rfl)
theorem dX5_emit_34 : decode cX5_emit 34 = .ok (.return_, 1) := dk_177 (dk_at dksX5_emit_1 10 rfl rfl)
abbrev cX5_remember : ByteArray := prog_14_method_72_code
def yX5_remember : MethodName := ⟨RX5, "remember", "()V"⟩
def dkwX5_remember_3 : List UInt8 := [4, 96, 181, 0, 242, 177]
abbrev dktX5_remember_3 : List UInt8 := dkwX5_remember_3 ++ []
def dkwX5_remember_2 : List UInt8 := [181, 0, 242, 42, 180, 0, 17, 42, 180, 0, 25, 42, 180, 0, 242, 50, 184, 0, 163, 42, 89, 180, 0, 242]
abbrev dktX5_remember_2 : List UInt8 := dkwX5_remember_2 ++ dktX5_remember_3
def dkwX5_remember_1 : List UInt8 := [180, 0, 25, 27, 4, 100, 50, 184, 0, 163, 132, 1, 1, 167, 255, 230, 42, 89, 180, 0, 242, 4, 100]
abbrev dktX5_remember_1 : List UInt8 := dkwX5_remember_1 ++ dktX5_remember_2
def dkwX5_remember_0 : List UInt8 := [42, 180, 0, 242, 16, 8, 160, 0, 44, 4, 60, 27, 16, 8, 162, 0, 26, 42, 180, 0, 25, 27, 50, 42]
abbrev dktX5_remember_0 : List UInt8 := dkwX5_remember_0 ++ dktX5_remember_1
theorem dksX5_remember_0 : cX5_remember.data.toList.drop 0 = dktX5_remember_0 := by decide +kernel
theorem dksX5_remember_1 : cX5_remember.data.toList.drop 24 = dktX5_remember_1 := dk_seg dksX5_remember_0 24 rfl rfl
theorem dksX5_remember_2 : cX5_remember.data.toList.drop 47 = dktX5_remember_2 := dk_seg dksX5_remember_1 23 rfl rfl
theorem dksX5_remember_3 : cX5_remember.data.toList.drop 71 = dktX5_remember_3 := dk_seg dksX5_remember_2 24 rfl rfl
theorem dX5_remember_0 : decode cX5_remember 0 = .ok (.aload_n 0, 1) := dk_42 (dk_at dksX5_remember_0 0 rfl rfl)
theorem dX5_remember_1 : decode cX5_remember 1 = .ok (.getfield 242, 3) := dk_180 0 242 (dk_at dksX5_remember_0 1 rfl rfl)
theorem dX5_remember_4 : decode cX5_remember 4 = .ok (.bipush 8, 2) := dk_16 8 (dk_at dksX5_remember_0 4 rfl rfl)
theorem dX5_remember_6 : decode cX5_remember 6 = .ok (.if_icmp .ne 44, 3) := dk_160 0 44 (dk_at dksX5_remember_0 6 rfl rfl)
theorem dX5_remember_9 : decode cX5_remember 9 = .ok (.iconst 1, 1) := dk_4 (dk_at dksX5_remember_0 9 rfl rfl)
theorem dX5_remember_10 : decode cX5_remember 10 = .ok (.istore_n 1, 1) := dk_60 (dk_at dksX5_remember_0 10 rfl rfl)
theorem dX5_remember_11 : decode cX5_remember 11 = .ok (.iload_n 1, 1) := dk_27 (dk_at dksX5_remember_0 11 rfl rfl)
theorem dX5_remember_12 : decode cX5_remember 12 = .ok (.bipush 8, 2) := dk_16 8 (dk_at dksX5_remember_0 12 rfl rfl)
theorem dX5_remember_14 : decode cX5_remember 14 = .ok (.if_icmp .ge 26, 3) := dk_162 0 26 (dk_at dksX5_remember_0 14 rfl rfl)
theorem dX5_remember_17 : decode cX5_remember 17 = .ok (.aload_n 0, 1) := dk_42 (dk_at dksX5_remember_0 17 rfl rfl)
theorem dX5_remember_18 : decode cX5_remember 18 = .ok (.getfield 25, 3) := dk_180 0 25 (dk_at dksX5_remember_0 18 rfl rfl)
theorem dX5_remember_21 : decode cX5_remember 21 = .ok (.iload_n 1, 1) := dk_27 (dk_at dksX5_remember_0 21 rfl rfl)
theorem dX5_remember_22 : decode cX5_remember 22 = .ok (.aaload, 1) := dk_50 (dk_at dksX5_remember_0 22 rfl rfl)
theorem dX5_remember_23 : decode cX5_remember 23 = .ok (.aload_n 0, 1) := dk_42 (dk_at dksX5_remember_0 23 rfl rfl)
theorem dX5_remember_24 : decode cX5_remember 24 = .ok (.getfield 25, 3) := dk_180 0 25 (dk_at dksX5_remember_1 0 rfl rfl)
theorem dX5_remember_27 : decode cX5_remember 27 = .ok (.iload_n 1, 1) := dk_27 (dk_at dksX5_remember_1 3 rfl rfl)
theorem dX5_remember_28 : decode cX5_remember 28 = .ok (.iconst 1, 1) := dk_4 (dk_at dksX5_remember_1 4 rfl rfl)
theorem dX5_remember_29 : decode cX5_remember 29 = .ok (.isub, 1) := dk_100 (dk_at dksX5_remember_1 5 rfl rfl)
theorem dX5_remember_30 : decode cX5_remember 30 = .ok (.aaload, 1) := dk_50 (dk_at dksX5_remember_1 6 rfl rfl)
theorem dX5_remember_31 : decode cX5_remember 31 = .ok (.invokestatic 163, 3) := dk_184 0 163 (dk_at dksX5_remember_1 7 rfl rfl)
theorem dX5_remember_34 : decode cX5_remember 34 = .ok (.iinc 1 1, 3) := dk_132 1 1 (dk_at dksX5_remember_1 10 rfl rfl)
theorem dX5_remember_37 : decode cX5_remember 37 = .ok (.goto (-26), 3) := dk_167 255 230 (dk_at dksX5_remember_1 13 rfl rfl)
theorem dX5_remember_40 : decode cX5_remember 40 = .ok (.aload_n 0, 1) := dk_42 (dk_at dksX5_remember_1 16 rfl rfl)
theorem dX5_remember_41 : decode cX5_remember 41 = .ok (.dup, 1) := dk_89 (dk_at dksX5_remember_1 17 rfl rfl)
theorem dX5_remember_42 : decode cX5_remember 42 = .ok (.getfield 242, 3) := dk_180 0 242 (dk_at dksX5_remember_1 18 rfl rfl)
theorem dX5_remember_45 : decode cX5_remember 45 = .ok (.iconst 1, 1) := dk_4 (dk_at dksX5_remember_1 21 rfl rfl)
theorem dX5_remember_46 : decode cX5_remember 46 = .ok (.isub, 1) := dk_100 (dk_at dksX5_remember_1 22 rfl rfl)
theorem dX5_remember_47 : decode cX5_remember 47 = .ok (.putfield 242, 3) := dk_181 0 242 (dk_at dksX5_remember_2 0 rfl rfl)
theorem dX5_remember_50 : decode cX5_remember 50 = .ok (.aload_n 0, 1) := dk_42 (dk_at dksX5_remember_2 3 rfl rfl)
theorem dX5_remember_51 : decode cX5_remember 51 = .ok (.getfield 17, 3) := dk_180 0 17 (dk_at dksX5_remember_2 4 rfl rfl)
theorem dX5_remember_54 : decode cX5_remember 54 = .ok (.aload_n 0, 1) := dk_42 (dk_at dksX5_remember_2 7 rfl rfl)
theorem dX5_remember_55 : decode cX5_remember 55 = .ok (.getfield 25, 3) := dk_180 0 25 (dk_at dksX5_remember_2 8 rfl rfl)
theorem dX5_remember_58 : decode cX5_remember 58 = .ok (.aload_n 0, 1) := dk_42 (dk_at dksX5_remember_2 11 rfl rfl)
theorem dX5_remember_59 : decode cX5_remember 59 = .ok (.getfield 242, 3) := dk_180 0 242 (dk_at dksX5_remember_2 12 rfl rfl)
theorem dX5_remember_62 : decode cX5_remember 62 = .ok (.aaload, 1) := dk_50 (dk_at dksX5_remember_2 15 rfl rfl)
theorem dX5_remember_63 : decode cX5_remember 63 = .ok (.invokestatic 163, 3) := dk_184 0 163 (dk_at dksX5_remember_2 16 rfl rfl)
theorem dX5_remember_66 : decode cX5_remember 66 = .ok (.aload_n 0, 1) := dk_42 (dk_at dksX5_remember_2 19 rfl rfl)
theorem dX5_remember_67 : decode cX5_remember 67 = .ok (.dup, 1) := dk_89 (dk_at dksX5_remember_2 20 rfl rfl)
theorem dX5_remember_68 : decode cX5_remember 68 = .ok (.getfield 242, 3) := dk_180 0 242 (dk_at dksX5_remember_2 21 rfl rfl)
theorem dX5_remember_71 : decode cX5_remember 71 = .ok (.iconst 1, 1) := dk_4 (dk_at dksX5_remember_3 0 rfl rfl)
theorem dX5_remember_72 : decode cX5_remember 72 = .ok (.iadd, 1) := dk_96 (dk_at dksX5_remember_3 1 rfl rfl)
theorem dX5_remember_73 : decode cX5_remember 73 = .ok (.putfield 242, 3) := dk_181 0 242 (dk_at dksX5_remember_3 2 rfl rfl)
theorem dX5_remember_76 : decode cX5_remember 76 = .ok (.return_, 1) := dk_177 (dk_at dksX5_remember_3 5 rfl rfl)
abbrev cX5_copy : ByteArray := prog_14_method_6_code
def yX5_copy : MethodName := ⟨RX5, "copy", "([I[I)V"⟩
def dkwX5_copy_0 : List UInt8 := [3, 61, 28, 17, 7, 6, 162, 0, 15, 43, 28, 42, 28, 46, 79, 132, 2, 1, 167, 255, 240, 177]
abbrev dktX5_copy_0 : List UInt8 := dkwX5_copy_0 ++ []
theorem dksX5_copy_0 : cX5_copy.data.toList.drop 0 = dktX5_copy_0 := by decide +kernel
theorem dX5_copy_0 : decode cX5_copy 0 = .ok (.iconst 0, 1) := dk_3 (dk_at dksX5_copy_0 0 rfl rfl)
theorem dX5_copy_1 : decode cX5_copy 1 = .ok (.istore_n 2, 1) := dk_61 (dk_at dksX5_copy_0 1 rfl rfl)
theorem dX5_copy_2 : decode cX5_copy 2 = .ok (.iload_n 2, 1) := dk_28 (dk_at dksX5_copy_0 2 rfl rfl)
theorem dX5_copy_3 : decode cX5_copy 3 = .ok (.sipush 1798, 3) := dk_17 7 6 (dk_at dksX5_copy_0 3 rfl rfl)
theorem dX5_copy_6 : decode cX5_copy 6 = .ok (.if_icmp .ge 15, 3) := dk_162 0 15 (dk_at dksX5_copy_0 6 rfl rfl)
theorem dX5_copy_9 : decode cX5_copy 9 = .ok (.aload_n 1, 1) := dk_43 (dk_at dksX5_copy_0 9 rfl rfl)
theorem dX5_copy_10 : decode cX5_copy 10 = .ok (.iload_n 2, 1) := dk_28 (dk_at dksX5_copy_0 10 rfl rfl)
theorem dX5_copy_11 : decode cX5_copy 11 = .ok (.aload_n 0, 1) := dk_42 (dk_at dksX5_copy_0 11 rfl rfl)
theorem dX5_copy_12 : decode cX5_copy 12 = .ok (.iload_n 2, 1) := dk_28 (dk_at dksX5_copy_0 12 rfl rfl)
theorem dX5_copy_13 : decode cX5_copy 13 = .ok (.iaload, 1) := dk_46 (dk_at dksX5_copy_0 13 rfl rfl)
theorem dX5_copy_14 : decode cX5_copy 14 = .ok (.iastore, 1) := dk_79 (dk_at dksX5_copy_0 14 rfl rfl)
theorem dX5_copy_15 : decode cX5_copy 15 = .ok (.iinc 2 1, 3) := dk_132 2 1 (dk_at dksX5_copy_0 15 rfl rfl)
theorem dX5_copy_18 : decode cX5_copy 18 = .ok (.goto (-16), 3) := dk_167 255 240 (dk_at dksX5_copy_0 18 rfl rfl)
theorem dX5_copy_21 : decode cX5_copy 21 = .ok (.return_, 1) := dk_177 (dk_at dksX5_copy_0 21 rfl rfl)
abbrev cX5_errorOffset : ByteArray := prog_14_method_28_code
def yX5_errorOffset : MethodName := ⟨RX5, "errorOffset", "()I"⟩
def dkwX5_errorOffset_0 : List UInt8 := [42, 3, 181, 0, 32, 42, 180, 0, 13, 172]
abbrev dktX5_errorOffset_0 : List UInt8 := dkwX5_errorOffset_0 ++ []
theorem dksX5_errorOffset_0 : cX5_errorOffset.data.toList.drop 0 = dktX5_errorOffset_0 := by decide +kernel
theorem dX5_errorOffset_0 : decode cX5_errorOffset 0 = .ok (.aload_n 0, 1) := dk_42 (dk_at dksX5_errorOffset_0 0 rfl rfl)
theorem dX5_errorOffset_1 : decode cX5_errorOffset 1 = .ok (.iconst 0, 1) := dk_3 (dk_at dksX5_errorOffset_0 1 rfl rfl)
theorem dX5_errorOffset_2 : decode cX5_errorOffset 2 = .ok (.putfield 32, 3) := dk_181 0 32 (dk_at dksX5_errorOffset_0 2 rfl rfl)
theorem dX5_errorOffset_5 : decode cX5_errorOffset 5 = .ok (.aload_n 0, 1) := dk_42 (dk_at dksX5_errorOffset_0 5 rfl rfl)
theorem dX5_errorOffset_6 : decode cX5_errorOffset 6 = .ok (.getfield 13, 3) := dk_180 0 13 (dk_at dksX5_errorOffset_0 6 rfl rfl)
theorem dX5_errorOffset_9 : decode cX5_errorOffset 9 = .ok (.ireturn, 1) := dk_172 (dk_at dksX5_errorOffset_0 9 rfl rfl)
abbrev cX5_today : ByteArray := prog_14_method_33_code
def yX5_today : MethodName := ⟨RX5, "today", "()I"⟩
def dkwX5_today_0 : List UInt8 := [42, 3, 181, 0, 32, 42, 180, 0, 17, 6, 46, 172]
abbrev dktX5_today_0 : List UInt8 := dkwX5_today_0 ++ []
theorem dksX5_today_0 : cX5_today.data.toList.drop 0 = dktX5_today_0 := by decide +kernel
theorem dX5_today_0 : decode cX5_today 0 = .ok (.aload_n 0, 1) := dk_42 (dk_at dksX5_today_0 0 rfl rfl)
theorem dX5_today_1 : decode cX5_today 1 = .ok (.iconst 0, 1) := dk_3 (dk_at dksX5_today_0 1 rfl rfl)
theorem dX5_today_2 : decode cX5_today 2 = .ok (.putfield 32, 3) := dk_181 0 32 (dk_at dksX5_today_0 2 rfl rfl)
theorem dX5_today_5 : decode cX5_today 5 = .ok (.aload_n 0, 1) := dk_42 (dk_at dksX5_today_0 5 rfl rfl)
theorem dX5_today_6 : decode cX5_today 6 = .ok (.getfield 17, 3) := dk_180 0 17 (dk_at dksX5_today_0 6 rfl rfl)
theorem dX5_today_9 : decode cX5_today 9 = .ok (.iconst 3, 1) := dk_6 (dk_at dksX5_today_0 9 rfl rfl)
theorem dX5_today_10 : decode cX5_today 10 = .ok (.iaload, 1) := dk_46 (dk_at dksX5_today_0 10 rfl rfl)
theorem dX5_today_11 : decode cX5_today 11 = .ok (.ireturn, 1) := dk_172 (dk_at dksX5_today_0 11 rfl rfl)
abbrev cX5_isBusinessDay : ByteArray := prog_14_method_34_code
def yX5_isBusinessDay : MethodName := ⟨RX5, "isBusinessDay", "(I)Z"⟩
def dkwX5_isBusinessDay_1 : List UInt8 := [154, 0, 15, 42, 27, 182, 0, 167, 153, 0, 7, 4, 167, 0, 4, 3, 172]
abbrev dktX5_isBusinessDay_1 : List UInt8 := dkwX5_isBusinessDay_1 ++ []
def dkwX5_isBusinessDay_0 : List UInt8 := [42, 3, 181, 0, 32, 42, 27, 184, 0, 173, 154, 0, 7, 4, 167, 0, 4, 3, 4, 182, 0, 153]
abbrev dktX5_isBusinessDay_0 : List UInt8 := dkwX5_isBusinessDay_0 ++ dktX5_isBusinessDay_1
theorem dksX5_isBusinessDay_0 : cX5_isBusinessDay.data.toList.drop 0 = dktX5_isBusinessDay_0 := by decide +kernel
theorem dksX5_isBusinessDay_1 : cX5_isBusinessDay.data.toList.drop 22 = dktX5_isBusinessDay_1 := dk_seg dksX5_isBusinessDay_0 22 rfl rfl
theorem dX5_isBusinessDay_0 : decode cX5_isBusinessDay 0 = .ok (.aload_n 0, 1) := dk_42 (dk_at dksX5_isBusinessDay_0 0 rfl rfl)
theorem dX5_isBusinessDay_1 : decode cX5_isBusinessDay 1 = .ok (.iconst 0, 1) := dk_3 (dk_at dksX5_isBusinessDay_0 1 rfl rfl)
theorem dX5_isBusinessDay_2 : decode cX5_isBusinessDay 2 = .ok (.putfield 32, 3) := dk_181 0 32 (dk_at dksX5_isBusinessDay_0 2 rfl rfl)
theorem dX5_isBusinessDay_5 : decode cX5_isBusinessDay 5 = .ok (.aload_n 0, 1) := dk_42 (dk_at dksX5_isBusinessDay_0 5 rfl rfl)
theorem dX5_isBusinessDay_6 : decode cX5_isBusinessDay 6 = .ok (.iload_n 1, 1) := dk_27 (dk_at dksX5_isBusinessDay_0 6 rfl rfl)
theorem dX5_isBusinessDay_7 : decode cX5_isBusinessDay 7 = .ok (.invokestatic 173, 3) := dk_184 0 173 (dk_at dksX5_isBusinessDay_0 7 rfl rfl)
theorem dX5_isBusinessDay_10 : decode cX5_isBusinessDay 10 = .ok (.ifCond .ne 7, 3) := dk_154 0 7 (dk_at dksX5_isBusinessDay_0 10 rfl rfl)
theorem dX5_isBusinessDay_13 : decode cX5_isBusinessDay 13 = .ok (.iconst 1, 1) := dk_4 (dk_at dksX5_isBusinessDay_0 13 rfl rfl)
theorem dX5_isBusinessDay_14 : decode cX5_isBusinessDay 14 = .ok (.goto 4, 3) := dk_167 0 4 (dk_at dksX5_isBusinessDay_0 14 rfl rfl)
theorem dX5_isBusinessDay_17 : decode cX5_isBusinessDay 17 = .ok (.iconst 0, 1) := dk_3 (dk_at dksX5_isBusinessDay_0 17 rfl rfl)
theorem dX5_isBusinessDay_18 : decode cX5_isBusinessDay 18 = .ok (.iconst 1, 1) := dk_4 (dk_at dksX5_isBusinessDay_0 18 rfl rfl)
theorem dX5_isBusinessDay_19 : decode cX5_isBusinessDay 19 = .ok (.invokevirtual 153, 3) := dk_182 0 153 (dk_at dksX5_isBusinessDay_0 19 rfl rfl)
theorem dX5_isBusinessDay_22 : decode cX5_isBusinessDay 22 = .ok (.ifCond .ne 15, 3) := dk_154 0 15 (dk_at dksX5_isBusinessDay_1 0 rfl rfl)
theorem dX5_isBusinessDay_25 : decode cX5_isBusinessDay 25 = .ok (.aload_n 0, 1) := dk_42 (dk_at dksX5_isBusinessDay_1 3 rfl rfl)
theorem dX5_isBusinessDay_26 : decode cX5_isBusinessDay 26 = .ok (.iload_n 1, 1) := dk_27 (dk_at dksX5_isBusinessDay_1 4 rfl rfl)
theorem dX5_isBusinessDay_27 : decode cX5_isBusinessDay 27 = .ok (.invokevirtual 167, 3) := dk_182 0 167 (dk_at dksX5_isBusinessDay_1 5 rfl rfl)
theorem dX5_isBusinessDay_30 : decode cX5_isBusinessDay 30 = .ok (.ifCond .eq 7, 3) := dk_153 0 7 (dk_at dksX5_isBusinessDay_1 8 rfl rfl)
theorem dX5_isBusinessDay_33 : decode cX5_isBusinessDay 33 = .ok (.iconst 1, 1) := dk_4 (dk_at dksX5_isBusinessDay_1 11 rfl rfl)
theorem dX5_isBusinessDay_34 : decode cX5_isBusinessDay 34 = .ok (.goto 4, 3) := dk_167 0 4 (dk_at dksX5_isBusinessDay_1 12 rfl rfl)
theorem dX5_isBusinessDay_37 : decode cX5_isBusinessDay 37 = .ok (.iconst 0, 1) := dk_3 (dk_at dksX5_isBusinessDay_1 15 rfl rfl)
theorem dX5_isBusinessDay_38 : decode cX5_isBusinessDay 38 = .ok (.ireturn, 1) := dk_172 (dk_at dksX5_isBusinessDay_1 16 rfl rfl)
abbrev cX5_isDay : ByteArray := prog_14_method_32_code
def yX5_isDay : MethodName := ⟨RX5, "isDay", "(I)Z"⟩
def dkwX5_isDay_0 : List UInt8 := [26, 3, 17, 39, 15, 184, 0, 54, 172]
abbrev dktX5_isDay_0 : List UInt8 := dkwX5_isDay_0 ++ []
theorem dksX5_isDay_0 : cX5_isDay.data.toList.drop 0 = dktX5_isDay_0 := by decide +kernel
theorem dX5_isDay_0 : decode cX5_isDay 0 = .ok (.iload_n 0, 1) := dk_26 (dk_at dksX5_isDay_0 0 rfl rfl)
theorem dX5_isDay_1 : decode cX5_isDay 1 = .ok (.iconst 0, 1) := dk_3 (dk_at dksX5_isDay_0 1 rfl rfl)
theorem dX5_isDay_2 : decode cX5_isDay 2 = .ok (.sipush 9999, 3) := dk_17 39 15 (dk_at dksX5_isDay_0 2 rfl rfl)
theorem dX5_isDay_5 : decode cX5_isDay 5 = .ok (.invokestatic 54, 3) := dk_184 0 54 (dk_at dksX5_isDay_0 5 rfl rfl)
theorem dX5_isDay_8 : decode cX5_isDay 8 = .ok (.ireturn, 1) := dk_172 (dk_at dksX5_isDay_0 8 rfl rfl)
abbrev cX5_isBusiness : ByteArray := prog_14_method_29_code
def yX5_isBusiness : MethodName := ⟨RX5, "isBusiness", "(I)Z"⟩
def dkwX5_isBusiness_1 : List UInt8 := [180, 0, 17, 16, 6, 28, 96, 46, 27, 160, 0, 5, 3, 172, 132, 2, 1, 167, 255, 228, 4, 172]
abbrev dktX5_isBusiness_1 : List UInt8 := dkwX5_isBusiness_1 ++ []
def dkwX5_isBusiness_0 : List UInt8 := [27, 16, 7, 112, 7, 164, 0, 5, 3, 172, 3, 61, 28, 42, 180, 0, 17, 5, 46, 162, 0, 24, 42]
abbrev dktX5_isBusiness_0 : List UInt8 := dkwX5_isBusiness_0 ++ dktX5_isBusiness_1
theorem dksX5_isBusiness_0 : cX5_isBusiness.data.toList.drop 0 = dktX5_isBusiness_0 := by decide +kernel
theorem dksX5_isBusiness_1 : cX5_isBusiness.data.toList.drop 23 = dktX5_isBusiness_1 := dk_seg dksX5_isBusiness_0 23 rfl rfl
theorem dX5_isBusiness_0 : decode cX5_isBusiness 0 = .ok (.iload_n 1, 1) := dk_27 (dk_at dksX5_isBusiness_0 0 rfl rfl)
theorem dX5_isBusiness_1 : decode cX5_isBusiness 1 = .ok (.bipush 7, 2) := dk_16 7 (dk_at dksX5_isBusiness_0 1 rfl rfl)
theorem dX5_isBusiness_3 : decode cX5_isBusiness 3 = .ok (.irem, 1) := dk_112 (dk_at dksX5_isBusiness_0 3 rfl rfl)
theorem dX5_isBusiness_4 : decode cX5_isBusiness 4 = .ok (.iconst 4, 1) := dk_7 (dk_at dksX5_isBusiness_0 4 rfl rfl)
theorem dX5_isBusiness_5 : decode cX5_isBusiness 5 = .ok (.if_icmp .le 5, 3) := dk_164 0 5 (dk_at dksX5_isBusiness_0 5 rfl rfl)
theorem dX5_isBusiness_8 : decode cX5_isBusiness 8 = .ok (.iconst 0, 1) := dk_3 (dk_at dksX5_isBusiness_0 8 rfl rfl)
theorem dX5_isBusiness_9 : decode cX5_isBusiness 9 = .ok (.ireturn, 1) := dk_172 (dk_at dksX5_isBusiness_0 9 rfl rfl)
theorem dX5_isBusiness_10 : decode cX5_isBusiness 10 = .ok (.iconst 0, 1) := dk_3 (dk_at dksX5_isBusiness_0 10 rfl rfl)
theorem dX5_isBusiness_11 : decode cX5_isBusiness 11 = .ok (.istore_n 2, 1) := dk_61 (dk_at dksX5_isBusiness_0 11 rfl rfl)
theorem dX5_isBusiness_12 : decode cX5_isBusiness 12 = .ok (.iload_n 2, 1) := dk_28 (dk_at dksX5_isBusiness_0 12 rfl rfl)
theorem dX5_isBusiness_13 : decode cX5_isBusiness 13 = .ok (.aload_n 0, 1) := dk_42 (dk_at dksX5_isBusiness_0 13 rfl rfl)
theorem dX5_isBusiness_14 : decode cX5_isBusiness 14 = .ok (.getfield 17, 3) := dk_180 0 17 (dk_at dksX5_isBusiness_0 14 rfl rfl)
theorem dX5_isBusiness_17 : decode cX5_isBusiness 17 = .ok (.iconst 2, 1) := dk_5 (dk_at dksX5_isBusiness_0 17 rfl rfl)
theorem dX5_isBusiness_18 : decode cX5_isBusiness 18 = .ok (.iaload, 1) := dk_46 (dk_at dksX5_isBusiness_0 18 rfl rfl)
theorem dX5_isBusiness_19 : decode cX5_isBusiness 19 = .ok (.if_icmp .ge 24, 3) := dk_162 0 24 (dk_at dksX5_isBusiness_0 19 rfl rfl)
theorem dX5_isBusiness_22 : decode cX5_isBusiness 22 = .ok (.aload_n 0, 1) := dk_42 (dk_at dksX5_isBusiness_0 22 rfl rfl)
theorem dX5_isBusiness_23 : decode cX5_isBusiness 23 = .ok (.getfield 17, 3) := dk_180 0 17 (dk_at dksX5_isBusiness_1 0 rfl rfl)
theorem dX5_isBusiness_26 : decode cX5_isBusiness 26 = .ok (.bipush 6, 2) := dk_16 6 (dk_at dksX5_isBusiness_1 3 rfl rfl)
theorem dX5_isBusiness_28 : decode cX5_isBusiness 28 = .ok (.iload_n 2, 1) := dk_28 (dk_at dksX5_isBusiness_1 5 rfl rfl)
theorem dX5_isBusiness_29 : decode cX5_isBusiness 29 = .ok (.iadd, 1) := dk_96 (dk_at dksX5_isBusiness_1 6 rfl rfl)
theorem dX5_isBusiness_30 : decode cX5_isBusiness 30 = .ok (.iaload, 1) := dk_46 (dk_at dksX5_isBusiness_1 7 rfl rfl)
theorem dX5_isBusiness_31 : decode cX5_isBusiness 31 = .ok (.iload_n 1, 1) := dk_27 (dk_at dksX5_isBusiness_1 8 rfl rfl)
theorem dX5_isBusiness_32 : decode cX5_isBusiness 32 = .ok (.if_icmp .ne 5, 3) := dk_160 0 5 (dk_at dksX5_isBusiness_1 9 rfl rfl)
theorem dX5_isBusiness_35 : decode cX5_isBusiness 35 = .ok (.iconst 0, 1) := dk_3 (dk_at dksX5_isBusiness_1 12 rfl rfl)
theorem dX5_isBusiness_36 : decode cX5_isBusiness 36 = .ok (.ireturn, 1) := dk_172 (dk_at dksX5_isBusiness_1 13 rfl rfl)
theorem dX5_isBusiness_37 : decode cX5_isBusiness 37 = .ok (.iinc 2 1, 3) := dk_132 2 1 (dk_at dksX5_isBusiness_1 14 rfl rfl)
theorem dX5_isBusiness_40 : decode cX5_isBusiness 40 = .ok (.goto (-28), 3) := dk_167 255 228 (dk_at dksX5_isBusiness_1 17 rfl rfl)
theorem dX5_isBusiness_43 : decode cX5_isBusiness 43 = .ok (.iconst 1, 1) := dk_4 (dk_at dksX5_isBusiness_1 20 rfl rfl)
theorem dX5_isBusiness_44 : decode cX5_isBusiness 44 = .ok (.ireturn, 1) := dk_172 (dk_at dksX5_isBusiness_1 21 rfl rfl)
abbrev cX5_extended : ByteArray := prog_14_method_35_code
def yX5_extended : MethodName := ⟨RX5, "extended", "(I)I"⟩
def dkwX5_extended_1 : List UInt8 := [153, 0, 7, 3, 167, 0, 8, 42, 27, 182, 0, 170, 172]
abbrev dktX5_extended_1 : List UInt8 := dkwX5_extended_1 ++ []
def dkwX5_extended_0 : List UInt8 := [42, 3, 181, 0, 32, 42, 27, 184, 0, 173, 154, 0, 7, 4, 167, 0, 4, 3, 4, 182, 0, 153]
abbrev dktX5_extended_0 : List UInt8 := dkwX5_extended_0 ++ dktX5_extended_1
theorem dksX5_extended_0 : cX5_extended.data.toList.drop 0 = dktX5_extended_0 := by decide +kernel
theorem dksX5_extended_1 : cX5_extended.data.toList.drop 22 = dktX5_extended_1 := dk_seg dksX5_extended_0 22 rfl rfl
theorem dX5_extended_0 : decode cX5_extended 0 = .ok (.aload_n 0, 1) := dk_42 (dk_at dksX5_extended_0 0 rfl rfl)
theorem dX5_extended_1 : decode cX5_extended 1 = .ok (.iconst 0, 1) := dk_3 (dk_at dksX5_extended_0 1 rfl rfl)
theorem dX5_extended_2 : decode cX5_extended 2 = .ok (.putfield 32, 3) := dk_181 0 32 (dk_at dksX5_extended_0 2 rfl rfl)
theorem dX5_extended_5 : decode cX5_extended 5 = .ok (.aload_n 0, 1) := dk_42 (dk_at dksX5_extended_0 5 rfl rfl)
theorem dX5_extended_6 : decode cX5_extended 6 = .ok (.iload_n 1, 1) := dk_27 (dk_at dksX5_extended_0 6 rfl rfl)
theorem dX5_extended_7 : decode cX5_extended 7 = .ok (.invokestatic 173, 3) := dk_184 0 173 (dk_at dksX5_extended_0 7 rfl rfl)
theorem dX5_extended_10 : decode cX5_extended 10 = .ok (.ifCond .ne 7, 3) := dk_154 0 7 (dk_at dksX5_extended_0 10 rfl rfl)
theorem dX5_extended_13 : decode cX5_extended 13 = .ok (.iconst 1, 1) := dk_4 (dk_at dksX5_extended_0 13 rfl rfl)
theorem dX5_extended_14 : decode cX5_extended 14 = .ok (.goto 4, 3) := dk_167 0 4 (dk_at dksX5_extended_0 14 rfl rfl)
theorem dX5_extended_17 : decode cX5_extended 17 = .ok (.iconst 0, 1) := dk_3 (dk_at dksX5_extended_0 17 rfl rfl)
theorem dX5_extended_18 : decode cX5_extended 18 = .ok (.iconst 1, 1) := dk_4 (dk_at dksX5_extended_0 18 rfl rfl)
theorem dX5_extended_19 : decode cX5_extended 19 = .ok (.invokevirtual 153, 3) := dk_182 0 153 (dk_at dksX5_extended_0 19 rfl rfl)
theorem dX5_extended_22 : decode cX5_extended 22 = .ok (.ifCond .eq 7, 3) := dk_153 0 7 (dk_at dksX5_extended_1 0 rfl rfl)
theorem dX5_extended_25 : decode cX5_extended 25 = .ok (.iconst 0, 1) := dk_3 (dk_at dksX5_extended_1 3 rfl rfl)
theorem dX5_extended_26 : decode cX5_extended 26 = .ok (.goto 8, 3) := dk_167 0 8 (dk_at dksX5_extended_1 4 rfl rfl)
theorem dX5_extended_29 : decode cX5_extended 29 = .ok (.aload_n 0, 1) := dk_42 (dk_at dksX5_extended_1 7 rfl rfl)
theorem dX5_extended_30 : decode cX5_extended 30 = .ok (.iload_n 1, 1) := dk_27 (dk_at dksX5_extended_1 8 rfl rfl)
theorem dX5_extended_31 : decode cX5_extended 31 = .ok (.invokevirtual 170, 3) := dk_182 0 170 (dk_at dksX5_extended_1 9 rfl rfl)
theorem dX5_extended_34 : decode cX5_extended 34 = .ok (.ireturn, 1) := dk_172 (dk_at dksX5_extended_1 12 rfl rfl)
abbrev cX5_extend : ByteArray := prog_14_method_30_code
def yX5_extend : MethodName := ⟨RX5, "extend", "(I)I"⟩
def dkwX5_extend_0 : List UInt8 := [27, 61, 42, 28, 182, 0, 167, 154, 0, 9, 132, 2, 1, 167, 255, 245, 28, 172]
abbrev dktX5_extend_0 : List UInt8 := dkwX5_extend_0 ++ []
theorem dksX5_extend_0 : cX5_extend.data.toList.drop 0 = dktX5_extend_0 := by decide +kernel
theorem dX5_extend_0 : decode cX5_extend 0 = .ok (.iload_n 1, 1) := dk_27 (dk_at dksX5_extend_0 0 rfl rfl)
theorem dX5_extend_1 : decode cX5_extend 1 = .ok (.istore_n 2, 1) := dk_61 (dk_at dksX5_extend_0 1 rfl rfl)
theorem dX5_extend_2 : decode cX5_extend 2 = .ok (.aload_n 0, 1) := dk_42 (dk_at dksX5_extend_0 2 rfl rfl)
theorem dX5_extend_3 : decode cX5_extend 3 = .ok (.iload_n 2, 1) := dk_28 (dk_at dksX5_extend_0 3 rfl rfl)
theorem dX5_extend_4 : decode cX5_extend 4 = .ok (.invokevirtual 167, 3) := dk_182 0 167 (dk_at dksX5_extend_0 4 rfl rfl)
theorem dX5_extend_7 : decode cX5_extend 7 = .ok (.ifCond .ne 9, 3) := dk_154 0 9 (dk_at dksX5_extend_0 7 rfl rfl)
theorem dX5_extend_10 : decode cX5_extend 10 = .ok (.iinc 2 1, 3) := dk_132 2 1 (dk_at dksX5_extend_0 10 rfl rfl)
theorem dX5_extend_13 : decode cX5_extend 13 = .ok (.goto (-11), 3) := dk_167 255 245 (dk_at dksX5_extend_0 13 rfl rfl)
theorem dX5_extend_16 : decode cX5_extend 16 = .ok (.iload_n 2, 1) := dk_28 (dk_at dksX5_extend_0 16 rfl rfl)
theorem dX5_extend_17 : decode cX5_extend 17 = .ok (.ireturn, 1) := dk_172 (dk_at dksX5_extend_0 17 rfl rfl)
abbrev cX5_addBusinessDays : ByteArray := prog_14_method_36_code
def yX5_addBusinessDays : MethodName := ⟨RX5, "addBusinessDays", "(II)I"⟩
def dkwX5_addBusinessDays_1 : List UInt8 := [167, 0, 4, 3, 4, 182, 0, 153, 153, 0, 7, 3, 167, 0, 9, 42, 27, 28, 182, 0, 176, 172]
abbrev dktX5_addBusinessDays_1 : List UInt8 := dkwX5_addBusinessDays_1 ++ []
def dkwX5_addBusinessDays_0 : List UInt8 := [42, 3, 181, 0, 32, 42, 27, 184, 0, 173, 153, 0, 13, 28, 3, 16, 100, 184, 0, 54, 154, 0, 7, 4]
abbrev dktX5_addBusinessDays_0 : List UInt8 := dkwX5_addBusinessDays_0 ++ dktX5_addBusinessDays_1
theorem dksX5_addBusinessDays_0 : cX5_addBusinessDays.data.toList.drop 0 = dktX5_addBusinessDays_0 := by decide +kernel
theorem dksX5_addBusinessDays_1 : cX5_addBusinessDays.data.toList.drop 24 = dktX5_addBusinessDays_1 := dk_seg dksX5_addBusinessDays_0 24 rfl rfl
theorem dX5_addBusinessDays_0 : decode cX5_addBusinessDays 0 = .ok (.aload_n 0, 1) := dk_42 (dk_at dksX5_addBusinessDays_0 0 rfl rfl)
theorem dX5_addBusinessDays_1 : decode cX5_addBusinessDays 1 = .ok (.iconst 0, 1) := dk_3 (dk_at dksX5_addBusinessDays_0 1 rfl rfl)
theorem dX5_addBusinessDays_2 : decode cX5_addBusinessDays 2 = .ok (.putfield 32, 3) := dk_181 0 32 (dk_at dksX5_addBusinessDays_0 2 rfl rfl)
theorem dX5_addBusinessDays_5 : decode cX5_addBusinessDays 5 = .ok (.aload_n 0, 1) := dk_42 (dk_at dksX5_addBusinessDays_0 5 rfl rfl)
theorem dX5_addBusinessDays_6 : decode cX5_addBusinessDays 6 = .ok (.iload_n 1, 1) := dk_27 (dk_at dksX5_addBusinessDays_0 6 rfl rfl)
theorem dX5_addBusinessDays_7 : decode cX5_addBusinessDays 7 = .ok (.invokestatic 173, 3) := dk_184 0 173 (dk_at dksX5_addBusinessDays_0 7 rfl rfl)
theorem dX5_addBusinessDays_10 : decode cX5_addBusinessDays 10 = .ok (.ifCond .eq 13, 3) := dk_153 0 13 (dk_at dksX5_addBusinessDays_0 10 rfl rfl)
theorem dX5_addBusinessDays_13 : decode cX5_addBusinessDays 13 = .ok (.iload_n 2, 1) := dk_28 (dk_at dksX5_addBusinessDays_0 13 rfl rfl)
theorem dX5_addBusinessDays_14 : decode cX5_addBusinessDays 14 = .ok (.iconst 0, 1) := dk_3 (dk_at dksX5_addBusinessDays_0 14 rfl rfl)
theorem dX5_addBusinessDays_15 : decode cX5_addBusinessDays 15 = .ok (.bipush 100, 2) := dk_16 100 (dk_at dksX5_addBusinessDays_0 15 rfl rfl)
theorem dX5_addBusinessDays_17 : decode cX5_addBusinessDays 17 = .ok (.invokestatic 54, 3) := dk_184 0 54 (dk_at dksX5_addBusinessDays_0 17 rfl rfl)
theorem dX5_addBusinessDays_20 : decode cX5_addBusinessDays 20 = .ok (.ifCond .ne 7, 3) := dk_154 0 7 (dk_at dksX5_addBusinessDays_0 20 rfl rfl)
theorem dX5_addBusinessDays_23 : decode cX5_addBusinessDays 23 = .ok (.iconst 1, 1) := dk_4 (dk_at dksX5_addBusinessDays_0 23 rfl rfl)
theorem dX5_addBusinessDays_24 : decode cX5_addBusinessDays 24 = .ok (.goto 4, 3) := dk_167 0 4 (dk_at dksX5_addBusinessDays_1 0 rfl rfl)
theorem dX5_addBusinessDays_27 : decode cX5_addBusinessDays 27 = .ok (.iconst 0, 1) := dk_3 (dk_at dksX5_addBusinessDays_1 3 rfl rfl)
theorem dX5_addBusinessDays_28 : decode cX5_addBusinessDays 28 = .ok (.iconst 1, 1) := dk_4 (dk_at dksX5_addBusinessDays_1 4 rfl rfl)
theorem dX5_addBusinessDays_29 : decode cX5_addBusinessDays 29 = .ok (.invokevirtual 153, 3) := dk_182 0 153 (dk_at dksX5_addBusinessDays_1 5 rfl rfl)
theorem dX5_addBusinessDays_32 : decode cX5_addBusinessDays 32 = .ok (.ifCond .eq 7, 3) := dk_153 0 7 (dk_at dksX5_addBusinessDays_1 8 rfl rfl)
theorem dX5_addBusinessDays_35 : decode cX5_addBusinessDays 35 = .ok (.iconst 0, 1) := dk_3 (dk_at dksX5_addBusinessDays_1 11 rfl rfl)
theorem dX5_addBusinessDays_36 : decode cX5_addBusinessDays 36 = .ok (.goto 9, 3) := dk_167 0 9 (dk_at dksX5_addBusinessDays_1 12 rfl rfl)
theorem dX5_addBusinessDays_39 : decode cX5_addBusinessDays 39 = .ok (.aload_n 0, 1) := dk_42 (dk_at dksX5_addBusinessDays_1 15 rfl rfl)
theorem dX5_addBusinessDays_40 : decode cX5_addBusinessDays 40 = .ok (.iload_n 1, 1) := dk_27 (dk_at dksX5_addBusinessDays_1 16 rfl rfl)
theorem dX5_addBusinessDays_41 : decode cX5_addBusinessDays 41 = .ok (.iload_n 2, 1) := dk_28 (dk_at dksX5_addBusinessDays_1 17 rfl rfl)
theorem dX5_addBusinessDays_42 : decode cX5_addBusinessDays 42 = .ok (.invokevirtual 176, 3) := dk_182 0 176 (dk_at dksX5_addBusinessDays_1 18 rfl rfl)
theorem dX5_addBusinessDays_45 : decode cX5_addBusinessDays 45 = .ok (.ireturn, 1) := dk_172 (dk_at dksX5_addBusinessDays_1 21 rfl rfl)
abbrev cX5_add : ByteArray := prog_14_method_31_code
def yX5_add : MethodName := ⟨RX5, "add", "(II)I"⟩
def dkwX5_add_1 : List UInt8 := [29, 172]
abbrev dktX5_add_1 : List UInt8 := dkwX5_add_1 ++ []
def dkwX5_add_0 : List UInt8 := [27, 62, 28, 54, 4, 21, 4, 158, 0, 17, 42, 29, 4, 96, 182, 0, 170, 62, 132, 4, 255, 167, 255, 240]
abbrev dktX5_add_0 : List UInt8 := dkwX5_add_0 ++ dktX5_add_1
theorem dksX5_add_0 : cX5_add.data.toList.drop 0 = dktX5_add_0 := by decide +kernel
theorem dksX5_add_1 : cX5_add.data.toList.drop 24 = dktX5_add_1 := dk_seg dksX5_add_0 24 rfl rfl
theorem dX5_add_0 : decode cX5_add 0 = .ok (.iload_n 1, 1) := dk_27 (dk_at dksX5_add_0 0 rfl rfl)
theorem dX5_add_1 : decode cX5_add 1 = .ok (.istore_n 3, 1) := dk_62 (dk_at dksX5_add_0 1 rfl rfl)
theorem dX5_add_2 : decode cX5_add 2 = .ok (.iload_n 2, 1) := dk_28 (dk_at dksX5_add_0 2 rfl rfl)
theorem dX5_add_3 : decode cX5_add 3 = .ok (.istore 4, 2) := dk_54 4 (dk_at dksX5_add_0 3 rfl rfl)
theorem dX5_add_5 : decode cX5_add 5 = .ok (.iload 4, 2) := dk_21 4 (dk_at dksX5_add_0 5 rfl rfl)
theorem dX5_add_7 : decode cX5_add 7 = .ok (.ifCond .le 17, 3) := dk_158 0 17 (dk_at dksX5_add_0 7 rfl rfl)
theorem dX5_add_10 : decode cX5_add 10 = .ok (.aload_n 0, 1) := dk_42 (dk_at dksX5_add_0 10 rfl rfl)
theorem dX5_add_11 : decode cX5_add 11 = .ok (.iload_n 3, 1) := dk_29 (dk_at dksX5_add_0 11 rfl rfl)
theorem dX5_add_12 : decode cX5_add 12 = .ok (.iconst 1, 1) := dk_4 (dk_at dksX5_add_0 12 rfl rfl)
theorem dX5_add_13 : decode cX5_add 13 = .ok (.iadd, 1) := dk_96 (dk_at dksX5_add_0 13 rfl rfl)
theorem dX5_add_14 : decode cX5_add 14 = .ok (.invokevirtual 170, 3) := dk_182 0 170 (dk_at dksX5_add_0 14 rfl rfl)
theorem dX5_add_17 : decode cX5_add 17 = .ok (.istore_n 3, 1) := dk_62 (dk_at dksX5_add_0 17 rfl rfl)
theorem dX5_add_18 : decode cX5_add 18 = .ok (.iinc 4 (-1), 3) := dk_132 4 255 (dk_at dksX5_add_0 18 rfl rfl)
theorem dX5_add_21 : decode cX5_add 21 = .ok (.goto (-16), 3) := dk_167 255 240 (dk_at dksX5_add_0 21 rfl rfl)
theorem dX5_add_24 : decode cX5_add 24 = .ok (.iload_n 3, 1) := dk_29 (dk_at dksX5_add_1 0 rfl rfl)
theorem dX5_add_25 : decode cX5_add 25 = .ok (.ireturn, 1) := dk_172 (dk_at dksX5_add_1 1 rfl rfl)
abbrev cX5_businessDays : ByteArray := prog_14_method_37_code
def yX5_businessDays : MethodName := ⟨RX5, "businessDays", "(II)I"⟩
def dkwX5_businessDays_2 : List UInt8 := [21, 4, 182, 0, 167, 153, 0, 7, 4, 167, 0, 4, 3, 96, 62, 132, 4, 1, 167, 255, 230, 29, 172]
abbrev dktX5_businessDays_2 : List UInt8 := dkwX5_businessDays_2 ++ []
def dkwX5_businessDays_1 : List UInt8 := [3, 4, 182, 0, 153, 153, 0, 5, 3, 172, 3, 62, 27, 54, 4, 21, 4, 28, 162, 0, 26, 29, 42]
abbrev dktX5_businessDays_1 : List UInt8 := dkwX5_businessDays_1 ++ dktX5_businessDays_2
def dkwX5_businessDays_0 : List UInt8 := [42, 3, 181, 0, 32, 42, 27, 184, 0, 173, 153, 0, 10, 28, 184, 0, 173, 154, 0, 7, 4, 167, 0, 4]
abbrev dktX5_businessDays_0 : List UInt8 := dkwX5_businessDays_0 ++ dktX5_businessDays_1
theorem dksX5_businessDays_0 : cX5_businessDays.data.toList.drop 0 = dktX5_businessDays_0 := by decide +kernel
theorem dksX5_businessDays_1 : cX5_businessDays.data.toList.drop 24 = dktX5_businessDays_1 := dk_seg dksX5_businessDays_0 24 rfl rfl
theorem dksX5_businessDays_2 : cX5_businessDays.data.toList.drop 47 = dktX5_businessDays_2 := dk_seg dksX5_businessDays_1 23 rfl rfl
theorem dX5_businessDays_0 : decode cX5_businessDays 0 = .ok (.aload_n 0, 1) := dk_42 (dk_at dksX5_businessDays_0 0 rfl rfl)
theorem dX5_businessDays_1 : decode cX5_businessDays 1 = .ok (.iconst 0, 1) := dk_3 (dk_at dksX5_businessDays_0 1 rfl rfl)
theorem dX5_businessDays_2 : decode cX5_businessDays 2 = .ok (.putfield 32, 3) := dk_181 0 32 (dk_at dksX5_businessDays_0 2 rfl rfl)
theorem dX5_businessDays_5 : decode cX5_businessDays 5 = .ok (.aload_n 0, 1) := dk_42 (dk_at dksX5_businessDays_0 5 rfl rfl)
theorem dX5_businessDays_6 : decode cX5_businessDays 6 = .ok (.iload_n 1, 1) := dk_27 (dk_at dksX5_businessDays_0 6 rfl rfl)
theorem dX5_businessDays_7 : decode cX5_businessDays 7 = .ok (.invokestatic 173, 3) := dk_184 0 173 (dk_at dksX5_businessDays_0 7 rfl rfl)
theorem dX5_businessDays_10 : decode cX5_businessDays 10 = .ok (.ifCond .eq 10, 3) := dk_153 0 10 (dk_at dksX5_businessDays_0 10 rfl rfl)
theorem dX5_businessDays_13 : decode cX5_businessDays 13 = .ok (.iload_n 2, 1) := dk_28 (dk_at dksX5_businessDays_0 13 rfl rfl)
theorem dX5_businessDays_14 : decode cX5_businessDays 14 = .ok (.invokestatic 173, 3) := dk_184 0 173 (dk_at dksX5_businessDays_0 14 rfl rfl)
theorem dX5_businessDays_17 : decode cX5_businessDays 17 = .ok (.ifCond .ne 7, 3) := dk_154 0 7 (dk_at dksX5_businessDays_0 17 rfl rfl)
theorem dX5_businessDays_20 : decode cX5_businessDays 20 = .ok (.iconst 1, 1) := dk_4 (dk_at dksX5_businessDays_0 20 rfl rfl)
theorem dX5_businessDays_21 : decode cX5_businessDays 21 = .ok (.goto 4, 3) := dk_167 0 4 (dk_at dksX5_businessDays_0 21 rfl rfl)
theorem dX5_businessDays_24 : decode cX5_businessDays 24 = .ok (.iconst 0, 1) := dk_3 (dk_at dksX5_businessDays_1 0 rfl rfl)
theorem dX5_businessDays_25 : decode cX5_businessDays 25 = .ok (.iconst 1, 1) := dk_4 (dk_at dksX5_businessDays_1 1 rfl rfl)
theorem dX5_businessDays_26 : decode cX5_businessDays 26 = .ok (.invokevirtual 153, 3) := dk_182 0 153 (dk_at dksX5_businessDays_1 2 rfl rfl)
theorem dX5_businessDays_29 : decode cX5_businessDays 29 = .ok (.ifCond .eq 5, 3) := dk_153 0 5 (dk_at dksX5_businessDays_1 5 rfl rfl)
theorem dX5_businessDays_32 : decode cX5_businessDays 32 = .ok (.iconst 0, 1) := dk_3 (dk_at dksX5_businessDays_1 8 rfl rfl)
theorem dX5_businessDays_33 : decode cX5_businessDays 33 = .ok (.ireturn, 1) := dk_172 (dk_at dksX5_businessDays_1 9 rfl rfl)
theorem dX5_businessDays_34 : decode cX5_businessDays 34 = .ok (.iconst 0, 1) := dk_3 (dk_at dksX5_businessDays_1 10 rfl rfl)
theorem dX5_businessDays_35 : decode cX5_businessDays 35 = .ok (.istore_n 3, 1) := dk_62 (dk_at dksX5_businessDays_1 11 rfl rfl)
theorem dX5_businessDays_36 : decode cX5_businessDays 36 = .ok (.iload_n 1, 1) := dk_27 (dk_at dksX5_businessDays_1 12 rfl rfl)
theorem dX5_businessDays_37 : decode cX5_businessDays 37 = .ok (.istore 4, 2) := dk_54 4 (dk_at dksX5_businessDays_1 13 rfl rfl)
theorem dX5_businessDays_39 : decode cX5_businessDays 39 = .ok (.iload 4, 2) := dk_21 4 (dk_at dksX5_businessDays_1 15 rfl rfl)
theorem dX5_businessDays_41 : decode cX5_businessDays 41 = .ok (.iload_n 2, 1) := dk_28 (dk_at dksX5_businessDays_1 17 rfl rfl)
theorem dX5_businessDays_42 : decode cX5_businessDays 42 = .ok (.if_icmp .ge 26, 3) := dk_162 0 26 (dk_at dksX5_businessDays_1 18 rfl rfl)
theorem dX5_businessDays_45 : decode cX5_businessDays 45 = .ok (.iload_n 3, 1) := dk_29 (dk_at dksX5_businessDays_1 21 rfl rfl)
theorem dX5_businessDays_46 : decode cX5_businessDays 46 = .ok (.aload_n 0, 1) := dk_42 (dk_at dksX5_businessDays_1 22 rfl rfl)
theorem dX5_businessDays_47 : decode cX5_businessDays 47 = .ok (.iload 4, 2) := dk_21 4 (dk_at dksX5_businessDays_2 0 rfl rfl)
theorem dX5_businessDays_49 : decode cX5_businessDays 49 = .ok (.invokevirtual 167, 3) := dk_182 0 167 (dk_at dksX5_businessDays_2 2 rfl rfl)
theorem dX5_businessDays_52 : decode cX5_businessDays 52 = .ok (.ifCond .eq 7, 3) := dk_153 0 7 (dk_at dksX5_businessDays_2 5 rfl rfl)
theorem dX5_businessDays_55 : decode cX5_businessDays 55 = .ok (.iconst 1, 1) := dk_4 (dk_at dksX5_businessDays_2 8 rfl rfl)
theorem dX5_businessDays_56 : decode cX5_businessDays 56 = .ok (.goto 4, 3) := dk_167 0 4 (dk_at dksX5_businessDays_2 9 rfl rfl)
theorem dX5_businessDays_59 : decode cX5_businessDays 59 = .ok (.iconst 0, 1) := dk_3 (dk_at dksX5_businessDays_2 12 rfl rfl)
theorem dX5_businessDays_60 : decode cX5_businessDays 60 = .ok (.iadd, 1) := dk_96 (dk_at dksX5_businessDays_2 13 rfl rfl)
theorem dX5_businessDays_61 : decode cX5_businessDays 61 = .ok (.istore_n 3, 1) := dk_62 (dk_at dksX5_businessDays_2 14 rfl rfl)
theorem dX5_businessDays_62 : decode cX5_businessDays 62 = .ok (.iinc 4 1, 3) := dk_132 4 1 (dk_at dksX5_businessDays_2 15 rfl rfl)
theorem dX5_businessDays_65 : decode cX5_businessDays 65 = .ok (.goto (-26), 3) := dk_167 255 230 (dk_at dksX5_businessDays_2 18 rfl rfl)
theorem dX5_businessDays_68 : decode cX5_businessDays 68 = .ok (.iload_n 3, 1) := dk_29 (dk_at dksX5_businessDays_2 21 rfl rfl)
theorem dX5_businessDays_69 : decode cX5_businessDays 69 = .ok (.ireturn, 1) := dk_172 (dk_at dksX5_businessDays_2 22 rfl rfl)
abbrev cX5_creditCount : ByteArray := prog_14_method_40_code
def yX5_creditCount : MethodName := ⟨RX5, "creditCount", "()I"⟩
def dkwX5_creditCount_0 : List UInt8 := [42, 3, 181, 0, 32, 42, 180, 0, 17, 3, 46, 172]
abbrev dktX5_creditCount_0 : List UInt8 := dkwX5_creditCount_0 ++ []
theorem dksX5_creditCount_0 : cX5_creditCount.data.toList.drop 0 = dktX5_creditCount_0 := by decide +kernel
theorem dX5_creditCount_0 : decode cX5_creditCount 0 = .ok (.aload_n 0, 1) := dk_42 (dk_at dksX5_creditCount_0 0 rfl rfl)
theorem dX5_creditCount_1 : decode cX5_creditCount 1 = .ok (.iconst 0, 1) := dk_3 (dk_at dksX5_creditCount_0 1 rfl rfl)
theorem dX5_creditCount_2 : decode cX5_creditCount 2 = .ok (.putfield 32, 3) := dk_181 0 32 (dk_at dksX5_creditCount_0 2 rfl rfl)
theorem dX5_creditCount_5 : decode cX5_creditCount 5 = .ok (.aload_n 0, 1) := dk_42 (dk_at dksX5_creditCount_0 5 rfl rfl)
theorem dX5_creditCount_6 : decode cX5_creditCount 6 = .ok (.getfield 17, 3) := dk_180 0 17 (dk_at dksX5_creditCount_0 6 rfl rfl)
theorem dX5_creditCount_9 : decode cX5_creditCount 9 = .ok (.iconst 0, 1) := dk_3 (dk_at dksX5_creditCount_0 9 rfl rfl)
theorem dX5_creditCount_10 : decode cX5_creditCount 10 = .ok (.iaload, 1) := dk_46 (dk_at dksX5_creditCount_0 10 rfl rfl)
theorem dX5_creditCount_11 : decode cX5_creditCount 11 = .ok (.ireturn, 1) := dk_172 (dk_at dksX5_creditCount_0 11 rfl rfl)
abbrev cX5_presentationCount : ByteArray := prog_14_method_41_code
def yX5_presentationCount : MethodName := ⟨RX5, "presentationCount", "()I"⟩
def dkwX5_presentationCount_0 : List UInt8 := [42, 3, 181, 0, 32, 42, 180, 0, 17, 4, 46, 172]
abbrev dktX5_presentationCount_0 : List UInt8 := dkwX5_presentationCount_0 ++ []
theorem dksX5_presentationCount_0 : cX5_presentationCount.data.toList.drop 0 = dktX5_presentationCount_0 := by decide +kernel
theorem dX5_presentationCount_0 : decode cX5_presentationCount 0 = .ok (.aload_n 0, 1) := dk_42 (dk_at dksX5_presentationCount_0 0 rfl rfl)
theorem dX5_presentationCount_1 : decode cX5_presentationCount 1 = .ok (.iconst 0, 1) := dk_3 (dk_at dksX5_presentationCount_0 1 rfl rfl)
theorem dX5_presentationCount_2 : decode cX5_presentationCount 2 = .ok (.putfield 32, 3) := dk_181 0 32 (dk_at dksX5_presentationCount_0 2 rfl rfl)
theorem dX5_presentationCount_5 : decode cX5_presentationCount 5 = .ok (.aload_n 0, 1) := dk_42 (dk_at dksX5_presentationCount_0 5 rfl rfl)
theorem dX5_presentationCount_6 : decode cX5_presentationCount 6 = .ok (.getfield 17, 3) := dk_180 0 17 (dk_at dksX5_presentationCount_0 6 rfl rfl)
theorem dX5_presentationCount_9 : decode cX5_presentationCount 9 = .ok (.iconst 1, 1) := dk_4 (dk_at dksX5_presentationCount_0 9 rfl rfl)
theorem dX5_presentationCount_10 : decode cX5_presentationCount 10 = .ok (.iaload, 1) := dk_46 (dk_at dksX5_presentationCount_0 10 rfl rfl)
theorem dX5_presentationCount_11 : decode cX5_presentationCount 11 = .ok (.ireturn, 1) := dk_172 (dk_at dksX5_presentationCount_0 11 rfl rfl)
abbrev cX5_parent : ByteArray := prog_14_method_42_code
def yX5_parent : MethodName := ⟨RX5, "parent", "(I)I"⟩
def dkwX5_parent_1 : List UInt8 := [184, 0, 126, 16, 10, 96, 46, 172]
abbrev dktX5_parent_1 : List UInt8 := dkwX5_parent_1 ++ []
def dkwX5_parent_0 : List UInt8 := [42, 3, 181, 0, 32, 42, 27, 182, 0, 179, 153, 0, 7, 3, 167, 0, 15, 42, 180, 0, 17, 27]
abbrev dktX5_parent_0 : List UInt8 := dkwX5_parent_0 ++ dktX5_parent_1
theorem dksX5_parent_0 : cX5_parent.data.toList.drop 0 = dktX5_parent_0 := by decide +kernel
theorem dksX5_parent_1 : cX5_parent.data.toList.drop 22 = dktX5_parent_1 := dk_seg dksX5_parent_0 22 rfl rfl
theorem dX5_parent_0 : decode cX5_parent 0 = .ok (.aload_n 0, 1) := dk_42 (dk_at dksX5_parent_0 0 rfl rfl)
theorem dX5_parent_1 : decode cX5_parent 1 = .ok (.iconst 0, 1) := dk_3 (dk_at dksX5_parent_0 1 rfl rfl)
theorem dX5_parent_2 : decode cX5_parent 2 = .ok (.putfield 32, 3) := dk_181 0 32 (dk_at dksX5_parent_0 2 rfl rfl)
theorem dX5_parent_5 : decode cX5_parent 5 = .ok (.aload_n 0, 1) := dk_42 (dk_at dksX5_parent_0 5 rfl rfl)
theorem dX5_parent_6 : decode cX5_parent 6 = .ok (.iload_n 1, 1) := dk_27 (dk_at dksX5_parent_0 6 rfl rfl)
theorem dX5_parent_7 : decode cX5_parent 7 = .ok (.invokevirtual 179, 3) := dk_182 0 179 (dk_at dksX5_parent_0 7 rfl rfl)
theorem dX5_parent_10 : decode cX5_parent 10 = .ok (.ifCond .eq 7, 3) := dk_153 0 7 (dk_at dksX5_parent_0 10 rfl rfl)
theorem dX5_parent_13 : decode cX5_parent 13 = .ok (.iconst 0, 1) := dk_3 (dk_at dksX5_parent_0 13 rfl rfl)
theorem dX5_parent_14 : decode cX5_parent 14 = .ok (.goto 15, 3) := dk_167 0 15 (dk_at dksX5_parent_0 14 rfl rfl)
theorem dX5_parent_17 : decode cX5_parent 17 = .ok (.aload_n 0, 1) := dk_42 (dk_at dksX5_parent_0 17 rfl rfl)
theorem dX5_parent_18 : decode cX5_parent 18 = .ok (.getfield 17, 3) := dk_180 0 17 (dk_at dksX5_parent_0 18 rfl rfl)
theorem dX5_parent_21 : decode cX5_parent 21 = .ok (.iload_n 1, 1) := dk_27 (dk_at dksX5_parent_0 21 rfl rfl)
theorem dX5_parent_22 : decode cX5_parent 22 = .ok (.invokestatic 126, 3) := dk_184 0 126 (dk_at dksX5_parent_1 0 rfl rfl)
theorem dX5_parent_25 : decode cX5_parent 25 = .ok (.bipush 10, 2) := dk_16 10 (dk_at dksX5_parent_1 3 rfl rfl)
theorem dX5_parent_27 : decode cX5_parent 27 = .ok (.iadd, 1) := dk_96 (dk_at dksX5_parent_1 5 rfl rfl)
theorem dX5_parent_28 : decode cX5_parent 28 = .ok (.iaload, 1) := dk_46 (dk_at dksX5_parent_1 6 rfl rfl)
theorem dX5_parent_29 : decode cX5_parent 29 = .ok (.ireturn, 1) := dk_172 (dk_at dksX5_parent_1 7 rfl rfl)
abbrev cX5_noCredit : ByteArray := prog_14_method_38_code
def yX5_noCredit : MethodName := ⟨RX5, "noCredit", "(I)Z"⟩
def dkwX5_noCredit_1 : List UInt8 := [182, 0, 153, 172]
abbrev dktX5_noCredit_1 : List UInt8 := dkwX5_noCredit_1 ++ []
def dkwX5_noCredit_0 : List UInt8 := [42, 27, 3, 42, 180, 0, 17, 3, 46, 4, 100, 184, 0, 54, 154, 0, 7, 4, 167, 0, 4, 3, 4]
abbrev dktX5_noCredit_0 : List UInt8 := dkwX5_noCredit_0 ++ dktX5_noCredit_1
theorem dksX5_noCredit_0 : cX5_noCredit.data.toList.drop 0 = dktX5_noCredit_0 := by decide +kernel
theorem dksX5_noCredit_1 : cX5_noCredit.data.toList.drop 23 = dktX5_noCredit_1 := dk_seg dksX5_noCredit_0 23 rfl rfl
theorem dX5_noCredit_0 : decode cX5_noCredit 0 = .ok (.aload_n 0, 1) := dk_42 (dk_at dksX5_noCredit_0 0 rfl rfl)
theorem dX5_noCredit_1 : decode cX5_noCredit 1 = .ok (.iload_n 1, 1) := dk_27 (dk_at dksX5_noCredit_0 1 rfl rfl)
theorem dX5_noCredit_2 : decode cX5_noCredit 2 = .ok (.iconst 0, 1) := dk_3 (dk_at dksX5_noCredit_0 2 rfl rfl)
theorem dX5_noCredit_3 : decode cX5_noCredit 3 = .ok (.aload_n 0, 1) := dk_42 (dk_at dksX5_noCredit_0 3 rfl rfl)
theorem dX5_noCredit_4 : decode cX5_noCredit 4 = .ok (.getfield 17, 3) := dk_180 0 17 (dk_at dksX5_noCredit_0 4 rfl rfl)
theorem dX5_noCredit_7 : decode cX5_noCredit 7 = .ok (.iconst 0, 1) := dk_3 (dk_at dksX5_noCredit_0 7 rfl rfl)
theorem dX5_noCredit_8 : decode cX5_noCredit 8 = .ok (.iaload, 1) := dk_46 (dk_at dksX5_noCredit_0 8 rfl rfl)
theorem dX5_noCredit_9 : decode cX5_noCredit 9 = .ok (.iconst 1, 1) := dk_4 (dk_at dksX5_noCredit_0 9 rfl rfl)
theorem dX5_noCredit_10 : decode cX5_noCredit 10 = .ok (.isub, 1) := dk_100 (dk_at dksX5_noCredit_0 10 rfl rfl)
theorem dX5_noCredit_11 : decode cX5_noCredit 11 = .ok (.invokestatic 54, 3) := dk_184 0 54 (dk_at dksX5_noCredit_0 11 rfl rfl)
theorem dX5_noCredit_14 : decode cX5_noCredit 14 = .ok (.ifCond .ne 7, 3) := dk_154 0 7 (dk_at dksX5_noCredit_0 14 rfl rfl)
theorem dX5_noCredit_17 : decode cX5_noCredit 17 = .ok (.iconst 1, 1) := dk_4 (dk_at dksX5_noCredit_0 17 rfl rfl)
theorem dX5_noCredit_18 : decode cX5_noCredit 18 = .ok (.goto 4, 3) := dk_167 0 4 (dk_at dksX5_noCredit_0 18 rfl rfl)
theorem dX5_noCredit_21 : decode cX5_noCredit 21 = .ok (.iconst 0, 1) := dk_3 (dk_at dksX5_noCredit_0 21 rfl rfl)
theorem dX5_noCredit_22 : decode cX5_noCredit 22 = .ok (.iconst 1, 1) := dk_4 (dk_at dksX5_noCredit_0 22 rfl rfl)
theorem dX5_noCredit_23 : decode cX5_noCredit 23 = .ok (.invokevirtual 153, 3) := dk_182 0 153 (dk_at dksX5_noCredit_1 0 rfl rfl)
theorem dX5_noCredit_26 : decode cX5_noCredit 26 = .ok (.ireturn, 1) := dk_172 (dk_at dksX5_noCredit_1 3 rfl rfl)
abbrev cX5_bound : ByteArray := prog_14_method_45_code
def yX5_bound : MethodName := ⟨RX5, "bound", "(IZ)I"⟩
def dkwX5_bound_1 : List UInt8 := [182, 0, 182, 167, 0, 8, 42, 27, 182, 0, 185, 172]
abbrev dktX5_bound_1 : List UInt8 := dkwX5_bound_1 ++ []
def dkwX5_bound_0 : List UInt8 := [42, 3, 181, 0, 32, 42, 27, 182, 0, 179, 153, 0, 7, 3, 167, 0, 20, 28, 153, 0, 11, 42, 27]
abbrev dktX5_bound_0 : List UInt8 := dkwX5_bound_0 ++ dktX5_bound_1
theorem dksX5_bound_0 : cX5_bound.data.toList.drop 0 = dktX5_bound_0 := by decide +kernel
theorem dksX5_bound_1 : cX5_bound.data.toList.drop 23 = dktX5_bound_1 := dk_seg dksX5_bound_0 23 rfl rfl
theorem dX5_bound_0 : decode cX5_bound 0 = .ok (.aload_n 0, 1) := dk_42 (dk_at dksX5_bound_0 0 rfl rfl)
theorem dX5_bound_1 : decode cX5_bound 1 = .ok (.iconst 0, 1) := dk_3 (dk_at dksX5_bound_0 1 rfl rfl)
theorem dX5_bound_2 : decode cX5_bound 2 = .ok (.putfield 32, 3) := dk_181 0 32 (dk_at dksX5_bound_0 2 rfl rfl)
theorem dX5_bound_5 : decode cX5_bound 5 = .ok (.aload_n 0, 1) := dk_42 (dk_at dksX5_bound_0 5 rfl rfl)
theorem dX5_bound_6 : decode cX5_bound 6 = .ok (.iload_n 1, 1) := dk_27 (dk_at dksX5_bound_0 6 rfl rfl)
theorem dX5_bound_7 : decode cX5_bound 7 = .ok (.invokevirtual 179, 3) := dk_182 0 179 (dk_at dksX5_bound_0 7 rfl rfl)
theorem dX5_bound_10 : decode cX5_bound 10 = .ok (.ifCond .eq 7, 3) := dk_153 0 7 (dk_at dksX5_bound_0 10 rfl rfl)
theorem dX5_bound_13 : decode cX5_bound 13 = .ok (.iconst 0, 1) := dk_3 (dk_at dksX5_bound_0 13 rfl rfl)
theorem dX5_bound_14 : decode cX5_bound 14 = .ok (.goto 20, 3) := dk_167 0 20 (dk_at dksX5_bound_0 14 rfl rfl)
theorem dX5_bound_17 : decode cX5_bound 17 = .ok (.iload_n 2, 1) := dk_28 (dk_at dksX5_bound_0 17 rfl rfl)
theorem dX5_bound_18 : decode cX5_bound 18 = .ok (.ifCond .eq 11, 3) := dk_153 0 11 (dk_at dksX5_bound_0 18 rfl rfl)
theorem dX5_bound_21 : decode cX5_bound 21 = .ok (.aload_n 0, 1) := dk_42 (dk_at dksX5_bound_0 21 rfl rfl)
theorem dX5_bound_22 : decode cX5_bound 22 = .ok (.iload_n 1, 1) := dk_27 (dk_at dksX5_bound_0 22 rfl rfl)
theorem dX5_bound_23 : decode cX5_bound 23 = .ok (.invokevirtual 182, 3) := dk_182 0 182 (dk_at dksX5_bound_1 0 rfl rfl)
theorem dX5_bound_26 : decode cX5_bound 26 = .ok (.goto 8, 3) := dk_167 0 8 (dk_at dksX5_bound_1 3 rfl rfl)
theorem dX5_bound_29 : decode cX5_bound 29 = .ok (.aload_n 0, 1) := dk_42 (dk_at dksX5_bound_1 6 rfl rfl)
theorem dX5_bound_30 : decode cX5_bound 30 = .ok (.iload_n 1, 1) := dk_27 (dk_at dksX5_bound_1 7 rfl rfl)
theorem dX5_bound_31 : decode cX5_bound 31 = .ok (.invokevirtual 185, 3) := dk_182 0 185 (dk_at dksX5_bound_1 8 rfl rfl)
theorem dX5_bound_34 : decode cX5_bound 34 = .ok (.ireturn, 1) := dk_172 (dk_at dksX5_bound_1 11 rfl rfl)
abbrev cX5_most : ByteArray := prog_14_method_43_code
def yX5_most : MethodName := ⟨RX5, "most", "(I)I"⟩
def dkwX5_most_1 : List UInt8 := [184, 0, 126, 4, 96, 46, 104, 16, 100, 108, 96, 172]
abbrev dktX5_most_1 : List UInt8 := dkwX5_most_1 ++ []
def dkwX5_most_0 : List UInt8 := [42, 180, 0, 17, 27, 184, 0, 126, 46, 42, 180, 0, 17, 27, 184, 0, 126, 46, 42, 180, 0, 17, 27]
abbrev dktX5_most_0 : List UInt8 := dkwX5_most_0 ++ dktX5_most_1
theorem dksX5_most_0 : cX5_most.data.toList.drop 0 = dktX5_most_0 := by decide +kernel
theorem dksX5_most_1 : cX5_most.data.toList.drop 23 = dktX5_most_1 := dk_seg dksX5_most_0 23 rfl rfl
theorem dX5_most_0 : decode cX5_most 0 = .ok (.aload_n 0, 1) := dk_42 (dk_at dksX5_most_0 0 rfl rfl)
theorem dX5_most_1 : decode cX5_most 1 = .ok (.getfield 17, 3) := dk_180 0 17 (dk_at dksX5_most_0 1 rfl rfl)
theorem dX5_most_4 : decode cX5_most 4 = .ok (.iload_n 1, 1) := dk_27 (dk_at dksX5_most_0 4 rfl rfl)
theorem dX5_most_5 : decode cX5_most 5 = .ok (.invokestatic 126, 3) := dk_184 0 126 (dk_at dksX5_most_0 5 rfl rfl)
theorem dX5_most_8 : decode cX5_most 8 = .ok (.iaload, 1) := dk_46 (dk_at dksX5_most_0 8 rfl rfl)
theorem dX5_most_9 : decode cX5_most 9 = .ok (.aload_n 0, 1) := dk_42 (dk_at dksX5_most_0 9 rfl rfl)
theorem dX5_most_10 : decode cX5_most 10 = .ok (.getfield 17, 3) := dk_180 0 17 (dk_at dksX5_most_0 10 rfl rfl)
theorem dX5_most_13 : decode cX5_most 13 = .ok (.iload_n 1, 1) := dk_27 (dk_at dksX5_most_0 13 rfl rfl)
theorem dX5_most_14 : decode cX5_most 14 = .ok (.invokestatic 126, 3) := dk_184 0 126 (dk_at dksX5_most_0 14 rfl rfl)
theorem dX5_most_17 : decode cX5_most 17 = .ok (.iaload, 1) := dk_46 (dk_at dksX5_most_0 17 rfl rfl)
theorem dX5_most_18 : decode cX5_most 18 = .ok (.aload_n 0, 1) := dk_42 (dk_at dksX5_most_0 18 rfl rfl)
theorem dX5_most_19 : decode cX5_most 19 = .ok (.getfield 17, 3) := dk_180 0 17 (dk_at dksX5_most_0 19 rfl rfl)
theorem dX5_most_22 : decode cX5_most 22 = .ok (.iload_n 1, 1) := dk_27 (dk_at dksX5_most_0 22 rfl rfl)
theorem dX5_most_23 : decode cX5_most 23 = .ok (.invokestatic 126, 3) := dk_184 0 126 (dk_at dksX5_most_1 0 rfl rfl)
theorem dX5_most_26 : decode cX5_most 26 = .ok (.iconst 1, 1) := dk_4 (dk_at dksX5_most_1 3 rfl rfl)
theorem dX5_most_27 : decode cX5_most 27 = .ok (.iadd, 1) := dk_96 (dk_at dksX5_most_1 4 rfl rfl)
theorem dX5_most_28 : decode cX5_most 28 = .ok (.iaload, 1) := dk_46 (dk_at dksX5_most_1 5 rfl rfl)
theorem dX5_most_29 : decode cX5_most 29 = .ok (.imul, 1) := dk_104 (dk_at dksX5_most_1 6 rfl rfl)
theorem dX5_most_30 : decode cX5_most 30 = .ok (.bipush 100, 2) := dk_16 100 (dk_at dksX5_most_1 7 rfl rfl)
theorem dX5_most_32 : decode cX5_most 32 = .ok (.idiv, 1) := dk_108 (dk_at dksX5_most_1 9 rfl rfl)
theorem dX5_most_33 : decode cX5_most 33 = .ok (.iadd, 1) := dk_96 (dk_at dksX5_most_1 10 rfl rfl)
theorem dX5_most_34 : decode cX5_most 34 = .ok (.ireturn, 1) := dk_172 (dk_at dksX5_most_1 11 rfl rfl)
abbrev cX5_least : ByteArray := prog_14_method_44_code
def yX5_least : MethodName := ⟨RX5, "least", "(I)I"⟩
def dkwX5_least_1 : List UInt8 := [184, 0, 126, 5, 96, 46, 104, 16, 100, 108, 100, 172]
abbrev dktX5_least_1 : List UInt8 := dkwX5_least_1 ++ []
def dkwX5_least_0 : List UInt8 := [42, 180, 0, 17, 27, 184, 0, 126, 46, 42, 180, 0, 17, 27, 184, 0, 126, 46, 42, 180, 0, 17, 27]
abbrev dktX5_least_0 : List UInt8 := dkwX5_least_0 ++ dktX5_least_1
theorem dksX5_least_0 : cX5_least.data.toList.drop 0 = dktX5_least_0 := by decide +kernel
theorem dksX5_least_1 : cX5_least.data.toList.drop 23 = dktX5_least_1 := dk_seg dksX5_least_0 23 rfl rfl
theorem dX5_least_0 : decode cX5_least 0 = .ok (.aload_n 0, 1) := dk_42 (dk_at dksX5_least_0 0 rfl rfl)
theorem dX5_least_1 : decode cX5_least 1 = .ok (.getfield 17, 3) := dk_180 0 17 (dk_at dksX5_least_0 1 rfl rfl)
theorem dX5_least_4 : decode cX5_least 4 = .ok (.iload_n 1, 1) := dk_27 (dk_at dksX5_least_0 4 rfl rfl)
theorem dX5_least_5 : decode cX5_least 5 = .ok (.invokestatic 126, 3) := dk_184 0 126 (dk_at dksX5_least_0 5 rfl rfl)
theorem dX5_least_8 : decode cX5_least 8 = .ok (.iaload, 1) := dk_46 (dk_at dksX5_least_0 8 rfl rfl)
theorem dX5_least_9 : decode cX5_least 9 = .ok (.aload_n 0, 1) := dk_42 (dk_at dksX5_least_0 9 rfl rfl)
theorem dX5_least_10 : decode cX5_least 10 = .ok (.getfield 17, 3) := dk_180 0 17 (dk_at dksX5_least_0 10 rfl rfl)
theorem dX5_least_13 : decode cX5_least 13 = .ok (.iload_n 1, 1) := dk_27 (dk_at dksX5_least_0 13 rfl rfl)
theorem dX5_least_14 : decode cX5_least 14 = .ok (.invokestatic 126, 3) := dk_184 0 126 (dk_at dksX5_least_0 14 rfl rfl)
theorem dX5_least_17 : decode cX5_least 17 = .ok (.iaload, 1) := dk_46 (dk_at dksX5_least_0 17 rfl rfl)
theorem dX5_least_18 : decode cX5_least 18 = .ok (.aload_n 0, 1) := dk_42 (dk_at dksX5_least_0 18 rfl rfl)
theorem dX5_least_19 : decode cX5_least 19 = .ok (.getfield 17, 3) := dk_180 0 17 (dk_at dksX5_least_0 19 rfl rfl)
theorem dX5_least_22 : decode cX5_least 22 = .ok (.iload_n 1, 1) := dk_27 (dk_at dksX5_least_0 22 rfl rfl)
theorem dX5_least_23 : decode cX5_least 23 = .ok (.invokestatic 126, 3) := dk_184 0 126 (dk_at dksX5_least_1 0 rfl rfl)
theorem dX5_least_26 : decode cX5_least 26 = .ok (.iconst 2, 1) := dk_5 (dk_at dksX5_least_1 3 rfl rfl)
theorem dX5_least_27 : decode cX5_least 27 = .ok (.iadd, 1) := dk_96 (dk_at dksX5_least_1 4 rfl rfl)
theorem dX5_least_28 : decode cX5_least 28 = .ok (.iaload, 1) := dk_46 (dk_at dksX5_least_1 5 rfl rfl)
theorem dX5_least_29 : decode cX5_least 29 = .ok (.imul, 1) := dk_104 (dk_at dksX5_least_1 6 rfl rfl)
theorem dX5_least_30 : decode cX5_least 30 = .ok (.bipush 100, 2) := dk_16 100 (dk_at dksX5_least_1 7 rfl rfl)
theorem dX5_least_32 : decode cX5_least 32 = .ok (.idiv, 1) := dk_108 (dk_at dksX5_least_1 9 rfl rfl)
theorem dX5_least_33 : decode cX5_least 33 = .ok (.isub, 1) := dk_100 (dk_at dksX5_least_1 10 rfl rfl)
theorem dX5_least_34 : decode cX5_least 34 = .ok (.ireturn, 1) := dk_172 (dk_at dksX5_least_1 11 rfl rfl)
abbrev cX5_expiry : ByteArray := prog_14_method_46_code
def yX5_expiry : MethodName := ⟨RX5, "expiry", "(I)I"⟩
def dkwX5_expiry_1 : List UInt8 := [184, 0, 126, 6, 96, 46, 172]
abbrev dktX5_expiry_1 : List UInt8 := dkwX5_expiry_1 ++ []
def dkwX5_expiry_0 : List UInt8 := [42, 3, 181, 0, 32, 42, 27, 182, 0, 179, 153, 0, 7, 3, 167, 0, 14, 42, 180, 0, 17, 27]
abbrev dktX5_expiry_0 : List UInt8 := dkwX5_expiry_0 ++ dktX5_expiry_1
theorem dksX5_expiry_0 : cX5_expiry.data.toList.drop 0 = dktX5_expiry_0 := by decide +kernel
theorem dksX5_expiry_1 : cX5_expiry.data.toList.drop 22 = dktX5_expiry_1 := dk_seg dksX5_expiry_0 22 rfl rfl
theorem dX5_expiry_0 : decode cX5_expiry 0 = .ok (.aload_n 0, 1) := dk_42 (dk_at dksX5_expiry_0 0 rfl rfl)
theorem dX5_expiry_1 : decode cX5_expiry 1 = .ok (.iconst 0, 1) := dk_3 (dk_at dksX5_expiry_0 1 rfl rfl)
theorem dX5_expiry_2 : decode cX5_expiry 2 = .ok (.putfield 32, 3) := dk_181 0 32 (dk_at dksX5_expiry_0 2 rfl rfl)
theorem dX5_expiry_5 : decode cX5_expiry 5 = .ok (.aload_n 0, 1) := dk_42 (dk_at dksX5_expiry_0 5 rfl rfl)
theorem dX5_expiry_6 : decode cX5_expiry 6 = .ok (.iload_n 1, 1) := dk_27 (dk_at dksX5_expiry_0 6 rfl rfl)
theorem dX5_expiry_7 : decode cX5_expiry 7 = .ok (.invokevirtual 179, 3) := dk_182 0 179 (dk_at dksX5_expiry_0 7 rfl rfl)
theorem dX5_expiry_10 : decode cX5_expiry 10 = .ok (.ifCond .eq 7, 3) := dk_153 0 7 (dk_at dksX5_expiry_0 10 rfl rfl)
theorem dX5_expiry_13 : decode cX5_expiry 13 = .ok (.iconst 0, 1) := dk_3 (dk_at dksX5_expiry_0 13 rfl rfl)
theorem dX5_expiry_14 : decode cX5_expiry 14 = .ok (.goto 14, 3) := dk_167 0 14 (dk_at dksX5_expiry_0 14 rfl rfl)
theorem dX5_expiry_17 : decode cX5_expiry 17 = .ok (.aload_n 0, 1) := dk_42 (dk_at dksX5_expiry_0 17 rfl rfl)
theorem dX5_expiry_18 : decode cX5_expiry 18 = .ok (.getfield 17, 3) := dk_180 0 17 (dk_at dksX5_expiry_0 18 rfl rfl)
theorem dX5_expiry_21 : decode cX5_expiry 21 = .ok (.iload_n 1, 1) := dk_27 (dk_at dksX5_expiry_0 21 rfl rfl)
theorem dX5_expiry_22 : decode cX5_expiry 22 = .ok (.invokestatic 126, 3) := dk_184 0 126 (dk_at dksX5_expiry_1 0 rfl rfl)
theorem dX5_expiry_25 : decode cX5_expiry 25 = .ok (.iconst 3, 1) := dk_6 (dk_at dksX5_expiry_1 3 rfl rfl)
theorem dX5_expiry_26 : decode cX5_expiry 26 = .ok (.iadd, 1) := dk_96 (dk_at dksX5_expiry_1 4 rfl rfl)
theorem dX5_expiry_27 : decode cX5_expiry 27 = .ok (.iaload, 1) := dk_46 (dk_at dksX5_expiry_1 5 rfl rfl)
theorem dX5_expiry_28 : decode cX5_expiry 28 = .ok (.ireturn, 1) := dk_172 (dk_at dksX5_expiry_1 6 rfl rfl)
abbrev cX5_drawn : ByteArray := prog_14_method_51_code
def yX5_drawn : MethodName := ⟨RX5, "drawn", "(I)I"⟩
def dkwX5_drawn_0 : List UInt8 := [42, 3, 181, 0, 32, 42, 27, 182, 0, 179, 153, 0, 7, 3, 167, 0, 8, 42, 27, 182, 0, 195, 172]
abbrev dktX5_drawn_0 : List UInt8 := dkwX5_drawn_0 ++ []
theorem dksX5_drawn_0 : cX5_drawn.data.toList.drop 0 = dktX5_drawn_0 := by decide +kernel
theorem dX5_drawn_0 : decode cX5_drawn 0 = .ok (.aload_n 0, 1) := dk_42 (dk_at dksX5_drawn_0 0 rfl rfl)
theorem dX5_drawn_1 : decode cX5_drawn 1 = .ok (.iconst 0, 1) := dk_3 (dk_at dksX5_drawn_0 1 rfl rfl)
theorem dX5_drawn_2 : decode cX5_drawn 2 = .ok (.putfield 32, 3) := dk_181 0 32 (dk_at dksX5_drawn_0 2 rfl rfl)
theorem dX5_drawn_5 : decode cX5_drawn 5 = .ok (.aload_n 0, 1) := dk_42 (dk_at dksX5_drawn_0 5 rfl rfl)
theorem dX5_drawn_6 : decode cX5_drawn 6 = .ok (.iload_n 1, 1) := dk_27 (dk_at dksX5_drawn_0 6 rfl rfl)
theorem dX5_drawn_7 : decode cX5_drawn 7 = .ok (.invokevirtual 179, 3) := dk_182 0 179 (dk_at dksX5_drawn_0 7 rfl rfl)
theorem dX5_drawn_10 : decode cX5_drawn 10 = .ok (.ifCond .eq 7, 3) := dk_153 0 7 (dk_at dksX5_drawn_0 10 rfl rfl)
theorem dX5_drawn_13 : decode cX5_drawn 13 = .ok (.iconst 0, 1) := dk_3 (dk_at dksX5_drawn_0 13 rfl rfl)
theorem dX5_drawn_14 : decode cX5_drawn 14 = .ok (.goto 8, 3) := dk_167 0 8 (dk_at dksX5_drawn_0 14 rfl rfl)
theorem dX5_drawn_17 : decode cX5_drawn 17 = .ok (.aload_n 0, 1) := dk_42 (dk_at dksX5_drawn_0 17 rfl rfl)
theorem dX5_drawn_18 : decode cX5_drawn 18 = .ok (.iload_n 1, 1) := dk_27 (dk_at dksX5_drawn_0 18 rfl rfl)
theorem dX5_drawn_19 : decode cX5_drawn 19 = .ok (.invokevirtual 195, 3) := dk_182 0 195 (dk_at dksX5_drawn_0 19 rfl rfl)
theorem dX5_drawn_22 : decode cX5_drawn 22 = .ok (.ireturn, 1) := dk_172 (dk_at dksX5_drawn_0 22 rfl rfl)
abbrev cX5_drawnOf : ByteArray := prog_14_method_48_code
def yX5_drawnOf : MethodName := ⟨RX5, "drawnOf", "(I)I"⟩
def dkwX5_drawnOf_2 : List UInt8 := [5, 96, 46, 167, 0, 4, 3, 96, 61, 132, 3, 1, 167, 255, 200, 28, 172]
abbrev dktX5_drawnOf_2 : List UInt8 := dkwX5_drawnOf_2 ++ []
def dkwX5_drawnOf_1 : List UInt8 := [42, 180, 0, 17, 29, 184, 0, 188, 6, 96, 46, 7, 126, 154, 0, 17, 42, 180, 0, 17, 29, 184, 0, 188]
abbrev dktX5_drawnOf_1 : List UInt8 := dkwX5_drawnOf_1 ++ dktX5_drawnOf_2
def dkwX5_drawnOf_0 : List UInt8 := [3, 61, 3, 62, 29, 42, 180, 0, 17, 4, 46, 162, 0, 52, 28, 42, 29, 27, 182, 0, 191, 153, 0, 33]
abbrev dktX5_drawnOf_0 : List UInt8 := dkwX5_drawnOf_0 ++ dktX5_drawnOf_1
theorem dksX5_drawnOf_0 : cX5_drawnOf.data.toList.drop 0 = dktX5_drawnOf_0 := by decide +kernel
theorem dksX5_drawnOf_1 : cX5_drawnOf.data.toList.drop 24 = dktX5_drawnOf_1 := dk_seg dksX5_drawnOf_0 24 rfl rfl
theorem dksX5_drawnOf_2 : cX5_drawnOf.data.toList.drop 48 = dktX5_drawnOf_2 := dk_seg dksX5_drawnOf_1 24 rfl rfl
theorem dX5_drawnOf_0 : decode cX5_drawnOf 0 = .ok (.iconst 0, 1) := dk_3 (dk_at dksX5_drawnOf_0 0 rfl rfl)
theorem dX5_drawnOf_1 : decode cX5_drawnOf 1 = .ok (.istore_n 2, 1) := dk_61 (dk_at dksX5_drawnOf_0 1 rfl rfl)
theorem dX5_drawnOf_2 : decode cX5_drawnOf 2 = .ok (.iconst 0, 1) := dk_3 (dk_at dksX5_drawnOf_0 2 rfl rfl)
theorem dX5_drawnOf_3 : decode cX5_drawnOf 3 = .ok (.istore_n 3, 1) := dk_62 (dk_at dksX5_drawnOf_0 3 rfl rfl)
theorem dX5_drawnOf_4 : decode cX5_drawnOf 4 = .ok (.iload_n 3, 1) := dk_29 (dk_at dksX5_drawnOf_0 4 rfl rfl)
theorem dX5_drawnOf_5 : decode cX5_drawnOf 5 = .ok (.aload_n 0, 1) := dk_42 (dk_at dksX5_drawnOf_0 5 rfl rfl)
theorem dX5_drawnOf_6 : decode cX5_drawnOf 6 = .ok (.getfield 17, 3) := dk_180 0 17 (dk_at dksX5_drawnOf_0 6 rfl rfl)
theorem dX5_drawnOf_9 : decode cX5_drawnOf 9 = .ok (.iconst 1, 1) := dk_4 (dk_at dksX5_drawnOf_0 9 rfl rfl)
theorem dX5_drawnOf_10 : decode cX5_drawnOf 10 = .ok (.iaload, 1) := dk_46 (dk_at dksX5_drawnOf_0 10 rfl rfl)
theorem dX5_drawnOf_11 : decode cX5_drawnOf 11 = .ok (.if_icmp .ge 52, 3) := dk_162 0 52 (dk_at dksX5_drawnOf_0 11 rfl rfl)
theorem dX5_drawnOf_14 : decode cX5_drawnOf 14 = .ok (.iload_n 2, 1) := dk_28 (dk_at dksX5_drawnOf_0 14 rfl rfl)
theorem dX5_drawnOf_15 : decode cX5_drawnOf 15 = .ok (.aload_n 0, 1) := dk_42 (dk_at dksX5_drawnOf_0 15 rfl rfl)
theorem dX5_drawnOf_16 : decode cX5_drawnOf 16 = .ok (.iload_n 3, 1) := dk_29 (dk_at dksX5_drawnOf_0 16 rfl rfl)
theorem dX5_drawnOf_17 : decode cX5_drawnOf 17 = .ok (.iload_n 1, 1) := dk_27 (dk_at dksX5_drawnOf_0 17 rfl rfl)
theorem dX5_drawnOf_18 : decode cX5_drawnOf 18 = .ok (.invokevirtual 191, 3) := dk_182 0 191 (dk_at dksX5_drawnOf_0 18 rfl rfl)
theorem dX5_drawnOf_21 : decode cX5_drawnOf 21 = .ok (.ifCond .eq 33, 3) := dk_153 0 33 (dk_at dksX5_drawnOf_0 21 rfl rfl)
theorem dX5_drawnOf_24 : decode cX5_drawnOf 24 = .ok (.aload_n 0, 1) := dk_42 (dk_at dksX5_drawnOf_1 0 rfl rfl)
theorem dX5_drawnOf_25 : decode cX5_drawnOf 25 = .ok (.getfield 17, 3) := dk_180 0 17 (dk_at dksX5_drawnOf_1 1 rfl rfl)
theorem dX5_drawnOf_28 : decode cX5_drawnOf 28 = .ok (.iload_n 3, 1) := dk_29 (dk_at dksX5_drawnOf_1 4 rfl rfl)
theorem dX5_drawnOf_29 : decode cX5_drawnOf 29 = .ok (.invokestatic 188, 3) := dk_184 0 188 (dk_at dksX5_drawnOf_1 5 rfl rfl)
theorem dX5_drawnOf_32 : decode cX5_drawnOf 32 = .ok (.iconst 3, 1) := dk_6 (dk_at dksX5_drawnOf_1 8 rfl rfl)
theorem dX5_drawnOf_33 : decode cX5_drawnOf 33 = .ok (.iadd, 1) := dk_96 (dk_at dksX5_drawnOf_1 9 rfl rfl)
theorem dX5_drawnOf_34 : decode cX5_drawnOf 34 = .ok (.iaload, 1) := dk_46 (dk_at dksX5_drawnOf_1 10 rfl rfl)
theorem dX5_drawnOf_35 : decode cX5_drawnOf 35 = .ok (.iconst 4, 1) := dk_7 (dk_at dksX5_drawnOf_1 11 rfl rfl)
theorem dX5_drawnOf_36 : decode cX5_drawnOf 36 = .ok (.iand, 1) := dk_126 (dk_at dksX5_drawnOf_1 12 rfl rfl)
theorem dX5_drawnOf_37 : decode cX5_drawnOf 37 = .ok (.ifCond .ne 17, 3) := dk_154 0 17 (dk_at dksX5_drawnOf_1 13 rfl rfl)
theorem dX5_drawnOf_40 : decode cX5_drawnOf 40 = .ok (.aload_n 0, 1) := dk_42 (dk_at dksX5_drawnOf_1 16 rfl rfl)
theorem dX5_drawnOf_41 : decode cX5_drawnOf 41 = .ok (.getfield 17, 3) := dk_180 0 17 (dk_at dksX5_drawnOf_1 17 rfl rfl)
theorem dX5_drawnOf_44 : decode cX5_drawnOf 44 = .ok (.iload_n 3, 1) := dk_29 (dk_at dksX5_drawnOf_1 20 rfl rfl)
theorem dX5_drawnOf_45 : decode cX5_drawnOf 45 = .ok (.invokestatic 188, 3) := dk_184 0 188 (dk_at dksX5_drawnOf_1 21 rfl rfl)
theorem dX5_drawnOf_48 : decode cX5_drawnOf 48 = .ok (.iconst 2, 1) := dk_5 (dk_at dksX5_drawnOf_2 0 rfl rfl)
theorem dX5_drawnOf_49 : decode cX5_drawnOf 49 = .ok (.iadd, 1) := dk_96 (dk_at dksX5_drawnOf_2 1 rfl rfl)
theorem dX5_drawnOf_50 : decode cX5_drawnOf 50 = .ok (.iaload, 1) := dk_46 (dk_at dksX5_drawnOf_2 2 rfl rfl)
theorem dX5_drawnOf_51 : decode cX5_drawnOf 51 = .ok (.goto 4, 3) := dk_167 0 4 (dk_at dksX5_drawnOf_2 3 rfl rfl)
theorem dX5_drawnOf_54 : decode cX5_drawnOf 54 = .ok (.iconst 0, 1) := dk_3 (dk_at dksX5_drawnOf_2 6 rfl rfl)
theorem dX5_drawnOf_55 : decode cX5_drawnOf 55 = .ok (.iadd, 1) := dk_96 (dk_at dksX5_drawnOf_2 7 rfl rfl)
theorem dX5_drawnOf_56 : decode cX5_drawnOf 56 = .ok (.istore_n 2, 1) := dk_61 (dk_at dksX5_drawnOf_2 8 rfl rfl)
theorem dX5_drawnOf_57 : decode cX5_drawnOf 57 = .ok (.iinc 3 1, 3) := dk_132 3 1 (dk_at dksX5_drawnOf_2 9 rfl rfl)
theorem dX5_drawnOf_60 : decode cX5_drawnOf 60 = .ok (.goto (-56), 3) := dk_167 255 200 (dk_at dksX5_drawnOf_2 12 rfl rfl)
theorem dX5_drawnOf_63 : decode cX5_drawnOf 63 = .ok (.iload_n 2, 1) := dk_28 (dk_at dksX5_drawnOf_2 15 rfl rfl)
theorem dX5_drawnOf_64 : decode cX5_drawnOf 64 = .ok (.ireturn, 1) := dk_172 (dk_at dksX5_drawnOf_2 16 rfl rfl)
abbrev cX5_stands : ByteArray := prog_14_method_47_code
def yX5_stands : MethodName := ⟨RX5, "stands", "(II)Z"⟩
def dkwX5_stands_1 : List UInt8 := [6, 159, 0, 7, 4, 167, 0, 4, 3, 172]
abbrev dktX5_stands_1 : List UInt8 := dkwX5_stands_1 ++ []
def dkwX5_stands_0 : List UInt8 := [42, 180, 0, 17, 27, 184, 0, 188, 46, 28, 160, 0, 22, 42, 180, 0, 17, 27, 184, 0, 188, 7, 96, 46]
abbrev dktX5_stands_0 : List UInt8 := dkwX5_stands_0 ++ dktX5_stands_1
theorem dksX5_stands_0 : cX5_stands.data.toList.drop 0 = dktX5_stands_0 := by decide +kernel
theorem dksX5_stands_1 : cX5_stands.data.toList.drop 24 = dktX5_stands_1 := dk_seg dksX5_stands_0 24 rfl rfl
theorem dX5_stands_0 : decode cX5_stands 0 = .ok (.aload_n 0, 1) := dk_42 (dk_at dksX5_stands_0 0 rfl rfl)
theorem dX5_stands_1 : decode cX5_stands 1 = .ok (.getfield 17, 3) := dk_180 0 17 (dk_at dksX5_stands_0 1 rfl rfl)
theorem dX5_stands_4 : decode cX5_stands 4 = .ok (.iload_n 1, 1) := dk_27 (dk_at dksX5_stands_0 4 rfl rfl)
theorem dX5_stands_5 : decode cX5_stands 5 = .ok (.invokestatic 188, 3) := dk_184 0 188 (dk_at dksX5_stands_0 5 rfl rfl)
theorem dX5_stands_8 : decode cX5_stands 8 = .ok (.iaload, 1) := dk_46 (dk_at dksX5_stands_0 8 rfl rfl)
theorem dX5_stands_9 : decode cX5_stands 9 = .ok (.iload_n 2, 1) := dk_28 (dk_at dksX5_stands_0 9 rfl rfl)
theorem dX5_stands_10 : decode cX5_stands 10 = .ok (.if_icmp .ne 22, 3) := dk_160 0 22 (dk_at dksX5_stands_0 10 rfl rfl)
theorem dX5_stands_13 : decode cX5_stands 13 = .ok (.aload_n 0, 1) := dk_42 (dk_at dksX5_stands_0 13 rfl rfl)
theorem dX5_stands_14 : decode cX5_stands 14 = .ok (.getfield 17, 3) := dk_180 0 17 (dk_at dksX5_stands_0 14 rfl rfl)
theorem dX5_stands_17 : decode cX5_stands 17 = .ok (.iload_n 1, 1) := dk_27 (dk_at dksX5_stands_0 17 rfl rfl)
theorem dX5_stands_18 : decode cX5_stands 18 = .ok (.invokestatic 188, 3) := dk_184 0 188 (dk_at dksX5_stands_0 18 rfl rfl)
theorem dX5_stands_21 : decode cX5_stands 21 = .ok (.iconst 4, 1) := dk_7 (dk_at dksX5_stands_0 21 rfl rfl)
theorem dX5_stands_22 : decode cX5_stands 22 = .ok (.iadd, 1) := dk_96 (dk_at dksX5_stands_0 22 rfl rfl)
theorem dX5_stands_23 : decode cX5_stands 23 = .ok (.iaload, 1) := dk_46 (dk_at dksX5_stands_0 23 rfl rfl)
theorem dX5_stands_24 : decode cX5_stands 24 = .ok (.iconst 3, 1) := dk_6 (dk_at dksX5_stands_1 0 rfl rfl)
theorem dX5_stands_25 : decode cX5_stands 25 = .ok (.if_icmp .eq 7, 3) := dk_159 0 7 (dk_at dksX5_stands_1 1 rfl rfl)
theorem dX5_stands_28 : decode cX5_stands 28 = .ok (.iconst 1, 1) := dk_4 (dk_at dksX5_stands_1 4 rfl rfl)
theorem dX5_stands_29 : decode cX5_stands 29 = .ok (.goto 4, 3) := dk_167 0 4 (dk_at dksX5_stands_1 5 rfl rfl)
theorem dX5_stands_32 : decode cX5_stands 32 = .ok (.iconst 0, 1) := dk_3 (dk_at dksX5_stands_1 8 rfl rfl)
theorem dX5_stands_33 : decode cX5_stands 33 = .ok (.ireturn, 1) := dk_172 (dk_at dksX5_stands_1 9 rfl rfl)
abbrev cX5_presentation : ByteArray := prog_14_method_8_code
def yX5_presentation : MethodName := ⟨RX5, "presentation", "(I)I"⟩
def dkwX5_presentation_0 : List UInt8 := [17, 0, 154, 16, 6, 26, 104, 96, 172]
abbrev dktX5_presentation_0 : List UInt8 := dkwX5_presentation_0 ++ []
theorem dksX5_presentation_0 : cX5_presentation.data.toList.drop 0 = dktX5_presentation_0 := by decide +kernel
theorem dX5_presentation_0 : decode cX5_presentation 0 = .ok (.sipush 154, 3) := dk_17 0 154 (dk_at dksX5_presentation_0 0 rfl rfl)
theorem dX5_presentation_3 : decode cX5_presentation 3 = .ok (.bipush 6, 2) := dk_16 6 (dk_at dksX5_presentation_0 3 rfl rfl)
theorem dX5_presentation_5 : decode cX5_presentation 5 = .ok (.iload_n 0, 1) := dk_26 (dk_at dksX5_presentation_0 5 rfl rfl)
theorem dX5_presentation_6 : decode cX5_presentation 6 = .ok (.imul, 1) := dk_104 (dk_at dksX5_presentation_0 6 rfl rfl)
theorem dX5_presentation_7 : decode cX5_presentation 7 = .ok (.iadd, 1) := dk_96 (dk_at dksX5_presentation_0 7 rfl rfl)
theorem dX5_presentation_8 : decode cX5_presentation 8 = .ok (.ireturn, 1) := dk_172 (dk_at dksX5_presentation_0 8 rfl rfl)
abbrev cX5_transferred : ByteArray := prog_14_method_52_code
def yX5_transferred : MethodName := ⟨RX5, "transferred", "(I)I"⟩
def dkwX5_transferred_0 : List UInt8 := [42, 3, 181, 0, 32, 42, 27, 182, 0, 179, 153, 0, 7, 3, 167, 0, 8, 42, 27, 182, 0, 198, 172]
abbrev dktX5_transferred_0 : List UInt8 := dkwX5_transferred_0 ++ []
theorem dksX5_transferred_0 : cX5_transferred.data.toList.drop 0 = dktX5_transferred_0 := by decide +kernel
theorem dX5_transferred_0 : decode cX5_transferred 0 = .ok (.aload_n 0, 1) := dk_42 (dk_at dksX5_transferred_0 0 rfl rfl)
theorem dX5_transferred_1 : decode cX5_transferred 1 = .ok (.iconst 0, 1) := dk_3 (dk_at dksX5_transferred_0 1 rfl rfl)
theorem dX5_transferred_2 : decode cX5_transferred 2 = .ok (.putfield 32, 3) := dk_181 0 32 (dk_at dksX5_transferred_0 2 rfl rfl)
theorem dX5_transferred_5 : decode cX5_transferred 5 = .ok (.aload_n 0, 1) := dk_42 (dk_at dksX5_transferred_0 5 rfl rfl)
theorem dX5_transferred_6 : decode cX5_transferred 6 = .ok (.iload_n 1, 1) := dk_27 (dk_at dksX5_transferred_0 6 rfl rfl)
theorem dX5_transferred_7 : decode cX5_transferred 7 = .ok (.invokevirtual 179, 3) := dk_182 0 179 (dk_at dksX5_transferred_0 7 rfl rfl)
theorem dX5_transferred_10 : decode cX5_transferred 10 = .ok (.ifCond .eq 7, 3) := dk_153 0 7 (dk_at dksX5_transferred_0 10 rfl rfl)
theorem dX5_transferred_13 : decode cX5_transferred 13 = .ok (.iconst 0, 1) := dk_3 (dk_at dksX5_transferred_0 13 rfl rfl)
theorem dX5_transferred_14 : decode cX5_transferred 14 = .ok (.goto 8, 3) := dk_167 0 8 (dk_at dksX5_transferred_0 14 rfl rfl)
theorem dX5_transferred_17 : decode cX5_transferred 17 = .ok (.aload_n 0, 1) := dk_42 (dk_at dksX5_transferred_0 17 rfl rfl)
theorem dX5_transferred_18 : decode cX5_transferred 18 = .ok (.iload_n 1, 1) := dk_27 (dk_at dksX5_transferred_0 18 rfl rfl)
theorem dX5_transferred_19 : decode cX5_transferred 19 = .ok (.invokevirtual 198, 3) := dk_182 0 198 (dk_at dksX5_transferred_0 19 rfl rfl)
theorem dX5_transferred_22 : decode cX5_transferred 22 = .ok (.ireturn, 1) := dk_172 (dk_at dksX5_transferred_0 22 rfl rfl)
abbrev cX5_transferredOf : ByteArray := prog_14_method_49_code
def yX5_transferredOf : MethodName := ⟨RX5, "transferredOf", "(I)I"⟩
def dkwX5_transferredOf_2 : List UInt8 := [132, 3, 1, 167, 255, 211, 28, 172]
abbrev dktX5_transferredOf_2 : List UInt8 := dkwX5_transferredOf_2 ++ []
def dkwX5_transferredOf_1 : List UInt8 := [16, 10, 96, 46, 27, 160, 0, 15, 42, 180, 0, 17, 29, 184, 0, 126, 46, 167, 0, 4, 3, 96, 61]
abbrev dktX5_transferredOf_1 : List UInt8 := dkwX5_transferredOf_1 ++ dktX5_transferredOf_2
def dkwX5_transferredOf_0 : List UInt8 := [3, 61, 3, 62, 29, 42, 180, 0, 17, 3, 46, 162, 0, 41, 28, 42, 180, 0, 17, 29, 184, 0, 126]
abbrev dktX5_transferredOf_0 : List UInt8 := dkwX5_transferredOf_0 ++ dktX5_transferredOf_1
theorem dksX5_transferredOf_0 : cX5_transferredOf.data.toList.drop 0 = dktX5_transferredOf_0 := by decide +kernel
theorem dksX5_transferredOf_1 : cX5_transferredOf.data.toList.drop 23 = dktX5_transferredOf_1 := dk_seg dksX5_transferredOf_0 23 rfl rfl
theorem dksX5_transferredOf_2 : cX5_transferredOf.data.toList.drop 46 = dktX5_transferredOf_2 := dk_seg dksX5_transferredOf_1 23 rfl rfl
theorem dX5_transferredOf_0 : decode cX5_transferredOf 0 = .ok (.iconst 0, 1) := dk_3 (dk_at dksX5_transferredOf_0 0 rfl rfl)
theorem dX5_transferredOf_1 : decode cX5_transferredOf 1 = .ok (.istore_n 2, 1) := dk_61 (dk_at dksX5_transferredOf_0 1 rfl rfl)
theorem dX5_transferredOf_2 : decode cX5_transferredOf 2 = .ok (.iconst 0, 1) := dk_3 (dk_at dksX5_transferredOf_0 2 rfl rfl)
theorem dX5_transferredOf_3 : decode cX5_transferredOf 3 = .ok (.istore_n 3, 1) := dk_62 (dk_at dksX5_transferredOf_0 3 rfl rfl)
theorem dX5_transferredOf_4 : decode cX5_transferredOf 4 = .ok (.iload_n 3, 1) := dk_29 (dk_at dksX5_transferredOf_0 4 rfl rfl)
theorem dX5_transferredOf_5 : decode cX5_transferredOf 5 = .ok (.aload_n 0, 1) := dk_42 (dk_at dksX5_transferredOf_0 5 rfl rfl)
theorem dX5_transferredOf_6 : decode cX5_transferredOf 6 = .ok (.getfield 17, 3) := dk_180 0 17 (dk_at dksX5_transferredOf_0 6 rfl rfl)
theorem dX5_transferredOf_9 : decode cX5_transferredOf 9 = .ok (.iconst 0, 1) := dk_3 (dk_at dksX5_transferredOf_0 9 rfl rfl)
theorem dX5_transferredOf_10 : decode cX5_transferredOf 10 = .ok (.iaload, 1) := dk_46 (dk_at dksX5_transferredOf_0 10 rfl rfl)
theorem dX5_transferredOf_11 : decode cX5_transferredOf 11 = .ok (.if_icmp .ge 41, 3) := dk_162 0 41 (dk_at dksX5_transferredOf_0 11 rfl rfl)
theorem dX5_transferredOf_14 : decode cX5_transferredOf 14 = .ok (.iload_n 2, 1) := dk_28 (dk_at dksX5_transferredOf_0 14 rfl rfl)
theorem dX5_transferredOf_15 : decode cX5_transferredOf 15 = .ok (.aload_n 0, 1) := dk_42 (dk_at dksX5_transferredOf_0 15 rfl rfl)
theorem dX5_transferredOf_16 : decode cX5_transferredOf 16 = .ok (.getfield 17, 3) := dk_180 0 17 (dk_at dksX5_transferredOf_0 16 rfl rfl)
theorem dX5_transferredOf_19 : decode cX5_transferredOf 19 = .ok (.iload_n 3, 1) := dk_29 (dk_at dksX5_transferredOf_0 19 rfl rfl)
theorem dX5_transferredOf_20 : decode cX5_transferredOf 20 = .ok (.invokestatic 126, 3) := dk_184 0 126 (dk_at dksX5_transferredOf_0 20 rfl rfl)
theorem dX5_transferredOf_23 : decode cX5_transferredOf 23 = .ok (.bipush 10, 2) := dk_16 10 (dk_at dksX5_transferredOf_1 0 rfl rfl)
theorem dX5_transferredOf_25 : decode cX5_transferredOf 25 = .ok (.iadd, 1) := dk_96 (dk_at dksX5_transferredOf_1 2 rfl rfl)
theorem dX5_transferredOf_26 : decode cX5_transferredOf 26 = .ok (.iaload, 1) := dk_46 (dk_at dksX5_transferredOf_1 3 rfl rfl)
theorem dX5_transferredOf_27 : decode cX5_transferredOf 27 = .ok (.iload_n 1, 1) := dk_27 (dk_at dksX5_transferredOf_1 4 rfl rfl)
theorem dX5_transferredOf_28 : decode cX5_transferredOf 28 = .ok (.if_icmp .ne 15, 3) := dk_160 0 15 (dk_at dksX5_transferredOf_1 5 rfl rfl)
theorem dX5_transferredOf_31 : decode cX5_transferredOf 31 = .ok (.aload_n 0, 1) := dk_42 (dk_at dksX5_transferredOf_1 8 rfl rfl)
theorem dX5_transferredOf_32 : decode cX5_transferredOf 32 = .ok (.getfield 17, 3) := dk_180 0 17 (dk_at dksX5_transferredOf_1 9 rfl rfl)
theorem dX5_transferredOf_35 : decode cX5_transferredOf 35 = .ok (.iload_n 3, 1) := dk_29 (dk_at dksX5_transferredOf_1 12 rfl rfl)
theorem dX5_transferredOf_36 : decode cX5_transferredOf 36 = .ok (.invokestatic 126, 3) := dk_184 0 126 (dk_at dksX5_transferredOf_1 13 rfl rfl)
theorem dX5_transferredOf_39 : decode cX5_transferredOf 39 = .ok (.iaload, 1) := dk_46 (dk_at dksX5_transferredOf_1 16 rfl rfl)
theorem dX5_transferredOf_40 : decode cX5_transferredOf 40 = .ok (.goto 4, 3) := dk_167 0 4 (dk_at dksX5_transferredOf_1 17 rfl rfl)
theorem dX5_transferredOf_43 : decode cX5_transferredOf 43 = .ok (.iconst 0, 1) := dk_3 (dk_at dksX5_transferredOf_1 20 rfl rfl)
theorem dX5_transferredOf_44 : decode cX5_transferredOf 44 = .ok (.iadd, 1) := dk_96 (dk_at dksX5_transferredOf_1 21 rfl rfl)
theorem dX5_transferredOf_45 : decode cX5_transferredOf 45 = .ok (.istore_n 2, 1) := dk_61 (dk_at dksX5_transferredOf_1 22 rfl rfl)
theorem dX5_transferredOf_46 : decode cX5_transferredOf 46 = .ok (.iinc 3 1, 3) := dk_132 3 1 (dk_at dksX5_transferredOf_2 0 rfl rfl)
theorem dX5_transferredOf_49 : decode cX5_transferredOf 49 = .ok (.goto (-45), 3) := dk_167 255 211 (dk_at dksX5_transferredOf_2 3 rfl rfl)
theorem dX5_transferredOf_52 : decode cX5_transferredOf 52 = .ok (.iload_n 2, 1) := dk_28 (dk_at dksX5_transferredOf_2 6 rfl rfl)
theorem dX5_transferredOf_53 : decode cX5_transferredOf 53 = .ok (.ireturn, 1) := dk_172 (dk_at dksX5_transferredOf_2 7 rfl rfl)
abbrev cX5_available : ByteArray := prog_14_method_53_code
def yX5_available : MethodName := ⟨RX5, "available", "(I)I"⟩
def dkwX5_available_0 : List UInt8 := [42, 3, 181, 0, 32, 42, 27, 182, 0, 179, 153, 0, 7, 3, 167, 0, 8, 42, 27, 182, 0, 201, 172]
abbrev dktX5_available_0 : List UInt8 := dkwX5_available_0 ++ []
theorem dksX5_available_0 : cX5_available.data.toList.drop 0 = dktX5_available_0 := by decide +kernel
theorem dX5_available_0 : decode cX5_available 0 = .ok (.aload_n 0, 1) := dk_42 (dk_at dksX5_available_0 0 rfl rfl)
theorem dX5_available_1 : decode cX5_available 1 = .ok (.iconst 0, 1) := dk_3 (dk_at dksX5_available_0 1 rfl rfl)
theorem dX5_available_2 : decode cX5_available 2 = .ok (.putfield 32, 3) := dk_181 0 32 (dk_at dksX5_available_0 2 rfl rfl)
theorem dX5_available_5 : decode cX5_available 5 = .ok (.aload_n 0, 1) := dk_42 (dk_at dksX5_available_0 5 rfl rfl)
theorem dX5_available_6 : decode cX5_available 6 = .ok (.iload_n 1, 1) := dk_27 (dk_at dksX5_available_0 6 rfl rfl)
theorem dX5_available_7 : decode cX5_available 7 = .ok (.invokevirtual 179, 3) := dk_182 0 179 (dk_at dksX5_available_0 7 rfl rfl)
theorem dX5_available_10 : decode cX5_available 10 = .ok (.ifCond .eq 7, 3) := dk_153 0 7 (dk_at dksX5_available_0 10 rfl rfl)
theorem dX5_available_13 : decode cX5_available 13 = .ok (.iconst 0, 1) := dk_3 (dk_at dksX5_available_0 13 rfl rfl)
theorem dX5_available_14 : decode cX5_available 14 = .ok (.goto 8, 3) := dk_167 0 8 (dk_at dksX5_available_0 14 rfl rfl)
theorem dX5_available_17 : decode cX5_available 17 = .ok (.aload_n 0, 1) := dk_42 (dk_at dksX5_available_0 17 rfl rfl)
theorem dX5_available_18 : decode cX5_available 18 = .ok (.iload_n 1, 1) := dk_27 (dk_at dksX5_available_0 18 rfl rfl)
theorem dX5_available_19 : decode cX5_available 19 = .ok (.invokevirtual 201, 3) := dk_182 0 201 (dk_at dksX5_available_0 19 rfl rfl)
theorem dX5_available_22 : decode cX5_available 22 = .ok (.ireturn, 1) := dk_172 (dk_at dksX5_available_0 22 rfl rfl)
abbrev cX5_availableOf : ByteArray := prog_14_method_50_code
def yX5_availableOf : MethodName := ⟨RX5, "availableOf", "(I)I"⟩
def dkwX5_availableOf_0 : List UInt8 := [42, 27, 182, 0, 182, 42, 27, 182, 0, 195, 100, 42, 27, 182, 0, 198, 100, 172]
abbrev dktX5_availableOf_0 : List UInt8 := dkwX5_availableOf_0 ++ []
theorem dksX5_availableOf_0 : cX5_availableOf.data.toList.drop 0 = dktX5_availableOf_0 := by decide +kernel
theorem dX5_availableOf_0 : decode cX5_availableOf 0 = .ok (.aload_n 0, 1) := dk_42 (dk_at dksX5_availableOf_0 0 rfl rfl)
theorem dX5_availableOf_1 : decode cX5_availableOf 1 = .ok (.iload_n 1, 1) := dk_27 (dk_at dksX5_availableOf_0 1 rfl rfl)
theorem dX5_availableOf_2 : decode cX5_availableOf 2 = .ok (.invokevirtual 182, 3) := dk_182 0 182 (dk_at dksX5_availableOf_0 2 rfl rfl)
theorem dX5_availableOf_5 : decode cX5_availableOf 5 = .ok (.aload_n 0, 1) := dk_42 (dk_at dksX5_availableOf_0 5 rfl rfl)
theorem dX5_availableOf_6 : decode cX5_availableOf 6 = .ok (.iload_n 1, 1) := dk_27 (dk_at dksX5_availableOf_0 6 rfl rfl)
theorem dX5_availableOf_7 : decode cX5_availableOf 7 = .ok (.invokevirtual 195, 3) := dk_182 0 195 (dk_at dksX5_availableOf_0 7 rfl rfl)
theorem dX5_availableOf_10 : decode cX5_availableOf 10 = .ok (.isub, 1) := dk_100 (dk_at dksX5_availableOf_0 10 rfl rfl)
theorem dX5_availableOf_11 : decode cX5_availableOf 11 = .ok (.aload_n 0, 1) := dk_42 (dk_at dksX5_availableOf_0 11 rfl rfl)
theorem dX5_availableOf_12 : decode cX5_availableOf 12 = .ok (.iload_n 1, 1) := dk_27 (dk_at dksX5_availableOf_0 12 rfl rfl)
theorem dX5_availableOf_13 : decode cX5_availableOf 13 = .ok (.invokevirtual 198, 3) := dk_182 0 198 (dk_at dksX5_availableOf_0 13 rfl rfl)
theorem dX5_availableOf_16 : decode cX5_availableOf 16 = .ok (.isub, 1) := dk_100 (dk_at dksX5_availableOf_0 16 rfl rfl)
theorem dX5_availableOf_17 : decode cX5_availableOf 17 = .ok (.ireturn, 1) := dk_172 (dk_at dksX5_availableOf_0 17 rfl rfl)
abbrev cX5_check : ByteArray := prog_14_method_57_code
def yX5_check : MethodName := ⟨RX5, "check", "(IIIII)I"⟩
def dkwX5_check_1 : List UInt8 := [5, 182, 0, 153, 153, 0, 7, 3, 167, 0, 14, 42, 27, 28, 29, 21, 4, 21, 5, 182, 0, 212, 172]
abbrev dktX5_check_1 : List UInt8 := dkwX5_check_1 ++ []
def dkwX5_check_0 : List UInt8 := [42, 3, 181, 0, 32, 42, 27, 182, 0, 179, 154, 0, 21, 42, 42, 28, 29, 21, 4, 21, 5, 182, 0, 208]
abbrev dktX5_check_0 : List UInt8 := dkwX5_check_0 ++ dktX5_check_1
theorem dksX5_check_0 : cX5_check.data.toList.drop 0 = dktX5_check_0 := by decide +kernel
theorem dksX5_check_1 : cX5_check.data.toList.drop 24 = dktX5_check_1 := dk_seg dksX5_check_0 24 rfl rfl
theorem dX5_check_0 : decode cX5_check 0 = .ok (.aload_n 0, 1) := dk_42 (dk_at dksX5_check_0 0 rfl rfl)
theorem dX5_check_1 : decode cX5_check 1 = .ok (.iconst 0, 1) := dk_3 (dk_at dksX5_check_0 1 rfl rfl)
theorem dX5_check_2 : decode cX5_check 2 = .ok (.putfield 32, 3) := dk_181 0 32 (dk_at dksX5_check_0 2 rfl rfl)
theorem dX5_check_5 : decode cX5_check 5 = .ok (.aload_n 0, 1) := dk_42 (dk_at dksX5_check_0 5 rfl rfl)
theorem dX5_check_6 : decode cX5_check 6 = .ok (.iload_n 1, 1) := dk_27 (dk_at dksX5_check_0 6 rfl rfl)
theorem dX5_check_7 : decode cX5_check 7 = .ok (.invokevirtual 179, 3) := dk_182 0 179 (dk_at dksX5_check_0 7 rfl rfl)
theorem dX5_check_10 : decode cX5_check 10 = .ok (.ifCond .ne 21, 3) := dk_154 0 21 (dk_at dksX5_check_0 10 rfl rfl)
theorem dX5_check_13 : decode cX5_check 13 = .ok (.aload_n 0, 1) := dk_42 (dk_at dksX5_check_0 13 rfl rfl)
theorem dX5_check_14 : decode cX5_check 14 = .ok (.aload_n 0, 1) := dk_42 (dk_at dksX5_check_0 14 rfl rfl)
theorem dX5_check_15 : decode cX5_check 15 = .ok (.iload_n 2, 1) := dk_28 (dk_at dksX5_check_0 15 rfl rfl)
theorem dX5_check_16 : decode cX5_check 16 = .ok (.iload_n 3, 1) := dk_29 (dk_at dksX5_check_0 16 rfl rfl)
theorem dX5_check_17 : decode cX5_check 17 = .ok (.iload 4, 2) := dk_21 4 (dk_at dksX5_check_0 17 rfl rfl)
theorem dX5_check_19 : decode cX5_check 19 = .ok (.iload 5, 2) := dk_21 5 (dk_at dksX5_check_0 19 rfl rfl)
theorem dX5_check_21 : decode cX5_check 21 = .ok (.invokevirtual 208, 3) := dk_182 0 208 (dk_at dksX5_check_0 21 rfl rfl)
theorem dX5_check_24 : decode cX5_check 24 = .ok (.iconst 2, 1) := dk_5 (dk_at dksX5_check_1 0 rfl rfl)
theorem dX5_check_25 : decode cX5_check 25 = .ok (.invokevirtual 153, 3) := dk_182 0 153 (dk_at dksX5_check_1 1 rfl rfl)
theorem dX5_check_28 : decode cX5_check 28 = .ok (.ifCond .eq 7, 3) := dk_153 0 7 (dk_at dksX5_check_1 4 rfl rfl)
theorem dX5_check_31 : decode cX5_check 31 = .ok (.iconst 0, 1) := dk_3 (dk_at dksX5_check_1 7 rfl rfl)
theorem dX5_check_32 : decode cX5_check 32 = .ok (.goto 14, 3) := dk_167 0 14 (dk_at dksX5_check_1 8 rfl rfl)
theorem dX5_check_35 : decode cX5_check 35 = .ok (.aload_n 0, 1) := dk_42 (dk_at dksX5_check_1 11 rfl rfl)
theorem dX5_check_36 : decode cX5_check 36 = .ok (.iload_n 1, 1) := dk_27 (dk_at dksX5_check_1 12 rfl rfl)
theorem dX5_check_37 : decode cX5_check 37 = .ok (.iload_n 2, 1) := dk_28 (dk_at dksX5_check_1 13 rfl rfl)
theorem dX5_check_38 : decode cX5_check 38 = .ok (.iload_n 3, 1) := dk_29 (dk_at dksX5_check_1 14 rfl rfl)
theorem dX5_check_39 : decode cX5_check 39 = .ok (.iload 4, 2) := dk_21 4 (dk_at dksX5_check_1 15 rfl rfl)
theorem dX5_check_41 : decode cX5_check 41 = .ok (.iload 5, 2) := dk_21 5 (dk_at dksX5_check_1 17 rfl rfl)
theorem dX5_check_43 : decode cX5_check 43 = .ok (.invokevirtual 212, 3) := dk_182 0 212 (dk_at dksX5_check_1 19 rfl rfl)
theorem dX5_check_46 : decode cX5_check 46 = .ok (.ireturn, 1) := dk_172 (dk_at dksX5_check_1 22 rfl rfl)
abbrev cX5_isWrong : ByteArray := prog_14_method_56_code
def yX5_isWrong : MethodName := ⟨RX5, "isWrong", "(IIII)Z"⟩
def dkwX5_isWrong_1 : List UInt8 := [184, 0, 54, 153, 0, 8, 21, 4, 156, 0, 7, 4, 167, 0, 4, 3, 172]
abbrev dktX5_isWrong_1 : List UInt8 := dkwX5_isWrong_1 ++ []
def dkwX5_isWrong_0 : List UInt8 := [27, 184, 0, 173, 153, 0, 29, 28, 4, 18, 207, 184, 0, 54, 153, 0, 19, 29, 3, 17, 0, 255]
abbrev dktX5_isWrong_0 : List UInt8 := dkwX5_isWrong_0 ++ dktX5_isWrong_1
theorem dksX5_isWrong_0 : cX5_isWrong.data.toList.drop 0 = dktX5_isWrong_0 := by decide +kernel
theorem dksX5_isWrong_1 : cX5_isWrong.data.toList.drop 22 = dktX5_isWrong_1 := dk_seg dksX5_isWrong_0 22 rfl rfl
theorem dX5_isWrong_0 : decode cX5_isWrong 0 = .ok (.iload_n 1, 1) := dk_27 (dk_at dksX5_isWrong_0 0 rfl rfl)
theorem dX5_isWrong_1 : decode cX5_isWrong 1 = .ok (.invokestatic 173, 3) := dk_184 0 173 (dk_at dksX5_isWrong_0 1 rfl rfl)
theorem dX5_isWrong_4 : decode cX5_isWrong 4 = .ok (.ifCond .eq 29, 3) := dk_153 0 29 (dk_at dksX5_isWrong_0 4 rfl rfl)
theorem dX5_isWrong_7 : decode cX5_isWrong 7 = .ok (.iload_n 2, 1) := dk_28 (dk_at dksX5_isWrong_0 7 rfl rfl)
theorem dX5_isWrong_8 : decode cX5_isWrong 8 = .ok (.iconst 1, 1) := dk_4 (dk_at dksX5_isWrong_0 8 rfl rfl)
theorem dX5_isWrong_9 : decode cX5_isWrong 9 = .ok (.ldc 207, 2) := dk_18 207 (dk_at dksX5_isWrong_0 9 rfl rfl)
theorem dX5_isWrong_11 : decode cX5_isWrong 11 = .ok (.invokestatic 54, 3) := dk_184 0 54 (dk_at dksX5_isWrong_0 11 rfl rfl)
theorem dX5_isWrong_14 : decode cX5_isWrong 14 = .ok (.ifCond .eq 19, 3) := dk_153 0 19 (dk_at dksX5_isWrong_0 14 rfl rfl)
theorem dX5_isWrong_17 : decode cX5_isWrong 17 = .ok (.iload_n 3, 1) := dk_29 (dk_at dksX5_isWrong_0 17 rfl rfl)
theorem dX5_isWrong_18 : decode cX5_isWrong 18 = .ok (.iconst 0, 1) := dk_3 (dk_at dksX5_isWrong_0 18 rfl rfl)
theorem dX5_isWrong_19 : decode cX5_isWrong 19 = .ok (.sipush 255, 3) := dk_17 0 255 (dk_at dksX5_isWrong_0 19 rfl rfl)
theorem dX5_isWrong_22 : decode cX5_isWrong 22 = .ok (.invokestatic 54, 3) := dk_184 0 54 (dk_at dksX5_isWrong_1 0 rfl rfl)
theorem dX5_isWrong_25 : decode cX5_isWrong 25 = .ok (.ifCond .eq 8, 3) := dk_153 0 8 (dk_at dksX5_isWrong_1 3 rfl rfl)
theorem dX5_isWrong_28 : decode cX5_isWrong 28 = .ok (.iload 4, 2) := dk_21 4 (dk_at dksX5_isWrong_1 6 rfl rfl)
theorem dX5_isWrong_30 : decode cX5_isWrong 30 = .ok (.ifCond .ge 7, 3) := dk_156 0 7 (dk_at dksX5_isWrong_1 8 rfl rfl)
theorem dX5_isWrong_33 : decode cX5_isWrong 33 = .ok (.iconst 1, 1) := dk_4 (dk_at dksX5_isWrong_1 11 rfl rfl)
theorem dX5_isWrong_34 : decode cX5_isWrong 34 = .ok (.goto 4, 3) := dk_167 0 4 (dk_at dksX5_isWrong_1 12 rfl rfl)
theorem dX5_isWrong_37 : decode cX5_isWrong 37 = .ok (.iconst 0, 1) := dk_3 (dk_at dksX5_isWrong_1 15 rfl rfl)
theorem dX5_isWrong_38 : decode cX5_isWrong 38 = .ok (.ireturn, 1) := dk_172 (dk_at dksX5_isWrong_1 16 rfl rfl)
abbrev cX5_faultsOf : ByteArray := prog_14_method_55_code
def yX5_faultsOf : MethodName := ⟨RX5, "faultsOf", "(IIIII)I"⟩
def dkwX5_faultsOf_10 : List UInt8 := [21, 7, 164, 0, 8, 16, 64, 167, 0, 4, 3, 128, 172]
abbrev dktX5_faultsOf_10 : List UInt8 := dkwX5_faultsOf_10 ++ []
def dkwX5_faultsOf_9 : List UInt8 := [21, 5, 29, 29, 16, 10, 108, 96, 162, 0, 8, 16, 32, 167, 0, 4, 3, 128, 54, 9, 21, 9, 28]
abbrev dktX5_faultsOf_9 : List UInt8 := dkwX5_faultsOf_9 ++ dktX5_faultsOf_10
def dkwX5_faultsOf_8 : List UInt8 := [54, 9, 21, 9, 42, 180, 0, 17, 21, 6, 16, 9, 96, 46, 16, 7, 122, 4, 126, 4, 160, 0, 19]
abbrev dktX5_faultsOf_8 : List UInt8 := dkwX5_faultsOf_8 ++ dktX5_faultsOf_9
def dkwX5_faultsOf_7 : List UInt8 := [180, 0, 17, 21, 6, 16, 9, 96, 46, 21, 4, 2, 130, 126, 153, 0, 8, 16, 16, 167, 0, 4, 3, 128]
abbrev dktX5_faultsOf_7 : List UInt8 := dkwX5_faultsOf_7 ++ dktX5_faultsOf_8
def dkwX5_faultsOf_6 : List UInt8 := [27, 182, 0, 185, 161, 0, 8, 21, 8, 158, 0, 8, 16, 8, 167, 0, 4, 3, 128, 54, 9, 21, 9, 42]
abbrev dktX5_faultsOf_6 : List UInt8 := dkwX5_faultsOf_6 ++ dktX5_faultsOf_7
def dkwX5_faultsOf_5 : List UInt8 := [167, 0, 4, 3, 128, 54, 9, 21, 9, 42, 180, 0, 17, 21, 6, 16, 7, 96, 46, 154, 0, 22, 29, 42]
abbrev dktX5_faultsOf_5 : List UInt8 := dkwX5_faultsOf_5 ++ dktX5_faultsOf_6
def dkwX5_faultsOf_4 : List UInt8 := [164, 0, 7, 5, 167, 0, 4, 3, 128, 54, 9, 21, 9, 29, 42, 27, 182, 0, 201, 164, 0, 7, 7]
abbrev dktX5_faultsOf_4 : List UInt8 := dkwX5_faultsOf_4 ++ dktX5_faultsOf_5
def dkwX5_faultsOf_3 : List UInt8 := [46, 164, 0, 7, 4, 167, 0, 4, 3, 128, 54, 9, 21, 9, 21, 7, 42, 27, 28, 182, 0, 204]
abbrev dktX5_faultsOf_3 : List UInt8 := dkwX5_faultsOf_3 ++ dktX5_faultsOf_4
def dkwX5_faultsOf_2 : List UInt8 := [167, 0, 4, 3, 96, 54, 8, 132, 10, 1, 167, 255, 222, 21, 9, 28, 42, 180, 0, 17, 21, 6, 7, 96]
abbrev dktX5_faultsOf_2 : List UInt8 := dkwX5_faultsOf_2 ++ dktX5_faultsOf_3
def dkwX5_faultsOf_1 : List UInt8 := [21, 10, 42, 180, 0, 17, 4, 46, 162, 0, 29, 21, 8, 42, 21, 10, 27, 182, 0, 191, 153, 0, 7, 4]
abbrev dktX5_faultsOf_1 : List UInt8 := dkwX5_faultsOf_1 ++ dktX5_faultsOf_2
def dkwX5_faultsOf_0 : List UInt8 := [27, 184, 0, 126, 54, 6, 42, 180, 0, 17, 6, 46, 54, 7, 3, 54, 8, 3, 54, 9, 3, 54, 10]
abbrev dktX5_faultsOf_0 : List UInt8 := dkwX5_faultsOf_0 ++ dktX5_faultsOf_1
theorem dksX5_faultsOf_0 : cX5_faultsOf.data.toList.drop 0 = dktX5_faultsOf_0 := by decide +kernel
theorem dksX5_faultsOf_1 : cX5_faultsOf.data.toList.drop 23 = dktX5_faultsOf_1 := dk_seg dksX5_faultsOf_0 23 rfl rfl
theorem dksX5_faultsOf_2 : cX5_faultsOf.data.toList.drop 47 = dktX5_faultsOf_2 := dk_seg dksX5_faultsOf_1 24 rfl rfl
theorem dksX5_faultsOf_3 : cX5_faultsOf.data.toList.drop 71 = dktX5_faultsOf_3 := dk_seg dksX5_faultsOf_2 24 rfl rfl
theorem dksX5_faultsOf_4 : cX5_faultsOf.data.toList.drop 93 = dktX5_faultsOf_4 := dk_seg dksX5_faultsOf_3 22 rfl rfl
theorem dksX5_faultsOf_5 : cX5_faultsOf.data.toList.drop 116 = dktX5_faultsOf_5 := dk_seg dksX5_faultsOf_4 23 rfl rfl
theorem dksX5_faultsOf_6 : cX5_faultsOf.data.toList.drop 140 = dktX5_faultsOf_6 := dk_seg dksX5_faultsOf_5 24 rfl rfl
theorem dksX5_faultsOf_7 : cX5_faultsOf.data.toList.drop 164 = dktX5_faultsOf_7 := dk_seg dksX5_faultsOf_6 24 rfl rfl
theorem dksX5_faultsOf_8 : cX5_faultsOf.data.toList.drop 188 = dktX5_faultsOf_8 := dk_seg dksX5_faultsOf_7 24 rfl rfl
theorem dksX5_faultsOf_9 : cX5_faultsOf.data.toList.drop 211 = dktX5_faultsOf_9 := dk_seg dksX5_faultsOf_8 23 rfl rfl
theorem dksX5_faultsOf_10 : cX5_faultsOf.data.toList.drop 234 = dktX5_faultsOf_10 := dk_seg dksX5_faultsOf_9 23 rfl rfl
theorem dX5_faultsOf_0 : decode cX5_faultsOf 0 = .ok (.iload_n 1, 1) := dk_27 (dk_at dksX5_faultsOf_0 0 rfl rfl)
theorem dX5_faultsOf_1 : decode cX5_faultsOf 1 = .ok (.invokestatic 126, 3) := dk_184 0 126 (dk_at dksX5_faultsOf_0 1 rfl rfl)
theorem dX5_faultsOf_4 : decode cX5_faultsOf 4 = .ok (.istore 6, 2) := dk_54 6 (dk_at dksX5_faultsOf_0 4 rfl rfl)
theorem dX5_faultsOf_6 : decode cX5_faultsOf 6 = .ok (.aload_n 0, 1) := dk_42 (dk_at dksX5_faultsOf_0 6 rfl rfl)
theorem dX5_faultsOf_7 : decode cX5_faultsOf 7 = .ok (.getfield 17, 3) := dk_180 0 17 (dk_at dksX5_faultsOf_0 7 rfl rfl)
theorem dX5_faultsOf_10 : decode cX5_faultsOf 10 = .ok (.iconst 3, 1) := dk_6 (dk_at dksX5_faultsOf_0 10 rfl rfl)
theorem dX5_faultsOf_11 : decode cX5_faultsOf 11 = .ok (.iaload, 1) := dk_46 (dk_at dksX5_faultsOf_0 11 rfl rfl)
theorem dX5_faultsOf_12 : decode cX5_faultsOf 12 = .ok (.istore 7, 2) := dk_54 7 (dk_at dksX5_faultsOf_0 12 rfl rfl)
theorem dX5_faultsOf_14 : decode cX5_faultsOf 14 = .ok (.iconst 0, 1) := dk_3 (dk_at dksX5_faultsOf_0 14 rfl rfl)
theorem dX5_faultsOf_15 : decode cX5_faultsOf 15 = .ok (.istore 8, 2) := dk_54 8 (dk_at dksX5_faultsOf_0 15 rfl rfl)
theorem dX5_faultsOf_17 : decode cX5_faultsOf 17 = .ok (.iconst 0, 1) := dk_3 (dk_at dksX5_faultsOf_0 17 rfl rfl)
theorem dX5_faultsOf_18 : decode cX5_faultsOf 18 = .ok (.istore 9, 2) := dk_54 9 (dk_at dksX5_faultsOf_0 18 rfl rfl)
theorem dX5_faultsOf_20 : decode cX5_faultsOf 20 = .ok (.iconst 0, 1) := dk_3 (dk_at dksX5_faultsOf_0 20 rfl rfl)
theorem dX5_faultsOf_21 : decode cX5_faultsOf 21 = .ok (.istore 10, 2) := dk_54 10 (dk_at dksX5_faultsOf_0 21 rfl rfl)
theorem dX5_faultsOf_23 : decode cX5_faultsOf 23 = .ok (.iload 10, 2) := dk_21 10 (dk_at dksX5_faultsOf_1 0 rfl rfl)
theorem dX5_faultsOf_25 : decode cX5_faultsOf 25 = .ok (.aload_n 0, 1) := dk_42 (dk_at dksX5_faultsOf_1 2 rfl rfl)
theorem dX5_faultsOf_26 : decode cX5_faultsOf 26 = .ok (.getfield 17, 3) := dk_180 0 17 (dk_at dksX5_faultsOf_1 3 rfl rfl)
theorem dX5_faultsOf_29 : decode cX5_faultsOf 29 = .ok (.iconst 1, 1) := dk_4 (dk_at dksX5_faultsOf_1 6 rfl rfl)
theorem dX5_faultsOf_30 : decode cX5_faultsOf 30 = .ok (.iaload, 1) := dk_46 (dk_at dksX5_faultsOf_1 7 rfl rfl)
theorem dX5_faultsOf_31 : decode cX5_faultsOf 31 = .ok (.if_icmp .ge 29, 3) := dk_162 0 29 (dk_at dksX5_faultsOf_1 8 rfl rfl)
theorem dX5_faultsOf_34 : decode cX5_faultsOf 34 = .ok (.iload 8, 2) := dk_21 8 (dk_at dksX5_faultsOf_1 11 rfl rfl)
theorem dX5_faultsOf_36 : decode cX5_faultsOf 36 = .ok (.aload_n 0, 1) := dk_42 (dk_at dksX5_faultsOf_1 13 rfl rfl)
theorem dX5_faultsOf_37 : decode cX5_faultsOf 37 = .ok (.iload 10, 2) := dk_21 10 (dk_at dksX5_faultsOf_1 14 rfl rfl)
theorem dX5_faultsOf_39 : decode cX5_faultsOf 39 = .ok (.iload_n 1, 1) := dk_27 (dk_at dksX5_faultsOf_1 16 rfl rfl)
theorem dX5_faultsOf_40 : decode cX5_faultsOf 40 = .ok (.invokevirtual 191, 3) := dk_182 0 191 (dk_at dksX5_faultsOf_1 17 rfl rfl)
theorem dX5_faultsOf_43 : decode cX5_faultsOf 43 = .ok (.ifCond .eq 7, 3) := dk_153 0 7 (dk_at dksX5_faultsOf_1 20 rfl rfl)
theorem dX5_faultsOf_46 : decode cX5_faultsOf 46 = .ok (.iconst 1, 1) := dk_4 (dk_at dksX5_faultsOf_1 23 rfl rfl)
theorem dX5_faultsOf_47 : decode cX5_faultsOf 47 = .ok (.goto 4, 3) := dk_167 0 4 (dk_at dksX5_faultsOf_2 0 rfl rfl)
theorem dX5_faultsOf_50 : decode cX5_faultsOf 50 = .ok (.iconst 0, 1) := dk_3 (dk_at dksX5_faultsOf_2 3 rfl rfl)
theorem dX5_faultsOf_51 : decode cX5_faultsOf 51 = .ok (.iadd, 1) := dk_96 (dk_at dksX5_faultsOf_2 4 rfl rfl)
theorem dX5_faultsOf_52 : decode cX5_faultsOf 52 = .ok (.istore 8, 2) := dk_54 8 (dk_at dksX5_faultsOf_2 5 rfl rfl)
theorem dX5_faultsOf_54 : decode cX5_faultsOf 54 = .ok (.iinc 10 1, 3) := dk_132 10 1 (dk_at dksX5_faultsOf_2 7 rfl rfl)
theorem dX5_faultsOf_57 : decode cX5_faultsOf 57 = .ok (.goto (-34), 3) := dk_167 255 222 (dk_at dksX5_faultsOf_2 10 rfl rfl)
theorem dX5_faultsOf_60 : decode cX5_faultsOf 60 = .ok (.iload 9, 2) := dk_21 9 (dk_at dksX5_faultsOf_2 13 rfl rfl)
theorem dX5_faultsOf_62 : decode cX5_faultsOf 62 = .ok (.iload_n 2, 1) := dk_28 (dk_at dksX5_faultsOf_2 15 rfl rfl)
theorem dX5_faultsOf_63 : decode cX5_faultsOf 63 = .ok (.aload_n 0, 1) := dk_42 (dk_at dksX5_faultsOf_2 16 rfl rfl)
theorem dX5_faultsOf_64 : decode cX5_faultsOf 64 = .ok (.getfield 17, 3) := dk_180 0 17 (dk_at dksX5_faultsOf_2 17 rfl rfl)
theorem dX5_faultsOf_67 : decode cX5_faultsOf 67 = .ok (.iload 6, 2) := dk_21 6 (dk_at dksX5_faultsOf_2 20 rfl rfl)
theorem dX5_faultsOf_69 : decode cX5_faultsOf 69 = .ok (.iconst 4, 1) := dk_7 (dk_at dksX5_faultsOf_2 22 rfl rfl)
theorem dX5_faultsOf_70 : decode cX5_faultsOf 70 = .ok (.iadd, 1) := dk_96 (dk_at dksX5_faultsOf_2 23 rfl rfl)
theorem dX5_faultsOf_71 : decode cX5_faultsOf 71 = .ok (.iaload, 1) := dk_46 (dk_at dksX5_faultsOf_3 0 rfl rfl)
theorem dX5_faultsOf_72 : decode cX5_faultsOf 72 = .ok (.if_icmp .le 7, 3) := dk_164 0 7 (dk_at dksX5_faultsOf_3 1 rfl rfl)
theorem dX5_faultsOf_75 : decode cX5_faultsOf 75 = .ok (.iconst 1, 1) := dk_4 (dk_at dksX5_faultsOf_3 4 rfl rfl)
theorem dX5_faultsOf_76 : decode cX5_faultsOf 76 = .ok (.goto 4, 3) := dk_167 0 4 (dk_at dksX5_faultsOf_3 5 rfl rfl)
theorem dX5_faultsOf_79 : decode cX5_faultsOf 79 = .ok (.iconst 0, 1) := dk_3 (dk_at dksX5_faultsOf_3 8 rfl rfl)
theorem dX5_faultsOf_80 : decode cX5_faultsOf 80 = .ok (.ior, 1) := dk_128 (dk_at dksX5_faultsOf_3 9 rfl rfl)
theorem dX5_faultsOf_81 : decode cX5_faultsOf 81 = .ok (.istore 9, 2) := dk_54 9 (dk_at dksX5_faultsOf_3 10 rfl rfl)
theorem dX5_faultsOf_83 : decode cX5_faultsOf 83 = .ok (.iload 9, 2) := dk_21 9 (dk_at dksX5_faultsOf_3 12 rfl rfl)
theorem dX5_faultsOf_85 : decode cX5_faultsOf 85 = .ok (.iload 7, 2) := dk_21 7 (dk_at dksX5_faultsOf_3 14 rfl rfl)
theorem dX5_faultsOf_87 : decode cX5_faultsOf 87 = .ok (.aload_n 0, 1) := dk_42 (dk_at dksX5_faultsOf_3 16 rfl rfl)
theorem dX5_faultsOf_88 : decode cX5_faultsOf 88 = .ok (.iload_n 1, 1) := dk_27 (dk_at dksX5_faultsOf_3 17 rfl rfl)
theorem dX5_faultsOf_89 : decode cX5_faultsOf 89 = .ok (.iload_n 2, 1) := dk_28 (dk_at dksX5_faultsOf_3 18 rfl rfl)
theorem dX5_faultsOf_90 : decode cX5_faultsOf 90 = .ok (.invokevirtual 204, 3) := dk_182 0 204 (dk_at dksX5_faultsOf_3 19 rfl rfl)
theorem dX5_faultsOf_93 : decode cX5_faultsOf 93 = .ok (.if_icmp .le 7, 3) := dk_164 0 7 (dk_at dksX5_faultsOf_4 0 rfl rfl)
theorem dX5_faultsOf_96 : decode cX5_faultsOf 96 = .ok (.iconst 2, 1) := dk_5 (dk_at dksX5_faultsOf_4 3 rfl rfl)
theorem dX5_faultsOf_97 : decode cX5_faultsOf 97 = .ok (.goto 4, 3) := dk_167 0 4 (dk_at dksX5_faultsOf_4 4 rfl rfl)
theorem dX5_faultsOf_100 : decode cX5_faultsOf 100 = .ok (.iconst 0, 1) := dk_3 (dk_at dksX5_faultsOf_4 7 rfl rfl)
theorem dX5_faultsOf_101 : decode cX5_faultsOf 101 = .ok (.ior, 1) := dk_128 (dk_at dksX5_faultsOf_4 8 rfl rfl)
theorem dX5_faultsOf_102 : decode cX5_faultsOf 102 = .ok (.istore 9, 2) := dk_54 9 (dk_at dksX5_faultsOf_4 9 rfl rfl)
theorem dX5_faultsOf_104 : decode cX5_faultsOf 104 = .ok (.iload 9, 2) := dk_21 9 (dk_at dksX5_faultsOf_4 11 rfl rfl)
theorem dX5_faultsOf_106 : decode cX5_faultsOf 106 = .ok (.iload_n 3, 1) := dk_29 (dk_at dksX5_faultsOf_4 13 rfl rfl)
theorem dX5_faultsOf_107 : decode cX5_faultsOf 107 = .ok (.aload_n 0, 1) := dk_42 (dk_at dksX5_faultsOf_4 14 rfl rfl)
theorem dX5_faultsOf_108 : decode cX5_faultsOf 108 = .ok (.iload_n 1, 1) := dk_27 (dk_at dksX5_faultsOf_4 15 rfl rfl)
theorem dX5_faultsOf_109 : decode cX5_faultsOf 109 = .ok (.invokevirtual 201, 3) := dk_182 0 201 (dk_at dksX5_faultsOf_4 16 rfl rfl)
theorem dX5_faultsOf_112 : decode cX5_faultsOf 112 = .ok (.if_icmp .le 7, 3) := dk_164 0 7 (dk_at dksX5_faultsOf_4 19 rfl rfl)
theorem dX5_faultsOf_115 : decode cX5_faultsOf 115 = .ok (.iconst 4, 1) := dk_7 (dk_at dksX5_faultsOf_4 22 rfl rfl)
theorem dX5_faultsOf_116 : decode cX5_faultsOf 116 = .ok (.goto 4, 3) := dk_167 0 4 (dk_at dksX5_faultsOf_5 0 rfl rfl)
theorem dX5_faultsOf_119 : decode cX5_faultsOf 119 = .ok (.iconst 0, 1) := dk_3 (dk_at dksX5_faultsOf_5 3 rfl rfl)
theorem dX5_faultsOf_120 : decode cX5_faultsOf 120 = .ok (.ior, 1) := dk_128 (dk_at dksX5_faultsOf_5 4 rfl rfl)
theorem dX5_faultsOf_121 : decode cX5_faultsOf 121 = .ok (.istore 9, 2) := dk_54 9 (dk_at dksX5_faultsOf_5 5 rfl rfl)
theorem dX5_faultsOf_123 : decode cX5_faultsOf 123 = .ok (.iload 9, 2) := dk_21 9 (dk_at dksX5_faultsOf_5 7 rfl rfl)
theorem dX5_faultsOf_125 : decode cX5_faultsOf 125 = .ok (.aload_n 0, 1) := dk_42 (dk_at dksX5_faultsOf_5 9 rfl rfl)
theorem dX5_faultsOf_126 : decode cX5_faultsOf 126 = .ok (.getfield 17, 3) := dk_180 0 17 (dk_at dksX5_faultsOf_5 10 rfl rfl)
theorem dX5_faultsOf_129 : decode cX5_faultsOf 129 = .ok (.iload 6, 2) := dk_21 6 (dk_at dksX5_faultsOf_5 13 rfl rfl)
theorem dX5_faultsOf_131 : decode cX5_faultsOf 131 = .ok (.bipush 7, 2) := dk_16 7 (dk_at dksX5_faultsOf_5 15 rfl rfl)
theorem dX5_faultsOf_133 : decode cX5_faultsOf 133 = .ok (.iadd, 1) := dk_96 (dk_at dksX5_faultsOf_5 17 rfl rfl)
theorem dX5_faultsOf_134 : decode cX5_faultsOf 134 = .ok (.iaload, 1) := dk_46 (dk_at dksX5_faultsOf_5 18 rfl rfl)
theorem dX5_faultsOf_135 : decode cX5_faultsOf 135 = .ok (.ifCond .ne 22, 3) := dk_154 0 22 (dk_at dksX5_faultsOf_5 19 rfl rfl)
theorem dX5_faultsOf_138 : decode cX5_faultsOf 138 = .ok (.iload_n 3, 1) := dk_29 (dk_at dksX5_faultsOf_5 22 rfl rfl)
theorem dX5_faultsOf_139 : decode cX5_faultsOf 139 = .ok (.aload_n 0, 1) := dk_42 (dk_at dksX5_faultsOf_5 23 rfl rfl)
theorem dX5_faultsOf_140 : decode cX5_faultsOf 140 = .ok (.iload_n 1, 1) := dk_27 (dk_at dksX5_faultsOf_6 0 rfl rfl)
theorem dX5_faultsOf_141 : decode cX5_faultsOf 141 = .ok (.invokevirtual 185, 3) := dk_182 0 185 (dk_at dksX5_faultsOf_6 1 rfl rfl)
theorem dX5_faultsOf_144 : decode cX5_faultsOf 144 = .ok (.if_icmp .lt 8, 3) := dk_161 0 8 (dk_at dksX5_faultsOf_6 4 rfl rfl)
theorem dX5_faultsOf_147 : decode cX5_faultsOf 147 = .ok (.iload 8, 2) := dk_21 8 (dk_at dksX5_faultsOf_6 7 rfl rfl)
theorem dX5_faultsOf_149 : decode cX5_faultsOf 149 = .ok (.ifCond .le 8, 3) := dk_158 0 8 (dk_at dksX5_faultsOf_6 9 rfl rfl)
theorem dX5_faultsOf_152 : decode cX5_faultsOf 152 = .ok (.bipush 8, 2) := dk_16 8 (dk_at dksX5_faultsOf_6 12 rfl rfl)
theorem dX5_faultsOf_154 : decode cX5_faultsOf 154 = .ok (.goto 4, 3) := dk_167 0 4 (dk_at dksX5_faultsOf_6 14 rfl rfl)
theorem dX5_faultsOf_157 : decode cX5_faultsOf 157 = .ok (.iconst 0, 1) := dk_3 (dk_at dksX5_faultsOf_6 17 rfl rfl)
theorem dX5_faultsOf_158 : decode cX5_faultsOf 158 = .ok (.ior, 1) := dk_128 (dk_at dksX5_faultsOf_6 18 rfl rfl)
theorem dX5_faultsOf_159 : decode cX5_faultsOf 159 = .ok (.istore 9, 2) := dk_54 9 (dk_at dksX5_faultsOf_6 19 rfl rfl)
theorem dX5_faultsOf_161 : decode cX5_faultsOf 161 = .ok (.iload 9, 2) := dk_21 9 (dk_at dksX5_faultsOf_6 21 rfl rfl)
theorem dX5_faultsOf_163 : decode cX5_faultsOf 163 = .ok (.aload_n 0, 1) := dk_42 (dk_at dksX5_faultsOf_6 23 rfl rfl)
theorem dX5_faultsOf_164 : decode cX5_faultsOf 164 = .ok (.getfield 17, 3) := dk_180 0 17 (dk_at dksX5_faultsOf_7 0 rfl rfl)
theorem dX5_faultsOf_167 : decode cX5_faultsOf 167 = .ok (.iload 6, 2) := dk_21 6 (dk_at dksX5_faultsOf_7 3 rfl rfl)
theorem dX5_faultsOf_169 : decode cX5_faultsOf 169 = .ok (.bipush 9, 2) := dk_16 9 (dk_at dksX5_faultsOf_7 5 rfl rfl)
theorem dX5_faultsOf_171 : decode cX5_faultsOf 171 = .ok (.iadd, 1) := dk_96 (dk_at dksX5_faultsOf_7 7 rfl rfl)
theorem dX5_faultsOf_172 : decode cX5_faultsOf 172 = .ok (.iaload, 1) := dk_46 (dk_at dksX5_faultsOf_7 8 rfl rfl)
theorem dX5_faultsOf_173 : decode cX5_faultsOf 173 = .ok (.iload 4, 2) := dk_21 4 (dk_at dksX5_faultsOf_7 9 rfl rfl)
theorem dX5_faultsOf_175 : decode cX5_faultsOf 175 = .ok (.iconst (-1), 1) := dk_2 (dk_at dksX5_faultsOf_7 11 rfl rfl)
theorem dX5_faultsOf_176 : decode cX5_faultsOf 176 = .ok (.ixor, 1) := dk_130 (dk_at dksX5_faultsOf_7 12 rfl rfl)
theorem dX5_faultsOf_177 : decode cX5_faultsOf 177 = .ok (.iand, 1) := dk_126 (dk_at dksX5_faultsOf_7 13 rfl rfl)
theorem dX5_faultsOf_178 : decode cX5_faultsOf 178 = .ok (.ifCond .eq 8, 3) := dk_153 0 8 (dk_at dksX5_faultsOf_7 14 rfl rfl)
theorem dX5_faultsOf_181 : decode cX5_faultsOf 181 = .ok (.bipush 16, 2) := dk_16 16 (dk_at dksX5_faultsOf_7 17 rfl rfl)
theorem dX5_faultsOf_183 : decode cX5_faultsOf 183 = .ok (.goto 4, 3) := dk_167 0 4 (dk_at dksX5_faultsOf_7 19 rfl rfl)
theorem dX5_faultsOf_186 : decode cX5_faultsOf 186 = .ok (.iconst 0, 1) := dk_3 (dk_at dksX5_faultsOf_7 22 rfl rfl)
theorem dX5_faultsOf_187 : decode cX5_faultsOf 187 = .ok (.ior, 1) := dk_128 (dk_at dksX5_faultsOf_7 23 rfl rfl)
theorem dX5_faultsOf_188 : decode cX5_faultsOf 188 = .ok (.istore 9, 2) := dk_54 9 (dk_at dksX5_faultsOf_8 0 rfl rfl)
theorem dX5_faultsOf_190 : decode cX5_faultsOf 190 = .ok (.iload 9, 2) := dk_21 9 (dk_at dksX5_faultsOf_8 2 rfl rfl)
theorem dX5_faultsOf_192 : decode cX5_faultsOf 192 = .ok (.aload_n 0, 1) := dk_42 (dk_at dksX5_faultsOf_8 4 rfl rfl)
theorem dX5_faultsOf_193 : decode cX5_faultsOf 193 = .ok (.getfield 17, 3) := dk_180 0 17 (dk_at dksX5_faultsOf_8 5 rfl rfl)
theorem dX5_faultsOf_196 : decode cX5_faultsOf 196 = .ok (.iload 6, 2) := dk_21 6 (dk_at dksX5_faultsOf_8 8 rfl rfl)
theorem dX5_faultsOf_198 : decode cX5_faultsOf 198 = .ok (.bipush 9, 2) := dk_16 9 (dk_at dksX5_faultsOf_8 10 rfl rfl)
theorem dX5_faultsOf_200 : decode cX5_faultsOf 200 = .ok (.iadd, 1) := dk_96 (dk_at dksX5_faultsOf_8 12 rfl rfl)
theorem dX5_faultsOf_201 : decode cX5_faultsOf 201 = .ok (.iaload, 1) := dk_46 (dk_at dksX5_faultsOf_8 13 rfl rfl)
theorem dX5_faultsOf_202 : decode cX5_faultsOf 202 = .ok (.bipush 7, 2) := dk_16 7 (dk_at dksX5_faultsOf_8 14 rfl rfl)
theorem dX5_faultsOf_204 : decode cX5_faultsOf 204 = .ok (.ishr, 1) := dk_122 (dk_at dksX5_faultsOf_8 16 rfl rfl)
theorem dX5_faultsOf_205 : decode cX5_faultsOf 205 = .ok (.iconst 1, 1) := dk_4 (dk_at dksX5_faultsOf_8 17 rfl rfl)
theorem dX5_faultsOf_206 : decode cX5_faultsOf 206 = .ok (.iand, 1) := dk_126 (dk_at dksX5_faultsOf_8 18 rfl rfl)
theorem dX5_faultsOf_207 : decode cX5_faultsOf 207 = .ok (.iconst 1, 1) := dk_4 (dk_at dksX5_faultsOf_8 19 rfl rfl)
theorem dX5_faultsOf_208 : decode cX5_faultsOf 208 = .ok (.if_icmp .ne 19, 3) := dk_160 0 19 (dk_at dksX5_faultsOf_8 20 rfl rfl)
theorem dX5_faultsOf_211 : decode cX5_faultsOf 211 = .ok (.iload 5, 2) := dk_21 5 (dk_at dksX5_faultsOf_9 0 rfl rfl)
theorem dX5_faultsOf_213 : decode cX5_faultsOf 213 = .ok (.iload_n 3, 1) := dk_29 (dk_at dksX5_faultsOf_9 2 rfl rfl)
theorem dX5_faultsOf_214 : decode cX5_faultsOf 214 = .ok (.iload_n 3, 1) := dk_29 (dk_at dksX5_faultsOf_9 3 rfl rfl)
theorem dX5_faultsOf_215 : decode cX5_faultsOf 215 = .ok (.bipush 10, 2) := dk_16 10 (dk_at dksX5_faultsOf_9 4 rfl rfl)
theorem dX5_faultsOf_217 : decode cX5_faultsOf 217 = .ok (.idiv, 1) := dk_108 (dk_at dksX5_faultsOf_9 6 rfl rfl)
theorem dX5_faultsOf_218 : decode cX5_faultsOf 218 = .ok (.iadd, 1) := dk_96 (dk_at dksX5_faultsOf_9 7 rfl rfl)
theorem dX5_faultsOf_219 : decode cX5_faultsOf 219 = .ok (.if_icmp .ge 8, 3) := dk_162 0 8 (dk_at dksX5_faultsOf_9 8 rfl rfl)
theorem dX5_faultsOf_222 : decode cX5_faultsOf 222 = .ok (.bipush 32, 2) := dk_16 32 (dk_at dksX5_faultsOf_9 11 rfl rfl)
theorem dX5_faultsOf_224 : decode cX5_faultsOf 224 = .ok (.goto 4, 3) := dk_167 0 4 (dk_at dksX5_faultsOf_9 13 rfl rfl)
theorem dX5_faultsOf_227 : decode cX5_faultsOf 227 = .ok (.iconst 0, 1) := dk_3 (dk_at dksX5_faultsOf_9 16 rfl rfl)
theorem dX5_faultsOf_228 : decode cX5_faultsOf 228 = .ok (.ior, 1) := dk_128 (dk_at dksX5_faultsOf_9 17 rfl rfl)
theorem dX5_faultsOf_229 : decode cX5_faultsOf 229 = .ok (.istore 9, 2) := dk_54 9 (dk_at dksX5_faultsOf_9 18 rfl rfl)
theorem dX5_faultsOf_231 : decode cX5_faultsOf 231 = .ok (.iload 9, 2) := dk_21 9 (dk_at dksX5_faultsOf_9 20 rfl rfl)
theorem dX5_faultsOf_233 : decode cX5_faultsOf 233 = .ok (.iload_n 2, 1) := dk_28 (dk_at dksX5_faultsOf_9 22 rfl rfl)
theorem dX5_faultsOf_234 : decode cX5_faultsOf 234 = .ok (.iload 7, 2) := dk_21 7 (dk_at dksX5_faultsOf_10 0 rfl rfl)
theorem dX5_faultsOf_236 : decode cX5_faultsOf 236 = .ok (.if_icmp .le 8, 3) := dk_164 0 8 (dk_at dksX5_faultsOf_10 2 rfl rfl)
theorem dX5_faultsOf_239 : decode cX5_faultsOf 239 = .ok (.bipush 64, 2) := dk_16 64 (dk_at dksX5_faultsOf_10 5 rfl rfl)
theorem dX5_faultsOf_241 : decode cX5_faultsOf 241 = .ok (.goto 4, 3) := dk_167 0 4 (dk_at dksX5_faultsOf_10 7 rfl rfl)
theorem dX5_faultsOf_244 : decode cX5_faultsOf 244 = .ok (.iconst 0, 1) := dk_3 (dk_at dksX5_faultsOf_10 10 rfl rfl)
theorem dX5_faultsOf_245 : decode cX5_faultsOf 245 = .ok (.ior, 1) := dk_128 (dk_at dksX5_faultsOf_10 11 rfl rfl)
theorem dX5_faultsOf_246 : decode cX5_faultsOf 246 = .ok (.ireturn, 1) := dk_172 (dk_at dksX5_faultsOf_10 12 rfl rfl)
abbrev cX5_lastDayOf : ByteArray := prog_14_method_54_code
def yX5_lastDayOf : MethodName := ⟨RX5, "lastDayOf", "(II)I"⟩
def dkwX5_lastDayOf_1 : List UInt8 := [184, 0, 126, 8, 96, 46, 96, 182, 0, 170, 184, 0, 87, 172]
abbrev dktX5_lastDayOf_1 : List UInt8 := dkwX5_lastDayOf_1 ++ []
def dkwX5_lastDayOf_0 : List UInt8 := [42, 42, 180, 0, 17, 27, 184, 0, 126, 6, 96, 46, 182, 0, 170, 42, 28, 42, 180, 0, 17, 27]
abbrev dktX5_lastDayOf_0 : List UInt8 := dkwX5_lastDayOf_0 ++ dktX5_lastDayOf_1
theorem dksX5_lastDayOf_0 : cX5_lastDayOf.data.toList.drop 0 = dktX5_lastDayOf_0 := by decide +kernel
theorem dksX5_lastDayOf_1 : cX5_lastDayOf.data.toList.drop 22 = dktX5_lastDayOf_1 := dk_seg dksX5_lastDayOf_0 22 rfl rfl
theorem dX5_lastDayOf_0 : decode cX5_lastDayOf 0 = .ok (.aload_n 0, 1) := dk_42 (dk_at dksX5_lastDayOf_0 0 rfl rfl)
theorem dX5_lastDayOf_1 : decode cX5_lastDayOf 1 = .ok (.aload_n 0, 1) := dk_42 (dk_at dksX5_lastDayOf_0 1 rfl rfl)
theorem dX5_lastDayOf_2 : decode cX5_lastDayOf 2 = .ok (.getfield 17, 3) := dk_180 0 17 (dk_at dksX5_lastDayOf_0 2 rfl rfl)
theorem dX5_lastDayOf_5 : decode cX5_lastDayOf 5 = .ok (.iload_n 1, 1) := dk_27 (dk_at dksX5_lastDayOf_0 5 rfl rfl)
theorem dX5_lastDayOf_6 : decode cX5_lastDayOf 6 = .ok (.invokestatic 126, 3) := dk_184 0 126 (dk_at dksX5_lastDayOf_0 6 rfl rfl)
theorem dX5_lastDayOf_9 : decode cX5_lastDayOf 9 = .ok (.iconst 3, 1) := dk_6 (dk_at dksX5_lastDayOf_0 9 rfl rfl)
theorem dX5_lastDayOf_10 : decode cX5_lastDayOf 10 = .ok (.iadd, 1) := dk_96 (dk_at dksX5_lastDayOf_0 10 rfl rfl)
theorem dX5_lastDayOf_11 : decode cX5_lastDayOf 11 = .ok (.iaload, 1) := dk_46 (dk_at dksX5_lastDayOf_0 11 rfl rfl)
theorem dX5_lastDayOf_12 : decode cX5_lastDayOf 12 = .ok (.invokevirtual 170, 3) := dk_182 0 170 (dk_at dksX5_lastDayOf_0 12 rfl rfl)
theorem dX5_lastDayOf_15 : decode cX5_lastDayOf 15 = .ok (.aload_n 0, 1) := dk_42 (dk_at dksX5_lastDayOf_0 15 rfl rfl)
theorem dX5_lastDayOf_16 : decode cX5_lastDayOf 16 = .ok (.iload_n 2, 1) := dk_28 (dk_at dksX5_lastDayOf_0 16 rfl rfl)
theorem dX5_lastDayOf_17 : decode cX5_lastDayOf 17 = .ok (.aload_n 0, 1) := dk_42 (dk_at dksX5_lastDayOf_0 17 rfl rfl)
theorem dX5_lastDayOf_18 : decode cX5_lastDayOf 18 = .ok (.getfield 17, 3) := dk_180 0 17 (dk_at dksX5_lastDayOf_0 18 rfl rfl)
theorem dX5_lastDayOf_21 : decode cX5_lastDayOf 21 = .ok (.iload_n 1, 1) := dk_27 (dk_at dksX5_lastDayOf_0 21 rfl rfl)
theorem dX5_lastDayOf_22 : decode cX5_lastDayOf 22 = .ok (.invokestatic 126, 3) := dk_184 0 126 (dk_at dksX5_lastDayOf_1 0 rfl rfl)
theorem dX5_lastDayOf_25 : decode cX5_lastDayOf 25 = .ok (.iconst 5, 1) := dk_8 (dk_at dksX5_lastDayOf_1 3 rfl rfl)
theorem dX5_lastDayOf_26 : decode cX5_lastDayOf 26 = .ok (.iadd, 1) := dk_96 (dk_at dksX5_lastDayOf_1 4 rfl rfl)
theorem dX5_lastDayOf_27 : decode cX5_lastDayOf 27 = .ok (.iaload, 1) := dk_46 (dk_at dksX5_lastDayOf_1 5 rfl rfl)
theorem dX5_lastDayOf_28 : decode cX5_lastDayOf 28 = .ok (.iadd, 1) := dk_96 (dk_at dksX5_lastDayOf_1 6 rfl rfl)
theorem dX5_lastDayOf_29 : decode cX5_lastDayOf 29 = .ok (.invokevirtual 170, 3) := dk_182 0 170 (dk_at dksX5_lastDayOf_1 7 rfl rfl)
theorem dX5_lastDayOf_32 : decode cX5_lastDayOf 32 = .ok (.invokestatic 87, 3) := dk_184 0 87 (dk_at dksX5_lastDayOf_1 10 rfl rfl)
theorem dX5_lastDayOf_35 : decode cX5_lastDayOf 35 = .ok (.ireturn, 1) := dk_172 (dk_at dksX5_lastDayOf_1 13 rfl rfl)
abbrev cX5_lastDay : ByteArray := prog_14_method_58_code
def yX5_lastDay : MethodName := ⟨RX5, "lastDay", "(II)I"⟩
def dkwX5_lastDay_1 : List UInt8 := [167, 0, 4, 3, 5, 182, 0, 153, 153, 0, 7, 3, 167, 0, 9, 42, 27, 28, 182, 0, 204, 172]
abbrev dktX5_lastDay_1 : List UInt8 := dkwX5_lastDay_1 ++ []
def dkwX5_lastDay_0 : List UInt8 := [42, 3, 181, 0, 32, 42, 27, 182, 0, 179, 154, 0, 23, 42, 28, 184, 0, 173, 154, 0, 7, 4]
abbrev dktX5_lastDay_0 : List UInt8 := dkwX5_lastDay_0 ++ dktX5_lastDay_1
theorem dksX5_lastDay_0 : cX5_lastDay.data.toList.drop 0 = dktX5_lastDay_0 := by decide +kernel
theorem dksX5_lastDay_1 : cX5_lastDay.data.toList.drop 22 = dktX5_lastDay_1 := dk_seg dksX5_lastDay_0 22 rfl rfl
theorem dX5_lastDay_0 : decode cX5_lastDay 0 = .ok (.aload_n 0, 1) := dk_42 (dk_at dksX5_lastDay_0 0 rfl rfl)
theorem dX5_lastDay_1 : decode cX5_lastDay 1 = .ok (.iconst 0, 1) := dk_3 (dk_at dksX5_lastDay_0 1 rfl rfl)
theorem dX5_lastDay_2 : decode cX5_lastDay 2 = .ok (.putfield 32, 3) := dk_181 0 32 (dk_at dksX5_lastDay_0 2 rfl rfl)
theorem dX5_lastDay_5 : decode cX5_lastDay 5 = .ok (.aload_n 0, 1) := dk_42 (dk_at dksX5_lastDay_0 5 rfl rfl)
theorem dX5_lastDay_6 : decode cX5_lastDay 6 = .ok (.iload_n 1, 1) := dk_27 (dk_at dksX5_lastDay_0 6 rfl rfl)
theorem dX5_lastDay_7 : decode cX5_lastDay 7 = .ok (.invokevirtual 179, 3) := dk_182 0 179 (dk_at dksX5_lastDay_0 7 rfl rfl)
theorem dX5_lastDay_10 : decode cX5_lastDay 10 = .ok (.ifCond .ne 23, 3) := dk_154 0 23 (dk_at dksX5_lastDay_0 10 rfl rfl)
theorem dX5_lastDay_13 : decode cX5_lastDay 13 = .ok (.aload_n 0, 1) := dk_42 (dk_at dksX5_lastDay_0 13 rfl rfl)
theorem dX5_lastDay_14 : decode cX5_lastDay 14 = .ok (.iload_n 2, 1) := dk_28 (dk_at dksX5_lastDay_0 14 rfl rfl)
theorem dX5_lastDay_15 : decode cX5_lastDay 15 = .ok (.invokestatic 173, 3) := dk_184 0 173 (dk_at dksX5_lastDay_0 15 rfl rfl)
theorem dX5_lastDay_18 : decode cX5_lastDay 18 = .ok (.ifCond .ne 7, 3) := dk_154 0 7 (dk_at dksX5_lastDay_0 18 rfl rfl)
theorem dX5_lastDay_21 : decode cX5_lastDay 21 = .ok (.iconst 1, 1) := dk_4 (dk_at dksX5_lastDay_0 21 rfl rfl)
theorem dX5_lastDay_22 : decode cX5_lastDay 22 = .ok (.goto 4, 3) := dk_167 0 4 (dk_at dksX5_lastDay_1 0 rfl rfl)
theorem dX5_lastDay_25 : decode cX5_lastDay 25 = .ok (.iconst 0, 1) := dk_3 (dk_at dksX5_lastDay_1 3 rfl rfl)
theorem dX5_lastDay_26 : decode cX5_lastDay 26 = .ok (.iconst 2, 1) := dk_5 (dk_at dksX5_lastDay_1 4 rfl rfl)
theorem dX5_lastDay_27 : decode cX5_lastDay 27 = .ok (.invokevirtual 153, 3) := dk_182 0 153 (dk_at dksX5_lastDay_1 5 rfl rfl)
theorem dX5_lastDay_30 : decode cX5_lastDay 30 = .ok (.ifCond .eq 7, 3) := dk_153 0 7 (dk_at dksX5_lastDay_1 8 rfl rfl)
theorem dX5_lastDay_33 : decode cX5_lastDay 33 = .ok (.iconst 0, 1) := dk_3 (dk_at dksX5_lastDay_1 11 rfl rfl)
theorem dX5_lastDay_34 : decode cX5_lastDay 34 = .ok (.goto 9, 3) := dk_167 0 9 (dk_at dksX5_lastDay_1 12 rfl rfl)
theorem dX5_lastDay_37 : decode cX5_lastDay 37 = .ok (.aload_n 0, 1) := dk_42 (dk_at dksX5_lastDay_1 15 rfl rfl)
theorem dX5_lastDay_38 : decode cX5_lastDay 38 = .ok (.iload_n 1, 1) := dk_27 (dk_at dksX5_lastDay_1 16 rfl rfl)
theorem dX5_lastDay_39 : decode cX5_lastDay 39 = .ok (.iload_n 2, 1) := dk_28 (dk_at dksX5_lastDay_1 17 rfl rfl)
theorem dX5_lastDay_40 : decode cX5_lastDay 40 = .ok (.invokevirtual 204, 3) := dk_182 0 204 (dk_at dksX5_lastDay_1 18 rfl rfl)
theorem dX5_lastDay_43 : decode cX5_lastDay 43 = .ok (.ireturn, 1) := dk_172 (dk_at dksX5_lastDay_1 21 rfl rfl)
abbrev cX5_creditOf : ByteArray := prog_14_method_59_code
def yX5_creditOf : MethodName := ⟨RX5, "creditOf", "(I)I"⟩
def dkwX5_creditOf_1 : List UInt8 := [184, 0, 188, 46, 172]
abbrev dktX5_creditOf_1 : List UInt8 := dkwX5_creditOf_1 ++ []
def dkwX5_creditOf_0 : List UInt8 := [42, 3, 181, 0, 32, 42, 27, 182, 0, 216, 153, 0, 7, 3, 167, 0, 12, 42, 180, 0, 17, 27]
abbrev dktX5_creditOf_0 : List UInt8 := dkwX5_creditOf_0 ++ dktX5_creditOf_1
theorem dksX5_creditOf_0 : cX5_creditOf.data.toList.drop 0 = dktX5_creditOf_0 := by decide +kernel
theorem dksX5_creditOf_1 : cX5_creditOf.data.toList.drop 22 = dktX5_creditOf_1 := dk_seg dksX5_creditOf_0 22 rfl rfl
theorem dX5_creditOf_0 : decode cX5_creditOf 0 = .ok (.aload_n 0, 1) := dk_42 (dk_at dksX5_creditOf_0 0 rfl rfl)
theorem dX5_creditOf_1 : decode cX5_creditOf 1 = .ok (.iconst 0, 1) := dk_3 (dk_at dksX5_creditOf_0 1 rfl rfl)
theorem dX5_creditOf_2 : decode cX5_creditOf 2 = .ok (.putfield 32, 3) := dk_181 0 32 (dk_at dksX5_creditOf_0 2 rfl rfl)
theorem dX5_creditOf_5 : decode cX5_creditOf 5 = .ok (.aload_n 0, 1) := dk_42 (dk_at dksX5_creditOf_0 5 rfl rfl)
theorem dX5_creditOf_6 : decode cX5_creditOf 6 = .ok (.iload_n 1, 1) := dk_27 (dk_at dksX5_creditOf_0 6 rfl rfl)
theorem dX5_creditOf_7 : decode cX5_creditOf 7 = .ok (.invokevirtual 216, 3) := dk_182 0 216 (dk_at dksX5_creditOf_0 7 rfl rfl)
theorem dX5_creditOf_10 : decode cX5_creditOf 10 = .ok (.ifCond .eq 7, 3) := dk_153 0 7 (dk_at dksX5_creditOf_0 10 rfl rfl)
theorem dX5_creditOf_13 : decode cX5_creditOf 13 = .ok (.iconst 0, 1) := dk_3 (dk_at dksX5_creditOf_0 13 rfl rfl)
theorem dX5_creditOf_14 : decode cX5_creditOf 14 = .ok (.goto 12, 3) := dk_167 0 12 (dk_at dksX5_creditOf_0 14 rfl rfl)
theorem dX5_creditOf_17 : decode cX5_creditOf 17 = .ok (.aload_n 0, 1) := dk_42 (dk_at dksX5_creditOf_0 17 rfl rfl)
theorem dX5_creditOf_18 : decode cX5_creditOf 18 = .ok (.getfield 17, 3) := dk_180 0 17 (dk_at dksX5_creditOf_0 18 rfl rfl)
theorem dX5_creditOf_21 : decode cX5_creditOf 21 = .ok (.iload_n 1, 1) := dk_27 (dk_at dksX5_creditOf_0 21 rfl rfl)
theorem dX5_creditOf_22 : decode cX5_creditOf 22 = .ok (.invokestatic 188, 3) := dk_184 0 188 (dk_at dksX5_creditOf_1 0 rfl rfl)
theorem dX5_creditOf_25 : decode cX5_creditOf 25 = .ok (.iaload, 1) := dk_46 (dk_at dksX5_creditOf_1 3 rfl rfl)
theorem dX5_creditOf_26 : decode cX5_creditOf 26 = .ok (.ireturn, 1) := dk_172 (dk_at dksX5_creditOf_1 4 rfl rfl)
abbrev cX5_noPresentation : ByteArray := prog_14_method_39_code
def yX5_noPresentation : MethodName := ⟨RX5, "noPresentation", "(I)Z"⟩
def dkwX5_noPresentation_1 : List UInt8 := [182, 0, 153, 172]
abbrev dktX5_noPresentation_1 : List UInt8 := dkwX5_noPresentation_1 ++ []
def dkwX5_noPresentation_0 : List UInt8 := [42, 27, 3, 42, 180, 0, 17, 4, 46, 4, 100, 184, 0, 54, 154, 0, 7, 4, 167, 0, 4, 3, 4]
abbrev dktX5_noPresentation_0 : List UInt8 := dkwX5_noPresentation_0 ++ dktX5_noPresentation_1
theorem dksX5_noPresentation_0 : cX5_noPresentation.data.toList.drop 0 = dktX5_noPresentation_0 := by decide +kernel
theorem dksX5_noPresentation_1 : cX5_noPresentation.data.toList.drop 23 = dktX5_noPresentation_1 := dk_seg dksX5_noPresentation_0 23 rfl rfl
theorem dX5_noPresentation_0 : decode cX5_noPresentation 0 = .ok (.aload_n 0, 1) := dk_42 (dk_at dksX5_noPresentation_0 0 rfl rfl)
theorem dX5_noPresentation_1 : decode cX5_noPresentation 1 = .ok (.iload_n 1, 1) := dk_27 (dk_at dksX5_noPresentation_0 1 rfl rfl)
theorem dX5_noPresentation_2 : decode cX5_noPresentation 2 = .ok (.iconst 0, 1) := dk_3 (dk_at dksX5_noPresentation_0 2 rfl rfl)
theorem dX5_noPresentation_3 : decode cX5_noPresentation 3 = .ok (.aload_n 0, 1) := dk_42 (dk_at dksX5_noPresentation_0 3 rfl rfl)
theorem dX5_noPresentation_4 : decode cX5_noPresentation 4 = .ok (.getfield 17, 3) := dk_180 0 17 (dk_at dksX5_noPresentation_0 4 rfl rfl)
theorem dX5_noPresentation_7 : decode cX5_noPresentation 7 = .ok (.iconst 1, 1) := dk_4 (dk_at dksX5_noPresentation_0 7 rfl rfl)
theorem dX5_noPresentation_8 : decode cX5_noPresentation 8 = .ok (.iaload, 1) := dk_46 (dk_at dksX5_noPresentation_0 8 rfl rfl)
theorem dX5_noPresentation_9 : decode cX5_noPresentation 9 = .ok (.iconst 1, 1) := dk_4 (dk_at dksX5_noPresentation_0 9 rfl rfl)
theorem dX5_noPresentation_10 : decode cX5_noPresentation 10 = .ok (.isub, 1) := dk_100 (dk_at dksX5_noPresentation_0 10 rfl rfl)
theorem dX5_noPresentation_11 : decode cX5_noPresentation 11 = .ok (.invokestatic 54, 3) := dk_184 0 54 (dk_at dksX5_noPresentation_0 11 rfl rfl)
theorem dX5_noPresentation_14 : decode cX5_noPresentation 14 = .ok (.ifCond .ne 7, 3) := dk_154 0 7 (dk_at dksX5_noPresentation_0 14 rfl rfl)
theorem dX5_noPresentation_17 : decode cX5_noPresentation 17 = .ok (.iconst 1, 1) := dk_4 (dk_at dksX5_noPresentation_0 17 rfl rfl)
theorem dX5_noPresentation_18 : decode cX5_noPresentation 18 = .ok (.goto 4, 3) := dk_167 0 4 (dk_at dksX5_noPresentation_0 18 rfl rfl)
theorem dX5_noPresentation_21 : decode cX5_noPresentation 21 = .ok (.iconst 0, 1) := dk_3 (dk_at dksX5_noPresentation_0 21 rfl rfl)
theorem dX5_noPresentation_22 : decode cX5_noPresentation 22 = .ok (.iconst 1, 1) := dk_4 (dk_at dksX5_noPresentation_0 22 rfl rfl)
theorem dX5_noPresentation_23 : decode cX5_noPresentation 23 = .ok (.invokevirtual 153, 3) := dk_182 0 153 (dk_at dksX5_noPresentation_1 0 rfl rfl)
theorem dX5_noPresentation_26 : decode cX5_noPresentation 26 = .ok (.ireturn, 1) := dk_172 (dk_at dksX5_noPresentation_1 3 rfl rfl)
abbrev cX5_state : ByteArray := prog_14_method_60_code
def yX5_state : MethodName := ⟨RX5, "state", "(I)I"⟩
def dkwX5_state_1 : List UInt8 := [184, 0, 188, 7, 96, 46, 172]
abbrev dktX5_state_1 : List UInt8 := dkwX5_state_1 ++ []
def dkwX5_state_0 : List UInt8 := [42, 3, 181, 0, 32, 42, 27, 182, 0, 216, 153, 0, 7, 3, 167, 0, 14, 42, 180, 0, 17, 27]
abbrev dktX5_state_0 : List UInt8 := dkwX5_state_0 ++ dktX5_state_1
theorem dksX5_state_0 : cX5_state.data.toList.drop 0 = dktX5_state_0 := by decide +kernel
theorem dksX5_state_1 : cX5_state.data.toList.drop 22 = dktX5_state_1 := dk_seg dksX5_state_0 22 rfl rfl
theorem dX5_state_0 : decode cX5_state 0 = .ok (.aload_n 0, 1) := dk_42 (dk_at dksX5_state_0 0 rfl rfl)
theorem dX5_state_1 : decode cX5_state 1 = .ok (.iconst 0, 1) := dk_3 (dk_at dksX5_state_0 1 rfl rfl)
theorem dX5_state_2 : decode cX5_state 2 = .ok (.putfield 32, 3) := dk_181 0 32 (dk_at dksX5_state_0 2 rfl rfl)
theorem dX5_state_5 : decode cX5_state 5 = .ok (.aload_n 0, 1) := dk_42 (dk_at dksX5_state_0 5 rfl rfl)
theorem dX5_state_6 : decode cX5_state 6 = .ok (.iload_n 1, 1) := dk_27 (dk_at dksX5_state_0 6 rfl rfl)
theorem dX5_state_7 : decode cX5_state 7 = .ok (.invokevirtual 216, 3) := dk_182 0 216 (dk_at dksX5_state_0 7 rfl rfl)
theorem dX5_state_10 : decode cX5_state 10 = .ok (.ifCond .eq 7, 3) := dk_153 0 7 (dk_at dksX5_state_0 10 rfl rfl)
theorem dX5_state_13 : decode cX5_state 13 = .ok (.iconst 0, 1) := dk_3 (dk_at dksX5_state_0 13 rfl rfl)
theorem dX5_state_14 : decode cX5_state 14 = .ok (.goto 14, 3) := dk_167 0 14 (dk_at dksX5_state_0 14 rfl rfl)
theorem dX5_state_17 : decode cX5_state 17 = .ok (.aload_n 0, 1) := dk_42 (dk_at dksX5_state_0 17 rfl rfl)
theorem dX5_state_18 : decode cX5_state 18 = .ok (.getfield 17, 3) := dk_180 0 17 (dk_at dksX5_state_0 18 rfl rfl)
theorem dX5_state_21 : decode cX5_state 21 = .ok (.iload_n 1, 1) := dk_27 (dk_at dksX5_state_0 21 rfl rfl)
theorem dX5_state_22 : decode cX5_state 22 = .ok (.invokestatic 188, 3) := dk_184 0 188 (dk_at dksX5_state_1 0 rfl rfl)
theorem dX5_state_25 : decode cX5_state 25 = .ok (.iconst 4, 1) := dk_7 (dk_at dksX5_state_1 3 rfl rfl)
theorem dX5_state_26 : decode cX5_state 26 = .ok (.iadd, 1) := dk_96 (dk_at dksX5_state_1 4 rfl rfl)
theorem dX5_state_27 : decode cX5_state 27 = .ok (.iaload, 1) := dk_46 (dk_at dksX5_state_1 5 rfl rfl)
theorem dX5_state_28 : decode cX5_state 28 = .ok (.ireturn, 1) := dk_172 (dk_at dksX5_state_1 6 rfl rfl)
abbrev cX5_discrepancies : ByteArray := prog_14_method_61_code
def yX5_discrepancies : MethodName := ⟨RX5, "discrepancies", "(I)I"⟩
def dkwX5_discrepancies_1 : List UInt8 := [184, 0, 188, 6, 96, 46, 172]
abbrev dktX5_discrepancies_1 : List UInt8 := dkwX5_discrepancies_1 ++ []
def dkwX5_discrepancies_0 : List UInt8 := [42, 3, 181, 0, 32, 42, 27, 182, 0, 216, 153, 0, 7, 3, 167, 0, 14, 42, 180, 0, 17, 27]
abbrev dktX5_discrepancies_0 : List UInt8 := dkwX5_discrepancies_0 ++ dktX5_discrepancies_1
theorem dksX5_discrepancies_0 : cX5_discrepancies.data.toList.drop 0 = dktX5_discrepancies_0 := by decide +kernel
theorem dksX5_discrepancies_1 : cX5_discrepancies.data.toList.drop 22 = dktX5_discrepancies_1 := dk_seg dksX5_discrepancies_0 22 rfl rfl
theorem dX5_discrepancies_0 : decode cX5_discrepancies 0 = .ok (.aload_n 0, 1) := dk_42 (dk_at dksX5_discrepancies_0 0 rfl rfl)
theorem dX5_discrepancies_1 : decode cX5_discrepancies 1 = .ok (.iconst 0, 1) := dk_3 (dk_at dksX5_discrepancies_0 1 rfl rfl)
theorem dX5_discrepancies_2 : decode cX5_discrepancies 2 = .ok (.putfield 32, 3) := dk_181 0 32 (dk_at dksX5_discrepancies_0 2 rfl rfl)
theorem dX5_discrepancies_5 : decode cX5_discrepancies 5 = .ok (.aload_n 0, 1) := dk_42 (dk_at dksX5_discrepancies_0 5 rfl rfl)
theorem dX5_discrepancies_6 : decode cX5_discrepancies 6 = .ok (.iload_n 1, 1) := dk_27 (dk_at dksX5_discrepancies_0 6 rfl rfl)
theorem dX5_discrepancies_7 : decode cX5_discrepancies 7 = .ok (.invokevirtual 216, 3) := dk_182 0 216 (dk_at dksX5_discrepancies_0 7 rfl rfl)
theorem dX5_discrepancies_10 : decode cX5_discrepancies 10 = .ok (.ifCond .eq 7, 3) := dk_153 0 7 (dk_at dksX5_discrepancies_0 10 rfl rfl)
theorem dX5_discrepancies_13 : decode cX5_discrepancies 13 = .ok (.iconst 0, 1) := dk_3 (dk_at dksX5_discrepancies_0 13 rfl rfl)
theorem dX5_discrepancies_14 : decode cX5_discrepancies 14 = .ok (.goto 14, 3) := dk_167 0 14 (dk_at dksX5_discrepancies_0 14 rfl rfl)
theorem dX5_discrepancies_17 : decode cX5_discrepancies 17 = .ok (.aload_n 0, 1) := dk_42 (dk_at dksX5_discrepancies_0 17 rfl rfl)
theorem dX5_discrepancies_18 : decode cX5_discrepancies 18 = .ok (.getfield 17, 3) := dk_180 0 17 (dk_at dksX5_discrepancies_0 18 rfl rfl)
theorem dX5_discrepancies_21 : decode cX5_discrepancies 21 = .ok (.iload_n 1, 1) := dk_27 (dk_at dksX5_discrepancies_0 21 rfl rfl)
theorem dX5_discrepancies_22 : decode cX5_discrepancies 22 = .ok (.invokestatic 188, 3) := dk_184 0 188 (dk_at dksX5_discrepancies_1 0 rfl rfl)
theorem dX5_discrepancies_25 : decode cX5_discrepancies 25 = .ok (.iconst 3, 1) := dk_6 (dk_at dksX5_discrepancies_1 3 rfl rfl)
theorem dX5_discrepancies_26 : decode cX5_discrepancies 26 = .ok (.iadd, 1) := dk_96 (dk_at dksX5_discrepancies_1 4 rfl rfl)
theorem dX5_discrepancies_27 : decode cX5_discrepancies 27 = .ok (.iaload, 1) := dk_46 (dk_at dksX5_discrepancies_1 5 rfl rfl)
theorem dX5_discrepancies_28 : decode cX5_discrepancies 28 = .ok (.ireturn, 1) := dk_172 (dk_at dksX5_discrepancies_1 6 rfl rfl)
abbrev cX5_deadline : ByteArray := prog_14_method_63_code
def yX5_deadline : MethodName := ⟨RX5, "deadline", "(I)I"⟩
def dkwX5_deadline_0 : List UInt8 := [42, 3, 181, 0, 32, 42, 27, 182, 0, 216, 153, 0, 7, 3, 167, 0, 8, 42, 27, 182, 0, 219, 172]
abbrev dktX5_deadline_0 : List UInt8 := dkwX5_deadline_0 ++ []
theorem dksX5_deadline_0 : cX5_deadline.data.toList.drop 0 = dktX5_deadline_0 := by decide +kernel
theorem dX5_deadline_0 : decode cX5_deadline 0 = .ok (.aload_n 0, 1) := dk_42 (dk_at dksX5_deadline_0 0 rfl rfl)
theorem dX5_deadline_1 : decode cX5_deadline 1 = .ok (.iconst 0, 1) := dk_3 (dk_at dksX5_deadline_0 1 rfl rfl)
theorem dX5_deadline_2 : decode cX5_deadline 2 = .ok (.putfield 32, 3) := dk_181 0 32 (dk_at dksX5_deadline_0 2 rfl rfl)
theorem dX5_deadline_5 : decode cX5_deadline 5 = .ok (.aload_n 0, 1) := dk_42 (dk_at dksX5_deadline_0 5 rfl rfl)
theorem dX5_deadline_6 : decode cX5_deadline 6 = .ok (.iload_n 1, 1) := dk_27 (dk_at dksX5_deadline_0 6 rfl rfl)
theorem dX5_deadline_7 : decode cX5_deadline 7 = .ok (.invokevirtual 216, 3) := dk_182 0 216 (dk_at dksX5_deadline_0 7 rfl rfl)
theorem dX5_deadline_10 : decode cX5_deadline 10 = .ok (.ifCond .eq 7, 3) := dk_153 0 7 (dk_at dksX5_deadline_0 10 rfl rfl)
theorem dX5_deadline_13 : decode cX5_deadline 13 = .ok (.iconst 0, 1) := dk_3 (dk_at dksX5_deadline_0 13 rfl rfl)
theorem dX5_deadline_14 : decode cX5_deadline 14 = .ok (.goto 8, 3) := dk_167 0 8 (dk_at dksX5_deadline_0 14 rfl rfl)
theorem dX5_deadline_17 : decode cX5_deadline 17 = .ok (.aload_n 0, 1) := dk_42 (dk_at dksX5_deadline_0 17 rfl rfl)
theorem dX5_deadline_18 : decode cX5_deadline 18 = .ok (.iload_n 1, 1) := dk_27 (dk_at dksX5_deadline_0 18 rfl rfl)
theorem dX5_deadline_19 : decode cX5_deadline 19 = .ok (.invokevirtual 219, 3) := dk_182 0 219 (dk_at dksX5_deadline_0 19 rfl rfl)
theorem dX5_deadline_22 : decode cX5_deadline 22 = .ok (.ireturn, 1) := dk_172 (dk_at dksX5_deadline_0 22 rfl rfl)
abbrev cX5_deadlineOf : ByteArray := prog_14_method_62_code
def yX5_deadlineOf : MethodName := ⟨RX5, "deadlineOf", "(I)I"⟩
def dkwX5_deadlineOf_0 : List UInt8 := [42, 42, 180, 0, 17, 27, 184, 0, 188, 4, 96, 46, 8, 182, 0, 176, 172]
abbrev dktX5_deadlineOf_0 : List UInt8 := dkwX5_deadlineOf_0 ++ []
theorem dksX5_deadlineOf_0 : cX5_deadlineOf.data.toList.drop 0 = dktX5_deadlineOf_0 := by decide +kernel
theorem dX5_deadlineOf_0 : decode cX5_deadlineOf 0 = .ok (.aload_n 0, 1) := dk_42 (dk_at dksX5_deadlineOf_0 0 rfl rfl)
theorem dX5_deadlineOf_1 : decode cX5_deadlineOf 1 = .ok (.aload_n 0, 1) := dk_42 (dk_at dksX5_deadlineOf_0 1 rfl rfl)
theorem dX5_deadlineOf_2 : decode cX5_deadlineOf 2 = .ok (.getfield 17, 3) := dk_180 0 17 (dk_at dksX5_deadlineOf_0 2 rfl rfl)
theorem dX5_deadlineOf_5 : decode cX5_deadlineOf 5 = .ok (.iload_n 1, 1) := dk_27 (dk_at dksX5_deadlineOf_0 5 rfl rfl)
theorem dX5_deadlineOf_6 : decode cX5_deadlineOf 6 = .ok (.invokestatic 188, 3) := dk_184 0 188 (dk_at dksX5_deadlineOf_0 6 rfl rfl)
theorem dX5_deadlineOf_9 : decode cX5_deadlineOf 9 = .ok (.iconst 1, 1) := dk_4 (dk_at dksX5_deadlineOf_0 9 rfl rfl)
theorem dX5_deadlineOf_10 : decode cX5_deadlineOf 10 = .ok (.iadd, 1) := dk_96 (dk_at dksX5_deadlineOf_0 10 rfl rfl)
theorem dX5_deadlineOf_11 : decode cX5_deadlineOf 11 = .ok (.iaload, 1) := dk_46 (dk_at dksX5_deadlineOf_0 11 rfl rfl)
theorem dX5_deadlineOf_12 : decode cX5_deadlineOf 12 = .ok (.iconst 5, 1) := dk_8 (dk_at dksX5_deadlineOf_0 12 rfl rfl)
theorem dX5_deadlineOf_13 : decode cX5_deadlineOf 13 = .ok (.invokevirtual 176, 3) := dk_182 0 176 (dk_at dksX5_deadlineOf_0 13 rfl rfl)
theorem dX5_deadlineOf_16 : decode cX5_deadlineOf 16 = .ok (.ireturn, 1) := dk_172 (dk_at dksX5_deadlineOf_0 16 rfl rfl)
abbrev cX5_dueDay : ByteArray := prog_14_method_65_code
def yX5_dueDay : MethodName := ⟨RX5, "dueDay", "(I)I"⟩
def dkwX5_dueDay_0 : List UInt8 := [42, 3, 181, 0, 32, 42, 27, 182, 0, 216, 153, 0, 7, 3, 167, 0, 8, 42, 27, 182, 0, 222, 172]
abbrev dktX5_dueDay_0 : List UInt8 := dkwX5_dueDay_0 ++ []
theorem dksX5_dueDay_0 : cX5_dueDay.data.toList.drop 0 = dktX5_dueDay_0 := by decide +kernel
theorem dX5_dueDay_0 : decode cX5_dueDay 0 = .ok (.aload_n 0, 1) := dk_42 (dk_at dksX5_dueDay_0 0 rfl rfl)
theorem dX5_dueDay_1 : decode cX5_dueDay 1 = .ok (.iconst 0, 1) := dk_3 (dk_at dksX5_dueDay_0 1 rfl rfl)
theorem dX5_dueDay_2 : decode cX5_dueDay 2 = .ok (.putfield 32, 3) := dk_181 0 32 (dk_at dksX5_dueDay_0 2 rfl rfl)
theorem dX5_dueDay_5 : decode cX5_dueDay 5 = .ok (.aload_n 0, 1) := dk_42 (dk_at dksX5_dueDay_0 5 rfl rfl)
theorem dX5_dueDay_6 : decode cX5_dueDay 6 = .ok (.iload_n 1, 1) := dk_27 (dk_at dksX5_dueDay_0 6 rfl rfl)
theorem dX5_dueDay_7 : decode cX5_dueDay 7 = .ok (.invokevirtual 216, 3) := dk_182 0 216 (dk_at dksX5_dueDay_0 7 rfl rfl)
theorem dX5_dueDay_10 : decode cX5_dueDay 10 = .ok (.ifCond .eq 7, 3) := dk_153 0 7 (dk_at dksX5_dueDay_0 10 rfl rfl)
theorem dX5_dueDay_13 : decode cX5_dueDay 13 = .ok (.iconst 0, 1) := dk_3 (dk_at dksX5_dueDay_0 13 rfl rfl)
theorem dX5_dueDay_14 : decode cX5_dueDay 14 = .ok (.goto 8, 3) := dk_167 0 8 (dk_at dksX5_dueDay_0 14 rfl rfl)
theorem dX5_dueDay_17 : decode cX5_dueDay 17 = .ok (.aload_n 0, 1) := dk_42 (dk_at dksX5_dueDay_0 17 rfl rfl)
theorem dX5_dueDay_18 : decode cX5_dueDay 18 = .ok (.iload_n 1, 1) := dk_27 (dk_at dksX5_dueDay_0 18 rfl rfl)
theorem dX5_dueDay_19 : decode cX5_dueDay 19 = .ok (.invokevirtual 222, 3) := dk_182 0 222 (dk_at dksX5_dueDay_0 19 rfl rfl)
theorem dX5_dueDay_22 : decode cX5_dueDay 22 = .ok (.ireturn, 1) := dk_172 (dk_at dksX5_dueDay_0 22 rfl rfl)
abbrev cX5_dueOf : ByteArray := prog_14_method_64_code
def yX5_dueOf : MethodName := ⟨RX5, "dueOf", "(I)I"⟩
def dkwX5_dueOf_2 : List UInt8 := [167, 0, 4, 2, 172]
abbrev dktX5_dueOf_2 : List UInt8 := dkwX5_dueOf_2 ++ []
def dkwX5_dueOf_1 : List UInt8 := [96, 46, 42, 180, 0, 17, 42, 180, 0, 17, 28, 46, 184, 0, 126, 16, 6, 96, 46, 96, 182, 0, 170]
abbrev dktX5_dueOf_1 : List UInt8 := dkwX5_dueOf_1 ++ dktX5_dueOf_2
def dkwX5_dueOf_0 : List UInt8 := [27, 184, 0, 188, 61, 42, 180, 0, 17, 28, 7, 96, 46, 5, 160, 0, 36, 42, 42, 180, 0, 17, 28, 8]
abbrev dktX5_dueOf_0 : List UInt8 := dkwX5_dueOf_0 ++ dktX5_dueOf_1
theorem dksX5_dueOf_0 : cX5_dueOf.data.toList.drop 0 = dktX5_dueOf_0 := by decide +kernel
theorem dksX5_dueOf_1 : cX5_dueOf.data.toList.drop 24 = dktX5_dueOf_1 := dk_seg dksX5_dueOf_0 24 rfl rfl
theorem dksX5_dueOf_2 : cX5_dueOf.data.toList.drop 47 = dktX5_dueOf_2 := dk_seg dksX5_dueOf_1 23 rfl rfl
theorem dX5_dueOf_0 : decode cX5_dueOf 0 = .ok (.iload_n 1, 1) := dk_27 (dk_at dksX5_dueOf_0 0 rfl rfl)
theorem dX5_dueOf_1 : decode cX5_dueOf 1 = .ok (.invokestatic 188, 3) := dk_184 0 188 (dk_at dksX5_dueOf_0 1 rfl rfl)
theorem dX5_dueOf_4 : decode cX5_dueOf 4 = .ok (.istore_n 2, 1) := dk_61 (dk_at dksX5_dueOf_0 4 rfl rfl)
theorem dX5_dueOf_5 : decode cX5_dueOf 5 = .ok (.aload_n 0, 1) := dk_42 (dk_at dksX5_dueOf_0 5 rfl rfl)
theorem dX5_dueOf_6 : decode cX5_dueOf 6 = .ok (.getfield 17, 3) := dk_180 0 17 (dk_at dksX5_dueOf_0 6 rfl rfl)
theorem dX5_dueOf_9 : decode cX5_dueOf 9 = .ok (.iload_n 2, 1) := dk_28 (dk_at dksX5_dueOf_0 9 rfl rfl)
theorem dX5_dueOf_10 : decode cX5_dueOf 10 = .ok (.iconst 4, 1) := dk_7 (dk_at dksX5_dueOf_0 10 rfl rfl)
theorem dX5_dueOf_11 : decode cX5_dueOf 11 = .ok (.iadd, 1) := dk_96 (dk_at dksX5_dueOf_0 11 rfl rfl)
theorem dX5_dueOf_12 : decode cX5_dueOf 12 = .ok (.iaload, 1) := dk_46 (dk_at dksX5_dueOf_0 12 rfl rfl)
theorem dX5_dueOf_13 : decode cX5_dueOf 13 = .ok (.iconst 2, 1) := dk_5 (dk_at dksX5_dueOf_0 13 rfl rfl)
theorem dX5_dueOf_14 : decode cX5_dueOf 14 = .ok (.if_icmp .ne 36, 3) := dk_160 0 36 (dk_at dksX5_dueOf_0 14 rfl rfl)
theorem dX5_dueOf_17 : decode cX5_dueOf 17 = .ok (.aload_n 0, 1) := dk_42 (dk_at dksX5_dueOf_0 17 rfl rfl)
theorem dX5_dueOf_18 : decode cX5_dueOf 18 = .ok (.aload_n 0, 1) := dk_42 (dk_at dksX5_dueOf_0 18 rfl rfl)
theorem dX5_dueOf_19 : decode cX5_dueOf 19 = .ok (.getfield 17, 3) := dk_180 0 17 (dk_at dksX5_dueOf_0 19 rfl rfl)
theorem dX5_dueOf_22 : decode cX5_dueOf 22 = .ok (.iload_n 2, 1) := dk_28 (dk_at dksX5_dueOf_0 22 rfl rfl)
theorem dX5_dueOf_23 : decode cX5_dueOf 23 = .ok (.iconst 5, 1) := dk_8 (dk_at dksX5_dueOf_0 23 rfl rfl)
theorem dX5_dueOf_24 : decode cX5_dueOf 24 = .ok (.iadd, 1) := dk_96 (dk_at dksX5_dueOf_1 0 rfl rfl)
theorem dX5_dueOf_25 : decode cX5_dueOf 25 = .ok (.iaload, 1) := dk_46 (dk_at dksX5_dueOf_1 1 rfl rfl)
theorem dX5_dueOf_26 : decode cX5_dueOf 26 = .ok (.aload_n 0, 1) := dk_42 (dk_at dksX5_dueOf_1 2 rfl rfl)
theorem dX5_dueOf_27 : decode cX5_dueOf 27 = .ok (.getfield 17, 3) := dk_180 0 17 (dk_at dksX5_dueOf_1 3 rfl rfl)
theorem dX5_dueOf_30 : decode cX5_dueOf 30 = .ok (.aload_n 0, 1) := dk_42 (dk_at dksX5_dueOf_1 6 rfl rfl)
theorem dX5_dueOf_31 : decode cX5_dueOf 31 = .ok (.getfield 17, 3) := dk_180 0 17 (dk_at dksX5_dueOf_1 7 rfl rfl)
theorem dX5_dueOf_34 : decode cX5_dueOf 34 = .ok (.iload_n 2, 1) := dk_28 (dk_at dksX5_dueOf_1 10 rfl rfl)
theorem dX5_dueOf_35 : decode cX5_dueOf 35 = .ok (.iaload, 1) := dk_46 (dk_at dksX5_dueOf_1 11 rfl rfl)
theorem dX5_dueOf_36 : decode cX5_dueOf 36 = .ok (.invokestatic 126, 3) := dk_184 0 126 (dk_at dksX5_dueOf_1 12 rfl rfl)
theorem dX5_dueOf_39 : decode cX5_dueOf 39 = .ok (.bipush 6, 2) := dk_16 6 (dk_at dksX5_dueOf_1 15 rfl rfl)
theorem dX5_dueOf_41 : decode cX5_dueOf 41 = .ok (.iadd, 1) := dk_96 (dk_at dksX5_dueOf_1 17 rfl rfl)
theorem dX5_dueOf_42 : decode cX5_dueOf 42 = .ok (.iaload, 1) := dk_46 (dk_at dksX5_dueOf_1 18 rfl rfl)
theorem dX5_dueOf_43 : decode cX5_dueOf 43 = .ok (.iadd, 1) := dk_96 (dk_at dksX5_dueOf_1 19 rfl rfl)
theorem dX5_dueOf_44 : decode cX5_dueOf 44 = .ok (.invokevirtual 170, 3) := dk_182 0 170 (dk_at dksX5_dueOf_1 20 rfl rfl)
theorem dX5_dueOf_47 : decode cX5_dueOf 47 = .ok (.goto 4, 3) := dk_167 0 4 (dk_at dksX5_dueOf_2 0 rfl rfl)
theorem dX5_dueOf_50 : decode cX5_dueOf 50 = .ok (.iconst (-1), 1) := dk_2 (dk_at dksX5_dueOf_2 3 rfl rfl)
theorem dX5_dueOf_51 : decode cX5_dueOf 51 = .ok (.ireturn, 1) := dk_172 (dk_at dksX5_dueOf_2 4 rfl rfl)
abbrev cX5_dueBetween : ByteArray := prog_14_method_66_code
def yX5_dueBetween : MethodName := ⟨RX5, "dueBetween", "(II)J"⟩
def dkwX5_dueBetween_2 : List UInt8 := [42, 180, 0, 17, 21, 5, 184, 0, 188, 5, 96, 46, 133, 97, 66, 132, 5, 1, 167, 255, 200, 33, 173]
abbrev dktX5_dueBetween_2 : List UInt8 := dkwX5_dueBetween_2 ++ []
def dkwX5_dueBetween_1 : List UInt8 := [182, 0, 222, 54, 6, 21, 6, 2, 159, 0, 31, 21, 6, 27, 161, 0, 25, 21, 6, 28, 163, 0, 19, 33]
abbrev dktX5_dueBetween_1 : List UInt8 := dkwX5_dueBetween_1 ++ dktX5_dueBetween_2
def dkwX5_dueBetween_0 : List UInt8 := [42, 3, 181, 0, 32, 9, 66, 3, 54, 5, 21, 5, 42, 180, 0, 17, 4, 46, 162, 0, 51, 42, 21, 5]
abbrev dktX5_dueBetween_0 : List UInt8 := dkwX5_dueBetween_0 ++ dktX5_dueBetween_1
theorem dksX5_dueBetween_0 : cX5_dueBetween.data.toList.drop 0 = dktX5_dueBetween_0 := by decide +kernel
theorem dksX5_dueBetween_1 : cX5_dueBetween.data.toList.drop 24 = dktX5_dueBetween_1 := dk_seg dksX5_dueBetween_0 24 rfl rfl
theorem dksX5_dueBetween_2 : cX5_dueBetween.data.toList.drop 48 = dktX5_dueBetween_2 := dk_seg dksX5_dueBetween_1 24 rfl rfl
theorem dX5_dueBetween_0 : decode cX5_dueBetween 0 = .ok (.aload_n 0, 1) := dk_42 (dk_at dksX5_dueBetween_0 0 rfl rfl)
theorem dX5_dueBetween_1 : decode cX5_dueBetween 1 = .ok (.iconst 0, 1) := dk_3 (dk_at dksX5_dueBetween_0 1 rfl rfl)
theorem dX5_dueBetween_2 : decode cX5_dueBetween 2 = .ok (.putfield 32, 3) := dk_181 0 32 (dk_at dksX5_dueBetween_0 2 rfl rfl)
theorem dX5_dueBetween_5 : decode cX5_dueBetween 5 = .ok (.lconst 0, 1) := dk_9 (dk_at dksX5_dueBetween_0 5 rfl rfl)
theorem dX5_dueBetween_6 : decode cX5_dueBetween 6 = .ok (.lstore_n 3, 1) := dk_66 (dk_at dksX5_dueBetween_0 6 rfl rfl)
theorem dX5_dueBetween_7 : decode cX5_dueBetween 7 = .ok (.iconst 0, 1) := dk_3 (dk_at dksX5_dueBetween_0 7 rfl rfl)
theorem dX5_dueBetween_8 : decode cX5_dueBetween 8 = .ok (.istore 5, 2) := dk_54 5 (dk_at dksX5_dueBetween_0 8 rfl rfl)
theorem dX5_dueBetween_10 : decode cX5_dueBetween 10 = .ok (.iload 5, 2) := dk_21 5 (dk_at dksX5_dueBetween_0 10 rfl rfl)
theorem dX5_dueBetween_12 : decode cX5_dueBetween 12 = .ok (.aload_n 0, 1) := dk_42 (dk_at dksX5_dueBetween_0 12 rfl rfl)
theorem dX5_dueBetween_13 : decode cX5_dueBetween 13 = .ok (.getfield 17, 3) := dk_180 0 17 (dk_at dksX5_dueBetween_0 13 rfl rfl)
theorem dX5_dueBetween_16 : decode cX5_dueBetween 16 = .ok (.iconst 1, 1) := dk_4 (dk_at dksX5_dueBetween_0 16 rfl rfl)
theorem dX5_dueBetween_17 : decode cX5_dueBetween 17 = .ok (.iaload, 1) := dk_46 (dk_at dksX5_dueBetween_0 17 rfl rfl)
theorem dX5_dueBetween_18 : decode cX5_dueBetween 18 = .ok (.if_icmp .ge 51, 3) := dk_162 0 51 (dk_at dksX5_dueBetween_0 18 rfl rfl)
theorem dX5_dueBetween_21 : decode cX5_dueBetween 21 = .ok (.aload_n 0, 1) := dk_42 (dk_at dksX5_dueBetween_0 21 rfl rfl)
theorem dX5_dueBetween_22 : decode cX5_dueBetween 22 = .ok (.iload 5, 2) := dk_21 5 (dk_at dksX5_dueBetween_0 22 rfl rfl)
theorem dX5_dueBetween_24 : decode cX5_dueBetween 24 = .ok (.invokevirtual 222, 3) := dk_182 0 222 (dk_at dksX5_dueBetween_1 0 rfl rfl)
theorem dX5_dueBetween_27 : decode cX5_dueBetween 27 = .ok (.istore 6, 2) := dk_54 6 (dk_at dksX5_dueBetween_1 3 rfl rfl)
theorem dX5_dueBetween_29 : decode cX5_dueBetween 29 = .ok (.iload 6, 2) := dk_21 6 (dk_at dksX5_dueBetween_1 5 rfl rfl)
theorem dX5_dueBetween_31 : decode cX5_dueBetween 31 = .ok (.iconst (-1), 1) := dk_2 (dk_at dksX5_dueBetween_1 7 rfl rfl)
theorem dX5_dueBetween_32 : decode cX5_dueBetween 32 = .ok (.if_icmp .eq 31, 3) := dk_159 0 31 (dk_at dksX5_dueBetween_1 8 rfl rfl)
theorem dX5_dueBetween_35 : decode cX5_dueBetween 35 = .ok (.iload 6, 2) := dk_21 6 (dk_at dksX5_dueBetween_1 11 rfl rfl)
theorem dX5_dueBetween_37 : decode cX5_dueBetween 37 = .ok (.iload_n 1, 1) := dk_27 (dk_at dksX5_dueBetween_1 13 rfl rfl)
theorem dX5_dueBetween_38 : decode cX5_dueBetween 38 = .ok (.if_icmp .lt 25, 3) := dk_161 0 25 (dk_at dksX5_dueBetween_1 14 rfl rfl)
theorem dX5_dueBetween_41 : decode cX5_dueBetween 41 = .ok (.iload 6, 2) := dk_21 6 (dk_at dksX5_dueBetween_1 17 rfl rfl)
theorem dX5_dueBetween_43 : decode cX5_dueBetween 43 = .ok (.iload_n 2, 1) := dk_28 (dk_at dksX5_dueBetween_1 19 rfl rfl)
theorem dX5_dueBetween_44 : decode cX5_dueBetween 44 = .ok (.if_icmp .gt 19, 3) := dk_163 0 19 (dk_at dksX5_dueBetween_1 20 rfl rfl)
theorem dX5_dueBetween_47 : decode cX5_dueBetween 47 = .ok (.lload_n 3, 1) := dk_33 (dk_at dksX5_dueBetween_1 23 rfl rfl)
theorem dX5_dueBetween_48 : decode cX5_dueBetween 48 = .ok (.aload_n 0, 1) := dk_42 (dk_at dksX5_dueBetween_2 0 rfl rfl)
theorem dX5_dueBetween_49 : decode cX5_dueBetween 49 = .ok (.getfield 17, 3) := dk_180 0 17 (dk_at dksX5_dueBetween_2 1 rfl rfl)
theorem dX5_dueBetween_52 : decode cX5_dueBetween 52 = .ok (.iload 5, 2) := dk_21 5 (dk_at dksX5_dueBetween_2 4 rfl rfl)
theorem dX5_dueBetween_54 : decode cX5_dueBetween 54 = .ok (.invokestatic 188, 3) := dk_184 0 188 (dk_at dksX5_dueBetween_2 6 rfl rfl)
theorem dX5_dueBetween_57 : decode cX5_dueBetween 57 = .ok (.iconst 2, 1) := dk_5 (dk_at dksX5_dueBetween_2 9 rfl rfl)
theorem dX5_dueBetween_58 : decode cX5_dueBetween 58 = .ok (.iadd, 1) := dk_96 (dk_at dksX5_dueBetween_2 10 rfl rfl)
theorem dX5_dueBetween_59 : decode cX5_dueBetween 59 = .ok (.iaload, 1) := dk_46 (dk_at dksX5_dueBetween_2 11 rfl rfl)
theorem dX5_dueBetween_60 : decode cX5_dueBetween 60 = .ok (.i2l, 1) := dk_133 (dk_at dksX5_dueBetween_2 12 rfl rfl)
theorem dX5_dueBetween_61 : decode cX5_dueBetween 61 = .ok (.ladd, 1) := dk_97 (dk_at dksX5_dueBetween_2 13 rfl rfl)
theorem dX5_dueBetween_62 : decode cX5_dueBetween 62 = .ok (.lstore_n 3, 1) := dk_66 (dk_at dksX5_dueBetween_2 14 rfl rfl)
theorem dX5_dueBetween_63 : decode cX5_dueBetween 63 = .ok (.iinc 5 1, 3) := dk_132 5 1 (dk_at dksX5_dueBetween_2 15 rfl rfl)
theorem dX5_dueBetween_66 : decode cX5_dueBetween 66 = .ok (.goto (-56), 3) := dk_167 255 200 (dk_at dksX5_dueBetween_2 18 rfl rfl)
theorem dX5_dueBetween_69 : decode cX5_dueBetween 69 = .ok (.lload_n 3, 1) := dk_33 (dk_at dksX5_dueBetween_2 21 rfl rfl)
theorem dX5_dueBetween_70 : decode cX5_dueBetween 70 = .ok (.lreturn, 1) := dk_173 (dk_at dksX5_dueBetween_2 22 rfl rfl)
abbrev cX5_fee : ByteArray := prog_14_method_70_code
def yX5_fee : MethodName := ⟨RX5, "fee", "(I)I"⟩
def dkwX5_fee_8 : List UInt8 := [167, 0, 10, 42, 180, 0, 28, 3, 47, 136, 172]
abbrev dktX5_fee_8 : List UInt8 := dkwX5_fee_8 ++ []
def dkwX5_fee_7 : List UInt8 := [9, 148, 156, 0, 7, 3, 167, 0, 28, 42, 180, 0, 28, 3, 47, 20, 0, 240, 148, 158, 0, 8, 18, 129]
abbrev dktX5_fee_7 : List UInt8 := dkwX5_fee_7 ++ dktX5_fee_8
def dkwX5_fee_6 : List UInt8 := [100, 47, 42, 180, 0, 28, 28, 47, 184, 0, 236, 80, 132, 3, 1, 167, 255, 145, 42, 180, 0, 28, 3, 47]
abbrev dktX5_fee_6 : List UInt8 := dkwX5_fee_6 ++ dktX5_fee_7
def dkwX5_fee_5 : List UInt8 := [132, 2, 1, 167, 0, 33, 132, 2, 255, 42, 180, 0, 28, 28, 4, 100, 21, 4, 42, 180, 0, 28, 28, 4]
abbrev dktX5_fee_5 : List UInt8 := dkwX5_fee_5 ++ dktX5_fee_6
def dkwX5_fee_4 : List UInt8 := [96, 46, 133, 167, 0, 19, 42, 27, 42, 180, 0, 17, 17, 1, 42, 29, 96, 46, 182, 0, 233, 133, 80]
abbrev dktX5_fee_4 : List UInt8 := dkwX5_fee_4 ++ dktX5_fee_5
def dkwX5_fee_3 : List UInt8 := [163, 0, 53, 132, 3, 1, 42, 180, 0, 28, 28, 21, 4, 154, 0, 17, 42, 180, 0, 17, 17, 1, 42, 29]
abbrev dktX5_fee_3 : List UInt8 := dkwX5_fee_3 ++ dktX5_fee_4
def dkwX5_fee_2 : List UInt8 := [180, 0, 17, 8, 46, 162, 0, 107, 42, 180, 0, 17, 17, 1, 42, 29, 96, 46, 54, 4, 21, 4, 4]
abbrev dktX5_fee_2 : List UInt8 := dkwX5_fee_2 ++ dktX5_fee_3
def dkwX5_fee_1 : List UInt8 := [42, 180, 0, 17, 27, 184, 0, 188, 5, 96, 46, 17, 3, 232, 108, 172, 3, 61, 3, 62, 29, 42]
abbrev dktX5_fee_1 : List UInt8 := dkwX5_fee_1 ++ dktX5_fee_2
def dkwX5_fee_0 : List UInt8 := [42, 3, 181, 0, 32, 42, 27, 182, 0, 216, 153, 0, 5, 3, 172, 42, 180, 0, 17, 7, 46, 154, 0, 19]
abbrev dktX5_fee_0 : List UInt8 := dkwX5_fee_0 ++ dktX5_fee_1
theorem dksX5_fee_0 : cX5_fee.data.toList.drop 0 = dktX5_fee_0 := by decide +kernel
theorem dksX5_fee_1 : cX5_fee.data.toList.drop 24 = dktX5_fee_1 := dk_seg dksX5_fee_0 24 rfl rfl
theorem dksX5_fee_2 : cX5_fee.data.toList.drop 46 = dktX5_fee_2 := dk_seg dksX5_fee_1 22 rfl rfl
theorem dksX5_fee_3 : cX5_fee.data.toList.drop 69 = dktX5_fee_3 := dk_seg dksX5_fee_2 23 rfl rfl
theorem dksX5_fee_4 : cX5_fee.data.toList.drop 93 = dktX5_fee_4 := dk_seg dksX5_fee_3 24 rfl rfl
theorem dksX5_fee_5 : cX5_fee.data.toList.drop 116 = dktX5_fee_5 := dk_seg dksX5_fee_4 23 rfl rfl
theorem dksX5_fee_6 : cX5_fee.data.toList.drop 140 = dktX5_fee_6 := dk_seg dksX5_fee_5 24 rfl rfl
theorem dksX5_fee_7 : cX5_fee.data.toList.drop 164 = dktX5_fee_7 := dk_seg dksX5_fee_6 24 rfl rfl
theorem dksX5_fee_8 : cX5_fee.data.toList.drop 188 = dktX5_fee_8 := dk_seg dksX5_fee_7 24 rfl rfl
theorem dX5_fee_0 : decode cX5_fee 0 = .ok (.aload_n 0, 1) := dk_42 (dk_at dksX5_fee_0 0 rfl rfl)
theorem dX5_fee_1 : decode cX5_fee 1 = .ok (.iconst 0, 1) := dk_3 (dk_at dksX5_fee_0 1 rfl rfl)
theorem dX5_fee_2 : decode cX5_fee 2 = .ok (.putfield 32, 3) := dk_181 0 32 (dk_at dksX5_fee_0 2 rfl rfl)
theorem dX5_fee_5 : decode cX5_fee 5 = .ok (.aload_n 0, 1) := dk_42 (dk_at dksX5_fee_0 5 rfl rfl)
theorem dX5_fee_6 : decode cX5_fee 6 = .ok (.iload_n 1, 1) := dk_27 (dk_at dksX5_fee_0 6 rfl rfl)
theorem dX5_fee_7 : decode cX5_fee 7 = .ok (.invokevirtual 216, 3) := dk_182 0 216 (dk_at dksX5_fee_0 7 rfl rfl)
theorem dX5_fee_10 : decode cX5_fee 10 = .ok (.ifCond .eq 5, 3) := dk_153 0 5 (dk_at dksX5_fee_0 10 rfl rfl)
theorem dX5_fee_13 : decode cX5_fee 13 = .ok (.iconst 0, 1) := dk_3 (dk_at dksX5_fee_0 13 rfl rfl)
theorem dX5_fee_14 : decode cX5_fee 14 = .ok (.ireturn, 1) := dk_172 (dk_at dksX5_fee_0 14 rfl rfl)
theorem dX5_fee_15 : decode cX5_fee 15 = .ok (.aload_n 0, 1) := dk_42 (dk_at dksX5_fee_0 15 rfl rfl)
theorem dX5_fee_16 : decode cX5_fee 16 = .ok (.getfield 17, 3) := dk_180 0 17 (dk_at dksX5_fee_0 16 rfl rfl)
theorem dX5_fee_19 : decode cX5_fee 19 = .ok (.iconst 4, 1) := dk_7 (dk_at dksX5_fee_0 19 rfl rfl)
theorem dX5_fee_20 : decode cX5_fee 20 = .ok (.iaload, 1) := dk_46 (dk_at dksX5_fee_0 20 rfl rfl)
theorem dX5_fee_21 : decode cX5_fee 21 = .ok (.ifCond .ne 19, 3) := dk_154 0 19 (dk_at dksX5_fee_0 21 rfl rfl)
theorem dX5_fee_24 : decode cX5_fee 24 = .ok (.aload_n 0, 1) := dk_42 (dk_at dksX5_fee_1 0 rfl rfl)
theorem dX5_fee_25 : decode cX5_fee 25 = .ok (.getfield 17, 3) := dk_180 0 17 (dk_at dksX5_fee_1 1 rfl rfl)
theorem dX5_fee_28 : decode cX5_fee 28 = .ok (.iload_n 1, 1) := dk_27 (dk_at dksX5_fee_1 4 rfl rfl)
theorem dX5_fee_29 : decode cX5_fee 29 = .ok (.invokestatic 188, 3) := dk_184 0 188 (dk_at dksX5_fee_1 5 rfl rfl)
theorem dX5_fee_32 : decode cX5_fee 32 = .ok (.iconst 2, 1) := dk_5 (dk_at dksX5_fee_1 8 rfl rfl)
theorem dX5_fee_33 : decode cX5_fee 33 = .ok (.iadd, 1) := dk_96 (dk_at dksX5_fee_1 9 rfl rfl)
theorem dX5_fee_34 : decode cX5_fee 34 = .ok (.iaload, 1) := dk_46 (dk_at dksX5_fee_1 10 rfl rfl)
theorem dX5_fee_35 : decode cX5_fee 35 = .ok (.sipush 1000, 3) := dk_17 3 232 (dk_at dksX5_fee_1 11 rfl rfl)
theorem dX5_fee_38 : decode cX5_fee 38 = .ok (.idiv, 1) := dk_108 (dk_at dksX5_fee_1 14 rfl rfl)
theorem dX5_fee_39 : decode cX5_fee 39 = .ok (.ireturn, 1) := dk_172 (dk_at dksX5_fee_1 15 rfl rfl)
theorem dX5_fee_40 : decode cX5_fee 40 = .ok (.iconst 0, 1) := dk_3 (dk_at dksX5_fee_1 16 rfl rfl)
theorem dX5_fee_41 : decode cX5_fee 41 = .ok (.istore_n 2, 1) := dk_61 (dk_at dksX5_fee_1 17 rfl rfl)
theorem dX5_fee_42 : decode cX5_fee 42 = .ok (.iconst 0, 1) := dk_3 (dk_at dksX5_fee_1 18 rfl rfl)
theorem dX5_fee_43 : decode cX5_fee 43 = .ok (.istore_n 3, 1) := dk_62 (dk_at dksX5_fee_1 19 rfl rfl)
theorem dX5_fee_44 : decode cX5_fee 44 = .ok (.iload_n 3, 1) := dk_29 (dk_at dksX5_fee_1 20 rfl rfl)
theorem dX5_fee_45 : decode cX5_fee 45 = .ok (.aload_n 0, 1) := dk_42 (dk_at dksX5_fee_1 21 rfl rfl)
theorem dX5_fee_46 : decode cX5_fee 46 = .ok (.getfield 17, 3) := dk_180 0 17 (dk_at dksX5_fee_2 0 rfl rfl)
theorem dX5_fee_49 : decode cX5_fee 49 = .ok (.iconst 5, 1) := dk_8 (dk_at dksX5_fee_2 3 rfl rfl)
theorem dX5_fee_50 : decode cX5_fee 50 = .ok (.iaload, 1) := dk_46 (dk_at dksX5_fee_2 4 rfl rfl)
theorem dX5_fee_51 : decode cX5_fee 51 = .ok (.if_icmp .ge 107, 3) := dk_162 0 107 (dk_at dksX5_fee_2 5 rfl rfl)
theorem dX5_fee_54 : decode cX5_fee 54 = .ok (.aload_n 0, 1) := dk_42 (dk_at dksX5_fee_2 8 rfl rfl)
theorem dX5_fee_55 : decode cX5_fee 55 = .ok (.getfield 17, 3) := dk_180 0 17 (dk_at dksX5_fee_2 9 rfl rfl)
theorem dX5_fee_58 : decode cX5_fee 58 = .ok (.sipush 298, 3) := dk_17 1 42 (dk_at dksX5_fee_2 12 rfl rfl)
theorem dX5_fee_61 : decode cX5_fee 61 = .ok (.iload_n 3, 1) := dk_29 (dk_at dksX5_fee_2 15 rfl rfl)
theorem dX5_fee_62 : decode cX5_fee 62 = .ok (.iadd, 1) := dk_96 (dk_at dksX5_fee_2 16 rfl rfl)
theorem dX5_fee_63 : decode cX5_fee 63 = .ok (.iaload, 1) := dk_46 (dk_at dksX5_fee_2 17 rfl rfl)
theorem dX5_fee_64 : decode cX5_fee 64 = .ok (.istore 4, 2) := dk_54 4 (dk_at dksX5_fee_2 18 rfl rfl)
theorem dX5_fee_66 : decode cX5_fee 66 = .ok (.iload 4, 2) := dk_21 4 (dk_at dksX5_fee_2 20 rfl rfl)
theorem dX5_fee_68 : decode cX5_fee 68 = .ok (.iconst 1, 1) := dk_4 (dk_at dksX5_fee_2 22 rfl rfl)
theorem dX5_fee_69 : decode cX5_fee 69 = .ok (.if_icmp .gt 53, 3) := dk_163 0 53 (dk_at dksX5_fee_3 0 rfl rfl)
theorem dX5_fee_72 : decode cX5_fee 72 = .ok (.iinc 3 1, 3) := dk_132 3 1 (dk_at dksX5_fee_3 3 rfl rfl)
theorem dX5_fee_75 : decode cX5_fee 75 = .ok (.aload_n 0, 1) := dk_42 (dk_at dksX5_fee_3 6 rfl rfl)
theorem dX5_fee_76 : decode cX5_fee 76 = .ok (.getfield 28, 3) := dk_180 0 28 (dk_at dksX5_fee_3 7 rfl rfl)
theorem dX5_fee_79 : decode cX5_fee 79 = .ok (.iload_n 2, 1) := dk_28 (dk_at dksX5_fee_3 10 rfl rfl)
theorem dX5_fee_80 : decode cX5_fee 80 = .ok (.iload 4, 2) := dk_21 4 (dk_at dksX5_fee_3 11 rfl rfl)
theorem dX5_fee_82 : decode cX5_fee 82 = .ok (.ifCond .ne 17, 3) := dk_154 0 17 (dk_at dksX5_fee_3 13 rfl rfl)
theorem dX5_fee_85 : decode cX5_fee 85 = .ok (.aload_n 0, 1) := dk_42 (dk_at dksX5_fee_3 16 rfl rfl)
theorem dX5_fee_86 : decode cX5_fee 86 = .ok (.getfield 17, 3) := dk_180 0 17 (dk_at dksX5_fee_3 17 rfl rfl)
theorem dX5_fee_89 : decode cX5_fee 89 = .ok (.sipush 298, 3) := dk_17 1 42 (dk_at dksX5_fee_3 20 rfl rfl)
theorem dX5_fee_92 : decode cX5_fee 92 = .ok (.iload_n 3, 1) := dk_29 (dk_at dksX5_fee_3 23 rfl rfl)
theorem dX5_fee_93 : decode cX5_fee 93 = .ok (.iadd, 1) := dk_96 (dk_at dksX5_fee_4 0 rfl rfl)
theorem dX5_fee_94 : decode cX5_fee 94 = .ok (.iaload, 1) := dk_46 (dk_at dksX5_fee_4 1 rfl rfl)
theorem dX5_fee_95 : decode cX5_fee 95 = .ok (.i2l, 1) := dk_133 (dk_at dksX5_fee_4 2 rfl rfl)
theorem dX5_fee_96 : decode cX5_fee 96 = .ok (.goto 19, 3) := dk_167 0 19 (dk_at dksX5_fee_4 3 rfl rfl)
theorem dX5_fee_99 : decode cX5_fee 99 = .ok (.aload_n 0, 1) := dk_42 (dk_at dksX5_fee_4 6 rfl rfl)
theorem dX5_fee_100 : decode cX5_fee 100 = .ok (.iload_n 1, 1) := dk_27 (dk_at dksX5_fee_4 7 rfl rfl)
theorem dX5_fee_101 : decode cX5_fee 101 = .ok (.aload_n 0, 1) := dk_42 (dk_at dksX5_fee_4 8 rfl rfl)
theorem dX5_fee_102 : decode cX5_fee 102 = .ok (.getfield 17, 3) := dk_180 0 17 (dk_at dksX5_fee_4 9 rfl rfl)
theorem dX5_fee_105 : decode cX5_fee 105 = .ok (.sipush 298, 3) := dk_17 1 42 (dk_at dksX5_fee_4 12 rfl rfl)
theorem dX5_fee_108 : decode cX5_fee 108 = .ok (.iload_n 3, 1) := dk_29 (dk_at dksX5_fee_4 15 rfl rfl)
theorem dX5_fee_109 : decode cX5_fee 109 = .ok (.iadd, 1) := dk_96 (dk_at dksX5_fee_4 16 rfl rfl)
theorem dX5_fee_110 : decode cX5_fee 110 = .ok (.iaload, 1) := dk_46 (dk_at dksX5_fee_4 17 rfl rfl)
theorem dX5_fee_111 : decode cX5_fee 111 = .ok (.invokevirtual 233, 3) := dk_182 0 233 (dk_at dksX5_fee_4 18 rfl rfl)
theorem dX5_fee_114 : decode cX5_fee 114 = .ok (.i2l, 1) := dk_133 (dk_at dksX5_fee_4 21 rfl rfl)
theorem dX5_fee_115 : decode cX5_fee 115 = .ok (.lastore, 1) := dk_80 (dk_at dksX5_fee_4 22 rfl rfl)
theorem dX5_fee_116 : decode cX5_fee 116 = .ok (.iinc 2 1, 3) := dk_132 2 1 (dk_at dksX5_fee_5 0 rfl rfl)
theorem dX5_fee_119 : decode cX5_fee 119 = .ok (.goto 33, 3) := dk_167 0 33 (dk_at dksX5_fee_5 3 rfl rfl)
theorem dX5_fee_122 : decode cX5_fee 122 = .ok (.iinc 2 (-1), 3) := dk_132 2 255 (dk_at dksX5_fee_5 6 rfl rfl)
theorem dX5_fee_125 : decode cX5_fee 125 = .ok (.aload_n 0, 1) := dk_42 (dk_at dksX5_fee_5 9 rfl rfl)
theorem dX5_fee_126 : decode cX5_fee 126 = .ok (.getfield 28, 3) := dk_180 0 28 (dk_at dksX5_fee_5 10 rfl rfl)
theorem dX5_fee_129 : decode cX5_fee 129 = .ok (.iload_n 2, 1) := dk_28 (dk_at dksX5_fee_5 13 rfl rfl)
theorem dX5_fee_130 : decode cX5_fee 130 = .ok (.iconst 1, 1) := dk_4 (dk_at dksX5_fee_5 14 rfl rfl)
theorem dX5_fee_131 : decode cX5_fee 131 = .ok (.isub, 1) := dk_100 (dk_at dksX5_fee_5 15 rfl rfl)
theorem dX5_fee_132 : decode cX5_fee 132 = .ok (.iload 4, 2) := dk_21 4 (dk_at dksX5_fee_5 16 rfl rfl)
theorem dX5_fee_134 : decode cX5_fee 134 = .ok (.aload_n 0, 1) := dk_42 (dk_at dksX5_fee_5 18 rfl rfl)
theorem dX5_fee_135 : decode cX5_fee 135 = .ok (.getfield 28, 3) := dk_180 0 28 (dk_at dksX5_fee_5 19 rfl rfl)
theorem dX5_fee_138 : decode cX5_fee 138 = .ok (.iload_n 2, 1) := dk_28 (dk_at dksX5_fee_5 22 rfl rfl)
theorem dX5_fee_139 : decode cX5_fee 139 = .ok (.iconst 1, 1) := dk_4 (dk_at dksX5_fee_5 23 rfl rfl)
theorem dX5_fee_140 : decode cX5_fee 140 = .ok (.isub, 1) := dk_100 (dk_at dksX5_fee_6 0 rfl rfl)
theorem dX5_fee_141 : decode cX5_fee 141 = .ok (.laload, 1) := dk_47 (dk_at dksX5_fee_6 1 rfl rfl)
theorem dX5_fee_142 : decode cX5_fee 142 = .ok (.aload_n 0, 1) := dk_42 (dk_at dksX5_fee_6 2 rfl rfl)
theorem dX5_fee_143 : decode cX5_fee 143 = .ok (.getfield 28, 3) := dk_180 0 28 (dk_at dksX5_fee_6 3 rfl rfl)
theorem dX5_fee_146 : decode cX5_fee 146 = .ok (.iload_n 2, 1) := dk_28 (dk_at dksX5_fee_6 6 rfl rfl)
theorem dX5_fee_147 : decode cX5_fee 147 = .ok (.laload, 1) := dk_47 (dk_at dksX5_fee_6 7 rfl rfl)
theorem dX5_fee_148 : decode cX5_fee 148 = .ok (.invokestatic 236, 3) := dk_184 0 236 (dk_at dksX5_fee_6 8 rfl rfl)
theorem dX5_fee_151 : decode cX5_fee 151 = .ok (.lastore, 1) := dk_80 (dk_at dksX5_fee_6 11 rfl rfl)
theorem dX5_fee_152 : decode cX5_fee 152 = .ok (.iinc 3 1, 3) := dk_132 3 1 (dk_at dksX5_fee_6 12 rfl rfl)
theorem dX5_fee_155 : decode cX5_fee 155 = .ok (.goto (-111), 3) := dk_167 255 145 (dk_at dksX5_fee_6 15 rfl rfl)
theorem dX5_fee_158 : decode cX5_fee 158 = .ok (.aload_n 0, 1) := dk_42 (dk_at dksX5_fee_6 18 rfl rfl)
theorem dX5_fee_159 : decode cX5_fee 159 = .ok (.getfield 28, 3) := dk_180 0 28 (dk_at dksX5_fee_6 19 rfl rfl)
theorem dX5_fee_162 : decode cX5_fee 162 = .ok (.iconst 0, 1) := dk_3 (dk_at dksX5_fee_6 22 rfl rfl)
theorem dX5_fee_163 : decode cX5_fee 163 = .ok (.laload, 1) := dk_47 (dk_at dksX5_fee_6 23 rfl rfl)
theorem dX5_fee_164 : decode cX5_fee 164 = .ok (.lconst 0, 1) := dk_9 (dk_at dksX5_fee_7 0 rfl rfl)
theorem dX5_fee_165 : decode cX5_fee 165 = .ok (.lcmp, 1) := dk_148 (dk_at dksX5_fee_7 1 rfl rfl)
theorem dX5_fee_166 : decode cX5_fee 166 = .ok (.ifCond .ge 7, 3) := dk_156 0 7 (dk_at dksX5_fee_7 2 rfl rfl)
theorem dX5_fee_169 : decode cX5_fee 169 = .ok (.iconst 0, 1) := dk_3 (dk_at dksX5_fee_7 5 rfl rfl)
theorem dX5_fee_170 : decode cX5_fee 170 = .ok (.goto 28, 3) := dk_167 0 28 (dk_at dksX5_fee_7 6 rfl rfl)
theorem dX5_fee_173 : decode cX5_fee 173 = .ok (.aload_n 0, 1) := dk_42 (dk_at dksX5_fee_7 9 rfl rfl)
theorem dX5_fee_174 : decode cX5_fee 174 = .ok (.getfield 28, 3) := dk_180 0 28 (dk_at dksX5_fee_7 10 rfl rfl)
theorem dX5_fee_177 : decode cX5_fee 177 = .ok (.iconst 0, 1) := dk_3 (dk_at dksX5_fee_7 13 rfl rfl)
theorem dX5_fee_178 : decode cX5_fee 178 = .ok (.laload, 1) := dk_47 (dk_at dksX5_fee_7 14 rfl rfl)
theorem dX5_fee_179 : decode cX5_fee 179 = .ok (.ldc2_w 240, 3) := dk_20 0 240 (dk_at dksX5_fee_7 15 rfl rfl)
theorem dX5_fee_182 : decode cX5_fee 182 = .ok (.lcmp, 1) := dk_148 (dk_at dksX5_fee_7 18 rfl rfl)
theorem dX5_fee_183 : decode cX5_fee 183 = .ok (.ifCond .le 8, 3) := dk_158 0 8 (dk_at dksX5_fee_7 19 rfl rfl)
theorem dX5_fee_186 : decode cX5_fee 186 = .ok (.ldc 129, 2) := dk_18 129 (dk_at dksX5_fee_7 22 rfl rfl)
theorem dX5_fee_188 : decode cX5_fee 188 = .ok (.goto 10, 3) := dk_167 0 10 (dk_at dksX5_fee_8 0 rfl rfl)
theorem dX5_fee_191 : decode cX5_fee 191 = .ok (.aload_n 0, 1) := dk_42 (dk_at dksX5_fee_8 3 rfl rfl)
theorem dX5_fee_192 : decode cX5_fee 192 = .ok (.getfield 28, 3) := dk_180 0 28 (dk_at dksX5_fee_8 4 rfl rfl)
theorem dX5_fee_195 : decode cX5_fee 195 = .ok (.iconst 0, 1) := dk_3 (dk_at dksX5_fee_8 7 rfl rfl)
theorem dX5_fee_196 : decode cX5_fee 196 = .ok (.laload, 1) := dk_47 (dk_at dksX5_fee_8 8 rfl rfl)
theorem dX5_fee_197 : decode cX5_fee 197 = .ok (.l2i, 1) := dk_136 (dk_at dksX5_fee_8 9 rfl rfl)
theorem dX5_fee_198 : decode cX5_fee 198 = .ok (.ireturn, 1) := dk_172 (dk_at dksX5_fee_8 10 rfl rfl)
abbrev cX5_variable : ByteArray := prog_14_method_69_code
def yX5_variable : MethodName := ⟨RX5, "variable", "(II)I"⟩
def dkwX5_variable_3 : List UInt8 := [54, 5, 167, 255, 236, 21, 4, 172]
abbrev dktX5_variable_3 : List UInt8 := dkwX5_variable_3 ++ []
def dkwX5_variable_2 : List UInt8 := [6, 96, 46, 54, 5, 21, 5, 158, 0, 21, 21, 4, 21, 5, 5, 112, 96, 54, 4, 21, 5, 5, 108]
abbrev dktX5_variable_2 : List UInt8 := dkwX5_variable_2 ++ dktX5_variable_3
def dkwX5_variable_1 : List UInt8 := [160, 0, 19, 42, 180, 0, 17, 6, 46, 42, 180, 0, 17, 29, 4, 96, 46, 100, 172, 42, 180, 0, 17, 29]
abbrev dktX5_variable_1 : List UInt8 := dkwX5_variable_1 ++ dktX5_variable_2
def dkwX5_variable_0 : List UInt8 := [27, 184, 0, 188, 62, 3, 54, 4, 28, 154, 0, 12, 42, 180, 0, 17, 29, 5, 96, 46, 172, 28, 4]
abbrev dktX5_variable_0 : List UInt8 := dkwX5_variable_0 ++ dktX5_variable_1
theorem dksX5_variable_0 : cX5_variable.data.toList.drop 0 = dktX5_variable_0 := by decide +kernel
theorem dksX5_variable_1 : cX5_variable.data.toList.drop 23 = dktX5_variable_1 := dk_seg dksX5_variable_0 23 rfl rfl
theorem dksX5_variable_2 : cX5_variable.data.toList.drop 47 = dktX5_variable_2 := dk_seg dksX5_variable_1 24 rfl rfl
theorem dksX5_variable_3 : cX5_variable.data.toList.drop 70 = dktX5_variable_3 := dk_seg dksX5_variable_2 23 rfl rfl
theorem dX5_variable_0 : decode cX5_variable 0 = .ok (.iload_n 1, 1) := dk_27 (dk_at dksX5_variable_0 0 rfl rfl)
theorem dX5_variable_1 : decode cX5_variable 1 = .ok (.invokestatic 188, 3) := dk_184 0 188 (dk_at dksX5_variable_0 1 rfl rfl)
theorem dX5_variable_4 : decode cX5_variable 4 = .ok (.istore_n 3, 1) := dk_62 (dk_at dksX5_variable_0 4 rfl rfl)
theorem dX5_variable_5 : decode cX5_variable 5 = .ok (.iconst 0, 1) := dk_3 (dk_at dksX5_variable_0 5 rfl rfl)
theorem dX5_variable_6 : decode cX5_variable 6 = .ok (.istore 4, 2) := dk_54 4 (dk_at dksX5_variable_0 6 rfl rfl)
theorem dX5_variable_8 : decode cX5_variable 8 = .ok (.iload_n 2, 1) := dk_28 (dk_at dksX5_variable_0 8 rfl rfl)
theorem dX5_variable_9 : decode cX5_variable 9 = .ok (.ifCond .ne 12, 3) := dk_154 0 12 (dk_at dksX5_variable_0 9 rfl rfl)
theorem dX5_variable_12 : decode cX5_variable 12 = .ok (.aload_n 0, 1) := dk_42 (dk_at dksX5_variable_0 12 rfl rfl)
theorem dX5_variable_13 : decode cX5_variable 13 = .ok (.getfield 17, 3) := dk_180 0 17 (dk_at dksX5_variable_0 13 rfl rfl)
theorem dX5_variable_16 : decode cX5_variable 16 = .ok (.iload_n 3, 1) := dk_29 (dk_at dksX5_variable_0 16 rfl rfl)
theorem dX5_variable_17 : decode cX5_variable 17 = .ok (.iconst 2, 1) := dk_5 (dk_at dksX5_variable_0 17 rfl rfl)
theorem dX5_variable_18 : decode cX5_variable 18 = .ok (.iadd, 1) := dk_96 (dk_at dksX5_variable_0 18 rfl rfl)
theorem dX5_variable_19 : decode cX5_variable 19 = .ok (.iaload, 1) := dk_46 (dk_at dksX5_variable_0 19 rfl rfl)
theorem dX5_variable_20 : decode cX5_variable 20 = .ok (.ireturn, 1) := dk_172 (dk_at dksX5_variable_0 20 rfl rfl)
theorem dX5_variable_21 : decode cX5_variable 21 = .ok (.iload_n 2, 1) := dk_28 (dk_at dksX5_variable_0 21 rfl rfl)
theorem dX5_variable_22 : decode cX5_variable 22 = .ok (.iconst 1, 1) := dk_4 (dk_at dksX5_variable_0 22 rfl rfl)
theorem dX5_variable_23 : decode cX5_variable 23 = .ok (.if_icmp .ne 19, 3) := dk_160 0 19 (dk_at dksX5_variable_1 0 rfl rfl)
theorem dX5_variable_26 : decode cX5_variable 26 = .ok (.aload_n 0, 1) := dk_42 (dk_at dksX5_variable_1 3 rfl rfl)
theorem dX5_variable_27 : decode cX5_variable 27 = .ok (.getfield 17, 3) := dk_180 0 17 (dk_at dksX5_variable_1 4 rfl rfl)
theorem dX5_variable_30 : decode cX5_variable 30 = .ok (.iconst 3, 1) := dk_6 (dk_at dksX5_variable_1 7 rfl rfl)
theorem dX5_variable_31 : decode cX5_variable 31 = .ok (.iaload, 1) := dk_46 (dk_at dksX5_variable_1 8 rfl rfl)
theorem dX5_variable_32 : decode cX5_variable 32 = .ok (.aload_n 0, 1) := dk_42 (dk_at dksX5_variable_1 9 rfl rfl)
theorem dX5_variable_33 : decode cX5_variable 33 = .ok (.getfield 17, 3) := dk_180 0 17 (dk_at dksX5_variable_1 10 rfl rfl)
theorem dX5_variable_36 : decode cX5_variable 36 = .ok (.iload_n 3, 1) := dk_29 (dk_at dksX5_variable_1 13 rfl rfl)
theorem dX5_variable_37 : decode cX5_variable 37 = .ok (.iconst 1, 1) := dk_4 (dk_at dksX5_variable_1 14 rfl rfl)
theorem dX5_variable_38 : decode cX5_variable 38 = .ok (.iadd, 1) := dk_96 (dk_at dksX5_variable_1 15 rfl rfl)
theorem dX5_variable_39 : decode cX5_variable 39 = .ok (.iaload, 1) := dk_46 (dk_at dksX5_variable_1 16 rfl rfl)
theorem dX5_variable_40 : decode cX5_variable 40 = .ok (.isub, 1) := dk_100 (dk_at dksX5_variable_1 17 rfl rfl)
theorem dX5_variable_41 : decode cX5_variable 41 = .ok (.ireturn, 1) := dk_172 (dk_at dksX5_variable_1 18 rfl rfl)
theorem dX5_variable_42 : decode cX5_variable 42 = .ok (.aload_n 0, 1) := dk_42 (dk_at dksX5_variable_1 19 rfl rfl)
theorem dX5_variable_43 : decode cX5_variable 43 = .ok (.getfield 17, 3) := dk_180 0 17 (dk_at dksX5_variable_1 20 rfl rfl)
theorem dX5_variable_46 : decode cX5_variable 46 = .ok (.iload_n 3, 1) := dk_29 (dk_at dksX5_variable_1 23 rfl rfl)
theorem dX5_variable_47 : decode cX5_variable 47 = .ok (.iconst 3, 1) := dk_6 (dk_at dksX5_variable_2 0 rfl rfl)
theorem dX5_variable_48 : decode cX5_variable 48 = .ok (.iadd, 1) := dk_96 (dk_at dksX5_variable_2 1 rfl rfl)
theorem dX5_variable_49 : decode cX5_variable 49 = .ok (.iaload, 1) := dk_46 (dk_at dksX5_variable_2 2 rfl rfl)
theorem dX5_variable_50 : decode cX5_variable 50 = .ok (.istore 5, 2) := dk_54 5 (dk_at dksX5_variable_2 3 rfl rfl)
theorem dX5_variable_52 : decode cX5_variable 52 = .ok (.iload 5, 2) := dk_21 5 (dk_at dksX5_variable_2 5 rfl rfl)
theorem dX5_variable_54 : decode cX5_variable 54 = .ok (.ifCond .le 21, 3) := dk_158 0 21 (dk_at dksX5_variable_2 7 rfl rfl)
theorem dX5_variable_57 : decode cX5_variable 57 = .ok (.iload 4, 2) := dk_21 4 (dk_at dksX5_variable_2 10 rfl rfl)
theorem dX5_variable_59 : decode cX5_variable 59 = .ok (.iload 5, 2) := dk_21 5 (dk_at dksX5_variable_2 12 rfl rfl)
theorem dX5_variable_61 : decode cX5_variable 61 = .ok (.iconst 2, 1) := dk_5 (dk_at dksX5_variable_2 14 rfl rfl)
theorem dX5_variable_62 : decode cX5_variable 62 = .ok (.irem, 1) := dk_112 (dk_at dksX5_variable_2 15 rfl rfl)
theorem dX5_variable_63 : decode cX5_variable 63 = .ok (.iadd, 1) := dk_96 (dk_at dksX5_variable_2 16 rfl rfl)
theorem dX5_variable_64 : decode cX5_variable 64 = .ok (.istore 4, 2) := dk_54 4 (dk_at dksX5_variable_2 17 rfl rfl)
theorem dX5_variable_66 : decode cX5_variable 66 = .ok (.iload 5, 2) := dk_21 5 (dk_at dksX5_variable_2 19 rfl rfl)
theorem dX5_variable_68 : decode cX5_variable 68 = .ok (.iconst 2, 1) := dk_5 (dk_at dksX5_variable_2 21 rfl rfl)
theorem dX5_variable_69 : decode cX5_variable 69 = .ok (.idiv, 1) := dk_108 (dk_at dksX5_variable_2 22 rfl rfl)
theorem dX5_variable_70 : decode cX5_variable 70 = .ok (.istore 5, 2) := dk_54 5 (dk_at dksX5_variable_3 0 rfl rfl)
theorem dX5_variable_72 : decode cX5_variable 72 = .ok (.goto (-20), 3) := dk_167 255 236 (dk_at dksX5_variable_3 2 rfl rfl)
theorem dX5_variable_75 : decode cX5_variable 75 = .ok (.iload 4, 2) := dk_21 4 (dk_at dksX5_variable_3 5 rfl rfl)
theorem dX5_variable_77 : decode cX5_variable 77 = .ok (.ireturn, 1) := dk_172 (dk_at dksX5_variable_3 7 rfl rfl)
abbrev cX5_operate : ByteArray := prog_14_method_68_code
def yX5_operate : MethodName := ⟨RX5, "operate", "(IJJ)J"⟩
def dkwX5_operate_1 : List UInt8 := [31, 33, 97, 167, 0, 17, 26, 6, 160, 0, 9, 31, 33, 101, 167, 0, 6, 31, 33, 105, 184, 0, 229, 173]
abbrev dktX5_operate_1 : List UInt8 := dkwX5_operate_1 ++ []
def dkwX5_operate_0 : List UInt8 := [26, 8, 160, 0, 17, 33, 9, 148, 154, 0, 7, 9, 167, 0, 6, 31, 33, 109, 173, 26, 5, 160, 0, 9]
abbrev dktX5_operate_0 : List UInt8 := dkwX5_operate_0 ++ dktX5_operate_1
theorem dksX5_operate_0 : cX5_operate.data.toList.drop 0 = dktX5_operate_0 := by decide +kernel
theorem dksX5_operate_1 : cX5_operate.data.toList.drop 24 = dktX5_operate_1 := dk_seg dksX5_operate_0 24 rfl rfl
theorem dX5_operate_0 : decode cX5_operate 0 = .ok (.iload_n 0, 1) := dk_26 (dk_at dksX5_operate_0 0 rfl rfl)
theorem dX5_operate_1 : decode cX5_operate 1 = .ok (.iconst 5, 1) := dk_8 (dk_at dksX5_operate_0 1 rfl rfl)
theorem dX5_operate_2 : decode cX5_operate 2 = .ok (.if_icmp .ne 17, 3) := dk_160 0 17 (dk_at dksX5_operate_0 2 rfl rfl)
theorem dX5_operate_5 : decode cX5_operate 5 = .ok (.lload_n 3, 1) := dk_33 (dk_at dksX5_operate_0 5 rfl rfl)
theorem dX5_operate_6 : decode cX5_operate 6 = .ok (.lconst 0, 1) := dk_9 (dk_at dksX5_operate_0 6 rfl rfl)
theorem dX5_operate_7 : decode cX5_operate 7 = .ok (.lcmp, 1) := dk_148 (dk_at dksX5_operate_0 7 rfl rfl)
theorem dX5_operate_8 : decode cX5_operate 8 = .ok (.ifCond .ne 7, 3) := dk_154 0 7 (dk_at dksX5_operate_0 8 rfl rfl)
theorem dX5_operate_11 : decode cX5_operate 11 = .ok (.lconst 0, 1) := dk_9 (dk_at dksX5_operate_0 11 rfl rfl)
theorem dX5_operate_12 : decode cX5_operate 12 = .ok (.goto 6, 3) := dk_167 0 6 (dk_at dksX5_operate_0 12 rfl rfl)
theorem dX5_operate_15 : decode cX5_operate 15 = .ok (.lload_n 1, 1) := dk_31 (dk_at dksX5_operate_0 15 rfl rfl)
theorem dX5_operate_16 : decode cX5_operate 16 = .ok (.lload_n 3, 1) := dk_33 (dk_at dksX5_operate_0 16 rfl rfl)
theorem dX5_operate_17 : decode cX5_operate 17 = .ok (.ldiv, 1) := dk_109 (dk_at dksX5_operate_0 17 rfl rfl)
theorem dX5_operate_18 : decode cX5_operate 18 = .ok (.lreturn, 1) := dk_173 (dk_at dksX5_operate_0 18 rfl rfl)
theorem dX5_operate_19 : decode cX5_operate 19 = .ok (.iload_n 0, 1) := dk_26 (dk_at dksX5_operate_0 19 rfl rfl)
theorem dX5_operate_20 : decode cX5_operate 20 = .ok (.iconst 2, 1) := dk_5 (dk_at dksX5_operate_0 20 rfl rfl)
theorem dX5_operate_21 : decode cX5_operate 21 = .ok (.if_icmp .ne 9, 3) := dk_160 0 9 (dk_at dksX5_operate_0 21 rfl rfl)
theorem dX5_operate_24 : decode cX5_operate 24 = .ok (.lload_n 1, 1) := dk_31 (dk_at dksX5_operate_1 0 rfl rfl)
theorem dX5_operate_25 : decode cX5_operate 25 = .ok (.lload_n 3, 1) := dk_33 (dk_at dksX5_operate_1 1 rfl rfl)
theorem dX5_operate_26 : decode cX5_operate 26 = .ok (.ladd, 1) := dk_97 (dk_at dksX5_operate_1 2 rfl rfl)
theorem dX5_operate_27 : decode cX5_operate 27 = .ok (.goto 17, 3) := dk_167 0 17 (dk_at dksX5_operate_1 3 rfl rfl)
theorem dX5_operate_30 : decode cX5_operate 30 = .ok (.iload_n 0, 1) := dk_26 (dk_at dksX5_operate_1 6 rfl rfl)
theorem dX5_operate_31 : decode cX5_operate 31 = .ok (.iconst 3, 1) := dk_6 (dk_at dksX5_operate_1 7 rfl rfl)
theorem dX5_operate_32 : decode cX5_operate 32 = .ok (.if_icmp .ne 9, 3) := dk_160 0 9 (dk_at dksX5_operate_1 8 rfl rfl)
theorem dX5_operate_35 : decode cX5_operate 35 = .ok (.lload_n 1, 1) := dk_31 (dk_at dksX5_operate_1 11 rfl rfl)
theorem dX5_operate_36 : decode cX5_operate 36 = .ok (.lload_n 3, 1) := dk_33 (dk_at dksX5_operate_1 12 rfl rfl)
theorem dX5_operate_37 : decode cX5_operate 37 = .ok (.lsub, 1) := dk_101 (dk_at dksX5_operate_1 13 rfl rfl)
theorem dX5_operate_38 : decode cX5_operate 38 = .ok (.goto 6, 3) := dk_167 0 6 (dk_at dksX5_operate_1 14 rfl rfl)
theorem dX5_operate_41 : decode cX5_operate 41 = .ok (.lload_n 1, 1) := dk_31 (dk_at dksX5_operate_1 17 rfl rfl)
theorem dX5_operate_42 : decode cX5_operate 42 = .ok (.lload_n 3, 1) := dk_33 (dk_at dksX5_operate_1 18 rfl rfl)
theorem dX5_operate_43 : decode cX5_operate 43 = .ok (.lmul, 1) := dk_105 (dk_at dksX5_operate_1 19 rfl rfl)
theorem dX5_operate_44 : decode cX5_operate 44 = .ok (.invokestatic 229, 3) := dk_184 0 229 (dk_at dksX5_operate_1 20 rfl rfl)
theorem dX5_operate_47 : decode cX5_operate 47 = .ok (.lreturn, 1) := dk_173 (dk_at dksX5_operate_1 23 rfl rfl)
abbrev cX5_limited : ByteArray := prog_14_method_67_code
def yX5_limited : MethodName := ⟨RX5, "limited", "(J)J"⟩
def dkwX5_limited_1 : List UInt8 := [20, 0, 227, 167, 0, 4, 30, 173]
abbrev dktX5_limited_1 : List UInt8 := dkwX5_limited_1 ++ []
def dkwX5_limited_0 : List UInt8 := [30, 20, 0, 225, 148, 158, 0, 9, 20, 0, 225, 167, 0, 18, 30, 20, 0, 227, 148, 156, 0, 9]
abbrev dktX5_limited_0 : List UInt8 := dkwX5_limited_0 ++ dktX5_limited_1
theorem dksX5_limited_0 : cX5_limited.data.toList.drop 0 = dktX5_limited_0 := by decide +kernel
theorem dksX5_limited_1 : cX5_limited.data.toList.drop 22 = dktX5_limited_1 := dk_seg dksX5_limited_0 22 rfl rfl
theorem dX5_limited_0 : decode cX5_limited 0 = .ok (.lload_n 0, 1) := dk_30 (dk_at dksX5_limited_0 0 rfl rfl)
theorem dX5_limited_1 : decode cX5_limited 1 = .ok (.ldc2_w 225, 3) := dk_20 0 225 (dk_at dksX5_limited_0 1 rfl rfl)
theorem dX5_limited_4 : decode cX5_limited 4 = .ok (.lcmp, 1) := dk_148 (dk_at dksX5_limited_0 4 rfl rfl)
theorem dX5_limited_5 : decode cX5_limited 5 = .ok (.ifCond .le 9, 3) := dk_158 0 9 (dk_at dksX5_limited_0 5 rfl rfl)
theorem dX5_limited_8 : decode cX5_limited 8 = .ok (.ldc2_w 225, 3) := dk_20 0 225 (dk_at dksX5_limited_0 8 rfl rfl)
theorem dX5_limited_11 : decode cX5_limited 11 = .ok (.goto 18, 3) := dk_167 0 18 (dk_at dksX5_limited_0 11 rfl rfl)
theorem dX5_limited_14 : decode cX5_limited 14 = .ok (.lload_n 0, 1) := dk_30 (dk_at dksX5_limited_0 14 rfl rfl)
theorem dX5_limited_15 : decode cX5_limited 15 = .ok (.ldc2_w 227, 3) := dk_20 0 227 (dk_at dksX5_limited_0 15 rfl rfl)
theorem dX5_limited_18 : decode cX5_limited 18 = .ok (.lcmp, 1) := dk_148 (dk_at dksX5_limited_0 18 rfl rfl)
theorem dX5_limited_19 : decode cX5_limited 19 = .ok (.ifCond .ge 9, 3) := dk_156 0 9 (dk_at dksX5_limited_0 19 rfl rfl)
theorem dX5_limited_22 : decode cX5_limited 22 = .ok (.ldc2_w 227, 3) := dk_20 0 227 (dk_at dksX5_limited_1 0 rfl rfl)
theorem dX5_limited_25 : decode cX5_limited 25 = .ok (.goto 4, 3) := dk_167 0 4 (dk_at dksX5_limited_1 3 rfl rfl)
theorem dX5_limited_28 : decode cX5_limited 28 = .ok (.lload_n 0, 1) := dk_30 (dk_at dksX5_limited_1 6 rfl rfl)
theorem dX5_limited_29 : decode cX5_limited 29 = .ok (.lreturn, 1) := dk_173 (dk_at dksX5_limited_1 7 rfl rfl)
abbrev cX5_bestFit : ByteArray := prog_14_method_71_code
def yX5_bestFit : MethodName := ⟨RX5, "bestFit", "(I)I"⟩
def dkwX5_bestFit_8 : List UInt8 := [54, 7, 21, 7, 154, 255, 169, 21, 4, 172]
abbrev dktX5_bestFit_8 : List UInt8 := dkwX5_bestFit_8 ++ []
def dkwX5_bestFit_7 : List UInt8 := [163, 0, 18, 21, 8, 21, 5, 164, 0, 11, 21, 7, 54, 4, 21, 8, 54, 5, 21, 7, 28, 100, 28, 126]
abbrev dktX5_bestFit_7 : List UInt8 := dkwX5_bestFit_7 ++ dktX5_bestFit_8
def dkwX5_bestFit_6 : List UInt8 := [184, 0, 188, 5, 96, 46, 167, 0, 4, 3, 96, 54, 8, 132, 9, 1, 167, 255, 210, 21, 8, 21, 6]
abbrev dktX5_bestFit_6 : List UInt8 := dkwX5_bestFit_6 ++ dktX5_bestFit_7
def dkwX5_bestFit_5 : List UInt8 := [4, 46, 162, 0, 41, 21, 8, 21, 7, 21, 9, 122, 4, 126, 4, 160, 0, 18, 42, 180, 0, 17, 21, 9]
abbrev dktX5_bestFit_5 : List UInt8 := dkwX5_bestFit_5 ++ dktX5_bestFit_6
def dkwX5_bestFit_4 : List UInt8 := [132, 3, 1, 132, 7, 1, 167, 255, 193, 3, 54, 7, 3, 54, 8, 3, 54, 9, 21, 9, 42, 180, 0, 17]
abbrev dktX5_bestFit_4 : List UInt8 := dkwX5_bestFit_4 ++ dktX5_bestFit_5
def dkwX5_bestFit_3 : List UInt8 := [21, 7, 184, 0, 188, 7, 96, 46, 6, 159, 0, 6, 167, 0, 13, 28, 4, 21, 7, 120, 128, 61]
abbrev dktX5_bestFit_3 : List UInt8 := dkwX5_bestFit_3 ++ dktX5_bestFit_4
def dkwX5_bestFit_2 : List UInt8 := [16, 12, 162, 0, 52, 42, 180, 0, 17, 21, 7, 184, 0, 188, 46, 27, 160, 0, 32, 42, 180, 0, 17]
abbrev dktX5_bestFit_2 : List UInt8 := dkwX5_bestFit_2 ++ dktX5_bestFit_3
def dkwX5_bestFit_1 : List UInt8 := [54, 5, 42, 27, 182, 0, 201, 54, 6, 3, 54, 7, 21, 7, 42, 180, 0, 17, 4, 46, 162, 0, 58, 29]
abbrev dktX5_bestFit_1 : List UInt8 := dkwX5_bestFit_1 ++ dktX5_bestFit_2
def dkwX5_bestFit_0 : List UInt8 := [42, 3, 181, 0, 32, 42, 27, 182, 0, 179, 153, 0, 5, 3, 172, 3, 61, 3, 62, 3, 54, 4, 3]
abbrev dktX5_bestFit_0 : List UInt8 := dkwX5_bestFit_0 ++ dktX5_bestFit_1
theorem dksX5_bestFit_0 : cX5_bestFit.data.toList.drop 0 = dktX5_bestFit_0 := by decide +kernel
theorem dksX5_bestFit_1 : cX5_bestFit.data.toList.drop 23 = dktX5_bestFit_1 := dk_seg dksX5_bestFit_0 23 rfl rfl
theorem dksX5_bestFit_2 : cX5_bestFit.data.toList.drop 47 = dktX5_bestFit_2 := dk_seg dksX5_bestFit_1 24 rfl rfl
theorem dksX5_bestFit_3 : cX5_bestFit.data.toList.drop 70 = dktX5_bestFit_3 := dk_seg dksX5_bestFit_2 23 rfl rfl
theorem dksX5_bestFit_4 : cX5_bestFit.data.toList.drop 92 = dktX5_bestFit_4 := dk_seg dksX5_bestFit_3 22 rfl rfl
theorem dksX5_bestFit_5 : cX5_bestFit.data.toList.drop 116 = dktX5_bestFit_5 := dk_seg dksX5_bestFit_4 24 rfl rfl
theorem dksX5_bestFit_6 : cX5_bestFit.data.toList.drop 140 = dktX5_bestFit_6 := dk_seg dksX5_bestFit_5 24 rfl rfl
theorem dksX5_bestFit_7 : cX5_bestFit.data.toList.drop 163 = dktX5_bestFit_7 := dk_seg dksX5_bestFit_6 23 rfl rfl
theorem dksX5_bestFit_8 : cX5_bestFit.data.toList.drop 187 = dktX5_bestFit_8 := dk_seg dksX5_bestFit_7 24 rfl rfl
theorem dX5_bestFit_0 : decode cX5_bestFit 0 = .ok (.aload_n 0, 1) := dk_42 (dk_at dksX5_bestFit_0 0 rfl rfl)
theorem dX5_bestFit_1 : decode cX5_bestFit 1 = .ok (.iconst 0, 1) := dk_3 (dk_at dksX5_bestFit_0 1 rfl rfl)
theorem dX5_bestFit_2 : decode cX5_bestFit 2 = .ok (.putfield 32, 3) := dk_181 0 32 (dk_at dksX5_bestFit_0 2 rfl rfl)
theorem dX5_bestFit_5 : decode cX5_bestFit 5 = .ok (.aload_n 0, 1) := dk_42 (dk_at dksX5_bestFit_0 5 rfl rfl)
theorem dX5_bestFit_6 : decode cX5_bestFit 6 = .ok (.iload_n 1, 1) := dk_27 (dk_at dksX5_bestFit_0 6 rfl rfl)
theorem dX5_bestFit_7 : decode cX5_bestFit 7 = .ok (.invokevirtual 179, 3) := dk_182 0 179 (dk_at dksX5_bestFit_0 7 rfl rfl)
theorem dX5_bestFit_10 : decode cX5_bestFit 10 = .ok (.ifCond .eq 5, 3) := dk_153 0 5 (dk_at dksX5_bestFit_0 10 rfl rfl)
theorem dX5_bestFit_13 : decode cX5_bestFit 13 = .ok (.iconst 0, 1) := dk_3 (dk_at dksX5_bestFit_0 13 rfl rfl)
theorem dX5_bestFit_14 : decode cX5_bestFit 14 = .ok (.ireturn, 1) := dk_172 (dk_at dksX5_bestFit_0 14 rfl rfl)
theorem dX5_bestFit_15 : decode cX5_bestFit 15 = .ok (.iconst 0, 1) := dk_3 (dk_at dksX5_bestFit_0 15 rfl rfl)
theorem dX5_bestFit_16 : decode cX5_bestFit 16 = .ok (.istore_n 2, 1) := dk_61 (dk_at dksX5_bestFit_0 16 rfl rfl)
theorem dX5_bestFit_17 : decode cX5_bestFit 17 = .ok (.iconst 0, 1) := dk_3 (dk_at dksX5_bestFit_0 17 rfl rfl)
theorem dX5_bestFit_18 : decode cX5_bestFit 18 = .ok (.istore_n 3, 1) := dk_62 (dk_at dksX5_bestFit_0 18 rfl rfl)
theorem dX5_bestFit_19 : decode cX5_bestFit 19 = .ok (.iconst 0, 1) := dk_3 (dk_at dksX5_bestFit_0 19 rfl rfl)
theorem dX5_bestFit_20 : decode cX5_bestFit 20 = .ok (.istore 4, 2) := dk_54 4 (dk_at dksX5_bestFit_0 20 rfl rfl)
theorem dX5_bestFit_22 : decode cX5_bestFit 22 = .ok (.iconst 0, 1) := dk_3 (dk_at dksX5_bestFit_0 22 rfl rfl)
theorem dX5_bestFit_23 : decode cX5_bestFit 23 = .ok (.istore 5, 2) := dk_54 5 (dk_at dksX5_bestFit_1 0 rfl rfl)
theorem dX5_bestFit_25 : decode cX5_bestFit 25 = .ok (.aload_n 0, 1) := dk_42 (dk_at dksX5_bestFit_1 2 rfl rfl)
theorem dX5_bestFit_26 : decode cX5_bestFit 26 = .ok (.iload_n 1, 1) := dk_27 (dk_at dksX5_bestFit_1 3 rfl rfl)
theorem dX5_bestFit_27 : decode cX5_bestFit 27 = .ok (.invokevirtual 201, 3) := dk_182 0 201 (dk_at dksX5_bestFit_1 4 rfl rfl)
theorem dX5_bestFit_30 : decode cX5_bestFit 30 = .ok (.istore 6, 2) := dk_54 6 (dk_at dksX5_bestFit_1 7 rfl rfl)
theorem dX5_bestFit_32 : decode cX5_bestFit 32 = .ok (.iconst 0, 1) := dk_3 (dk_at dksX5_bestFit_1 9 rfl rfl)
theorem dX5_bestFit_33 : decode cX5_bestFit 33 = .ok (.istore 7, 2) := dk_54 7 (dk_at dksX5_bestFit_1 10 rfl rfl)
theorem dX5_bestFit_35 : decode cX5_bestFit 35 = .ok (.iload 7, 2) := dk_21 7 (dk_at dksX5_bestFit_1 12 rfl rfl)
theorem dX5_bestFit_37 : decode cX5_bestFit 37 = .ok (.aload_n 0, 1) := dk_42 (dk_at dksX5_bestFit_1 14 rfl rfl)
theorem dX5_bestFit_38 : decode cX5_bestFit 38 = .ok (.getfield 17, 3) := dk_180 0 17 (dk_at dksX5_bestFit_1 15 rfl rfl)
theorem dX5_bestFit_41 : decode cX5_bestFit 41 = .ok (.iconst 1, 1) := dk_4 (dk_at dksX5_bestFit_1 18 rfl rfl)
theorem dX5_bestFit_42 : decode cX5_bestFit 42 = .ok (.iaload, 1) := dk_46 (dk_at dksX5_bestFit_1 19 rfl rfl)
theorem dX5_bestFit_43 : decode cX5_bestFit 43 = .ok (.if_icmp .ge 58, 3) := dk_162 0 58 (dk_at dksX5_bestFit_1 20 rfl rfl)
theorem dX5_bestFit_46 : decode cX5_bestFit 46 = .ok (.iload_n 3, 1) := dk_29 (dk_at dksX5_bestFit_1 23 rfl rfl)
theorem dX5_bestFit_47 : decode cX5_bestFit 47 = .ok (.bipush 12, 2) := dk_16 12 (dk_at dksX5_bestFit_2 0 rfl rfl)
theorem dX5_bestFit_49 : decode cX5_bestFit 49 = .ok (.if_icmp .ge 52, 3) := dk_162 0 52 (dk_at dksX5_bestFit_2 2 rfl rfl)
theorem dX5_bestFit_52 : decode cX5_bestFit 52 = .ok (.aload_n 0, 1) := dk_42 (dk_at dksX5_bestFit_2 5 rfl rfl)
theorem dX5_bestFit_53 : decode cX5_bestFit 53 = .ok (.getfield 17, 3) := dk_180 0 17 (dk_at dksX5_bestFit_2 6 rfl rfl)
theorem dX5_bestFit_56 : decode cX5_bestFit 56 = .ok (.iload 7, 2) := dk_21 7 (dk_at dksX5_bestFit_2 9 rfl rfl)
theorem dX5_bestFit_58 : decode cX5_bestFit 58 = .ok (.invokestatic 188, 3) := dk_184 0 188 (dk_at dksX5_bestFit_2 11 rfl rfl)
theorem dX5_bestFit_61 : decode cX5_bestFit 61 = .ok (.iaload, 1) := dk_46 (dk_at dksX5_bestFit_2 14 rfl rfl)
theorem dX5_bestFit_62 : decode cX5_bestFit 62 = .ok (.iload_n 1, 1) := dk_27 (dk_at dksX5_bestFit_2 15 rfl rfl)
theorem dX5_bestFit_63 : decode cX5_bestFit 63 = .ok (.if_icmp .ne 32, 3) := dk_160 0 32 (dk_at dksX5_bestFit_2 16 rfl rfl)
theorem dX5_bestFit_66 : decode cX5_bestFit 66 = .ok (.aload_n 0, 1) := dk_42 (dk_at dksX5_bestFit_2 19 rfl rfl)
theorem dX5_bestFit_67 : decode cX5_bestFit 67 = .ok (.getfield 17, 3) := dk_180 0 17 (dk_at dksX5_bestFit_2 20 rfl rfl)
theorem dX5_bestFit_70 : decode cX5_bestFit 70 = .ok (.iload 7, 2) := dk_21 7 (dk_at dksX5_bestFit_3 0 rfl rfl)
theorem dX5_bestFit_72 : decode cX5_bestFit 72 = .ok (.invokestatic 188, 3) := dk_184 0 188 (dk_at dksX5_bestFit_3 2 rfl rfl)
theorem dX5_bestFit_75 : decode cX5_bestFit 75 = .ok (.iconst 4, 1) := dk_7 (dk_at dksX5_bestFit_3 5 rfl rfl)
theorem dX5_bestFit_76 : decode cX5_bestFit 76 = .ok (.iadd, 1) := dk_96 (dk_at dksX5_bestFit_3 6 rfl rfl)
theorem dX5_bestFit_77 : decode cX5_bestFit 77 = .ok (.iaload, 1) := dk_46 (dk_at dksX5_bestFit_3 7 rfl rfl)
theorem dX5_bestFit_78 : decode cX5_bestFit 78 = .ok (.iconst 3, 1) := dk_6 (dk_at dksX5_bestFit_3 8 rfl rfl)
theorem dX5_bestFit_79 : decode cX5_bestFit 79 = .ok (.if_icmp .eq 6, 3) := dk_159 0 6 (dk_at dksX5_bestFit_3 9 rfl rfl)
theorem dX5_bestFit_82 : decode cX5_bestFit 82 = .ok (.goto 13, 3) := dk_167 0 13 (dk_at dksX5_bestFit_3 12 rfl rfl)
theorem dX5_bestFit_85 : decode cX5_bestFit 85 = .ok (.iload_n 2, 1) := dk_28 (dk_at dksX5_bestFit_3 15 rfl rfl)
theorem dX5_bestFit_86 : decode cX5_bestFit 86 = .ok (.iconst 1, 1) := dk_4 (dk_at dksX5_bestFit_3 16 rfl rfl)
theorem dX5_bestFit_87 : decode cX5_bestFit 87 = .ok (.iload 7, 2) := dk_21 7 (dk_at dksX5_bestFit_3 17 rfl rfl)
theorem dX5_bestFit_89 : decode cX5_bestFit 89 = .ok (.ishl, 1) := dk_120 (dk_at dksX5_bestFit_3 19 rfl rfl)
theorem dX5_bestFit_90 : decode cX5_bestFit 90 = .ok (.ior, 1) := dk_128 (dk_at dksX5_bestFit_3 20 rfl rfl)
theorem dX5_bestFit_91 : decode cX5_bestFit 91 = .ok (.istore_n 2, 1) := dk_61 (dk_at dksX5_bestFit_3 21 rfl rfl)
theorem dX5_bestFit_92 : decode cX5_bestFit 92 = .ok (.iinc 3 1, 3) := dk_132 3 1 (dk_at dksX5_bestFit_4 0 rfl rfl)
theorem dX5_bestFit_95 : decode cX5_bestFit 95 = .ok (.iinc 7 1, 3) := dk_132 7 1 (dk_at dksX5_bestFit_4 3 rfl rfl)
theorem dX5_bestFit_98 : decode cX5_bestFit 98 = .ok (.goto (-63), 3) := dk_167 255 193 (dk_at dksX5_bestFit_4 6 rfl rfl)
theorem dX5_bestFit_101 : decode cX5_bestFit 101 = .ok (.iconst 0, 1) := dk_3 (dk_at dksX5_bestFit_4 9 rfl rfl)
theorem dX5_bestFit_102 : decode cX5_bestFit 102 = .ok (.istore 7, 2) := dk_54 7 (dk_at dksX5_bestFit_4 10 rfl rfl)
theorem dX5_bestFit_104 : decode cX5_bestFit 104 = .ok (.iconst 0, 1) := dk_3 (dk_at dksX5_bestFit_4 12 rfl rfl)
theorem dX5_bestFit_105 : decode cX5_bestFit 105 = .ok (.istore 8, 2) := dk_54 8 (dk_at dksX5_bestFit_4 13 rfl rfl)
theorem dX5_bestFit_107 : decode cX5_bestFit 107 = .ok (.iconst 0, 1) := dk_3 (dk_at dksX5_bestFit_4 15 rfl rfl)
theorem dX5_bestFit_108 : decode cX5_bestFit 108 = .ok (.istore 9, 2) := dk_54 9 (dk_at dksX5_bestFit_4 16 rfl rfl)
theorem dX5_bestFit_110 : decode cX5_bestFit 110 = .ok (.iload 9, 2) := dk_21 9 (dk_at dksX5_bestFit_4 18 rfl rfl)
theorem dX5_bestFit_112 : decode cX5_bestFit 112 = .ok (.aload_n 0, 1) := dk_42 (dk_at dksX5_bestFit_4 20 rfl rfl)
theorem dX5_bestFit_113 : decode cX5_bestFit 113 = .ok (.getfield 17, 3) := dk_180 0 17 (dk_at dksX5_bestFit_4 21 rfl rfl)
theorem dX5_bestFit_116 : decode cX5_bestFit 116 = .ok (.iconst 1, 1) := dk_4 (dk_at dksX5_bestFit_5 0 rfl rfl)
theorem dX5_bestFit_117 : decode cX5_bestFit 117 = .ok (.iaload, 1) := dk_46 (dk_at dksX5_bestFit_5 1 rfl rfl)
theorem dX5_bestFit_118 : decode cX5_bestFit 118 = .ok (.if_icmp .ge 41, 3) := dk_162 0 41 (dk_at dksX5_bestFit_5 2 rfl rfl)
theorem dX5_bestFit_121 : decode cX5_bestFit 121 = .ok (.iload 8, 2) := dk_21 8 (dk_at dksX5_bestFit_5 5 rfl rfl)
theorem dX5_bestFit_123 : decode cX5_bestFit 123 = .ok (.iload 7, 2) := dk_21 7 (dk_at dksX5_bestFit_5 7 rfl rfl)
theorem dX5_bestFit_125 : decode cX5_bestFit 125 = .ok (.iload 9, 2) := dk_21 9 (dk_at dksX5_bestFit_5 9 rfl rfl)
theorem dX5_bestFit_127 : decode cX5_bestFit 127 = .ok (.ishr, 1) := dk_122 (dk_at dksX5_bestFit_5 11 rfl rfl)
theorem dX5_bestFit_128 : decode cX5_bestFit 128 = .ok (.iconst 1, 1) := dk_4 (dk_at dksX5_bestFit_5 12 rfl rfl)
theorem dX5_bestFit_129 : decode cX5_bestFit 129 = .ok (.iand, 1) := dk_126 (dk_at dksX5_bestFit_5 13 rfl rfl)
theorem dX5_bestFit_130 : decode cX5_bestFit 130 = .ok (.iconst 1, 1) := dk_4 (dk_at dksX5_bestFit_5 14 rfl rfl)
theorem dX5_bestFit_131 : decode cX5_bestFit 131 = .ok (.if_icmp .ne 18, 3) := dk_160 0 18 (dk_at dksX5_bestFit_5 15 rfl rfl)
theorem dX5_bestFit_134 : decode cX5_bestFit 134 = .ok (.aload_n 0, 1) := dk_42 (dk_at dksX5_bestFit_5 18 rfl rfl)
theorem dX5_bestFit_135 : decode cX5_bestFit 135 = .ok (.getfield 17, 3) := dk_180 0 17 (dk_at dksX5_bestFit_5 19 rfl rfl)
theorem dX5_bestFit_138 : decode cX5_bestFit 138 = .ok (.iload 9, 2) := dk_21 9 (dk_at dksX5_bestFit_5 22 rfl rfl)
theorem dX5_bestFit_140 : decode cX5_bestFit 140 = .ok (.invokestatic 188, 3) := dk_184 0 188 (dk_at dksX5_bestFit_6 0 rfl rfl)
theorem dX5_bestFit_143 : decode cX5_bestFit 143 = .ok (.iconst 2, 1) := dk_5 (dk_at dksX5_bestFit_6 3 rfl rfl)
theorem dX5_bestFit_144 : decode cX5_bestFit 144 = .ok (.iadd, 1) := dk_96 (dk_at dksX5_bestFit_6 4 rfl rfl)
theorem dX5_bestFit_145 : decode cX5_bestFit 145 = .ok (.iaload, 1) := dk_46 (dk_at dksX5_bestFit_6 5 rfl rfl)
theorem dX5_bestFit_146 : decode cX5_bestFit 146 = .ok (.goto 4, 3) := dk_167 0 4 (dk_at dksX5_bestFit_6 6 rfl rfl)
theorem dX5_bestFit_149 : decode cX5_bestFit 149 = .ok (.iconst 0, 1) := dk_3 (dk_at dksX5_bestFit_6 9 rfl rfl)
theorem dX5_bestFit_150 : decode cX5_bestFit 150 = .ok (.iadd, 1) := dk_96 (dk_at dksX5_bestFit_6 10 rfl rfl)
theorem dX5_bestFit_151 : decode cX5_bestFit 151 = .ok (.istore 8, 2) := dk_54 8 (dk_at dksX5_bestFit_6 11 rfl rfl)
theorem dX5_bestFit_153 : decode cX5_bestFit 153 = .ok (.iinc 9 1, 3) := dk_132 9 1 (dk_at dksX5_bestFit_6 13 rfl rfl)
theorem dX5_bestFit_156 : decode cX5_bestFit 156 = .ok (.goto (-46), 3) := dk_167 255 210 (dk_at dksX5_bestFit_6 16 rfl rfl)
theorem dX5_bestFit_159 : decode cX5_bestFit 159 = .ok (.iload 8, 2) := dk_21 8 (dk_at dksX5_bestFit_6 19 rfl rfl)
theorem dX5_bestFit_161 : decode cX5_bestFit 161 = .ok (.iload 6, 2) := dk_21 6 (dk_at dksX5_bestFit_6 21 rfl rfl)
theorem dX5_bestFit_163 : decode cX5_bestFit 163 = .ok (.if_icmp .gt 18, 3) := dk_163 0 18 (dk_at dksX5_bestFit_7 0 rfl rfl)
theorem dX5_bestFit_166 : decode cX5_bestFit 166 = .ok (.iload 8, 2) := dk_21 8 (dk_at dksX5_bestFit_7 3 rfl rfl)
theorem dX5_bestFit_168 : decode cX5_bestFit 168 = .ok (.iload 5, 2) := dk_21 5 (dk_at dksX5_bestFit_7 5 rfl rfl)
theorem dX5_bestFit_170 : decode cX5_bestFit 170 = .ok (.if_icmp .le 11, 3) := dk_164 0 11 (dk_at dksX5_bestFit_7 7 rfl rfl)
theorem dX5_bestFit_173 : decode cX5_bestFit 173 = .ok (.iload 7, 2) := dk_21 7 (dk_at dksX5_bestFit_7 10 rfl rfl)
theorem dX5_bestFit_175 : decode cX5_bestFit 175 = .ok (.istore 4, 2) := dk_54 4 (dk_at dksX5_bestFit_7 12 rfl rfl)
theorem dX5_bestFit_177 : decode cX5_bestFit 177 = .ok (.iload 8, 2) := dk_21 8 (dk_at dksX5_bestFit_7 14 rfl rfl)
theorem dX5_bestFit_179 : decode cX5_bestFit 179 = .ok (.istore 5, 2) := dk_54 5 (dk_at dksX5_bestFit_7 16 rfl rfl)
theorem dX5_bestFit_181 : decode cX5_bestFit 181 = .ok (.iload 7, 2) := dk_21 7 (dk_at dksX5_bestFit_7 18 rfl rfl)
theorem dX5_bestFit_183 : decode cX5_bestFit 183 = .ok (.iload_n 2, 1) := dk_28 (dk_at dksX5_bestFit_7 20 rfl rfl)
theorem dX5_bestFit_184 : decode cX5_bestFit 184 = .ok (.isub, 1) := dk_100 (dk_at dksX5_bestFit_7 21 rfl rfl)
theorem dX5_bestFit_185 : decode cX5_bestFit 185 = .ok (.iload_n 2, 1) := dk_28 (dk_at dksX5_bestFit_7 22 rfl rfl)
theorem dX5_bestFit_186 : decode cX5_bestFit 186 = .ok (.iand, 1) := dk_126 (dk_at dksX5_bestFit_7 23 rfl rfl)
theorem dX5_bestFit_187 : decode cX5_bestFit 187 = .ok (.istore 7, 2) := dk_54 7 (dk_at dksX5_bestFit_8 0 rfl rfl)
theorem dX5_bestFit_189 : decode cX5_bestFit 189 = .ok (.iload 7, 2) := dk_21 7 (dk_at dksX5_bestFit_8 2 rfl rfl)
theorem dX5_bestFit_191 : decode cX5_bestFit 191 = .ok (.ifCond .ne (-87), 3) := dk_154 255 169 (dk_at dksX5_bestFit_8 4 rfl rfl)
theorem dX5_bestFit_194 : decode cX5_bestFit 194 = .ok (.iload 4, 2) := dk_21 4 (dk_at dksX5_bestFit_8 7 rfl rfl)
theorem dX5_bestFit_196 : decode cX5_bestFit 196 = .ok (.ireturn, 1) := dk_172 (dk_at dksX5_bestFit_8 9 rfl rfl)
abbrev cX5_present : ByteArray := prog_14_method_73_code
def yX5_present : MethodName := ⟨RX5, "present", "(IIIII)I"⟩
def dkwX5_present_6 : List UInt8 := [42, 180, 0, 17, 21, 7, 7, 96, 3, 79, 42, 180, 0, 17, 21, 7, 8, 96, 3, 79, 21, 6, 172]
abbrev dktX5_present_6 : List UInt8 := dkwX5_present_6 ++ []
def dkwX5_present_5 : List UInt8 := [6, 46, 79, 42, 180, 0, 17, 21, 7, 5, 96, 29, 79, 42, 180, 0, 17, 21, 7, 6, 96, 21, 8, 79]
abbrev dktX5_present_5 : List UInt8 := dkwX5_present_5 ++ dktX5_present_6
def dkwX5_present_4 : List UInt8 := [46, 4, 96, 79, 42, 180, 0, 17, 21, 7, 27, 79, 42, 180, 0, 17, 21, 7, 4, 96, 42, 180, 0, 17]
abbrev dktX5_present_4 : List UInt8 := dkwX5_present_4 ++ dktX5_present_5
def dkwX5_present_3 : List UInt8 := [184, 0, 188, 54, 7, 42, 27, 28, 29, 21, 4, 21, 5, 182, 0, 212, 54, 8, 42, 180, 0, 17, 4, 92]
abbrev dktX5_present_3 : List UInt8 := dkwX5_present_3 ++ dktX5_present_4
def dkwX5_present_2 : List UInt8 := [6, 182, 0, 153, 153, 0, 5, 3, 172, 42, 182, 0, 160, 42, 180, 0, 17, 4, 46, 54, 6, 21, 6]
abbrev dktX5_present_2 : List UInt8 := dkwX5_present_2 ++ dktX5_present_3
def dkwX5_present_1 : List UInt8 := [5, 182, 0, 153, 154, 0, 27, 42, 42, 180, 0, 17, 4, 46, 16, 24, 160, 0, 7, 4, 167, 0, 4, 3]
abbrev dktX5_present_1 : List UInt8 := dkwX5_present_1 ++ dktX5_present_2
def dkwX5_present_0 : List UInt8 := [42, 3, 181, 0, 32, 42, 27, 182, 0, 179, 154, 0, 45, 42, 42, 28, 29, 21, 4, 21, 5, 182, 0, 208]
abbrev dktX5_present_0 : List UInt8 := dkwX5_present_0 ++ dktX5_present_1
theorem dksX5_present_0 : cX5_present.data.toList.drop 0 = dktX5_present_0 := by decide +kernel
theorem dksX5_present_1 : cX5_present.data.toList.drop 24 = dktX5_present_1 := dk_seg dksX5_present_0 24 rfl rfl
theorem dksX5_present_2 : cX5_present.data.toList.drop 48 = dktX5_present_2 := dk_seg dksX5_present_1 24 rfl rfl
theorem dksX5_present_3 : cX5_present.data.toList.drop 71 = dktX5_present_3 := dk_seg dksX5_present_2 23 rfl rfl
theorem dksX5_present_4 : cX5_present.data.toList.drop 95 = dktX5_present_4 := dk_seg dksX5_present_3 24 rfl rfl
theorem dksX5_present_5 : cX5_present.data.toList.drop 119 = dktX5_present_5 := dk_seg dksX5_present_4 24 rfl rfl
theorem dksX5_present_6 : cX5_present.data.toList.drop 143 = dktX5_present_6 := dk_seg dksX5_present_5 24 rfl rfl
theorem dX5_present_0 : decode cX5_present 0 = .ok (.aload_n 0, 1) := dk_42 (dk_at dksX5_present_0 0 rfl rfl)
theorem dX5_present_1 : decode cX5_present 1 = .ok (.iconst 0, 1) := dk_3 (dk_at dksX5_present_0 1 rfl rfl)
theorem dX5_present_2 : decode cX5_present 2 = .ok (.putfield 32, 3) := dk_181 0 32 (dk_at dksX5_present_0 2 rfl rfl)
theorem dX5_present_5 : decode cX5_present 5 = .ok (.aload_n 0, 1) := dk_42 (dk_at dksX5_present_0 5 rfl rfl)
theorem dX5_present_6 : decode cX5_present 6 = .ok (.iload_n 1, 1) := dk_27 (dk_at dksX5_present_0 6 rfl rfl)
theorem dX5_present_7 : decode cX5_present 7 = .ok (.invokevirtual 179, 3) := dk_182 0 179 (dk_at dksX5_present_0 7 rfl rfl)
theorem dX5_present_10 : decode cX5_present 10 = .ok (.ifCond .ne 45, 3) := dk_154 0 45 (dk_at dksX5_present_0 10 rfl rfl)
theorem dX5_present_13 : decode cX5_present 13 = .ok (.aload_n 0, 1) := dk_42 (dk_at dksX5_present_0 13 rfl rfl)
theorem dX5_present_14 : decode cX5_present 14 = .ok (.aload_n 0, 1) := dk_42 (dk_at dksX5_present_0 14 rfl rfl)
theorem dX5_present_15 : decode cX5_present 15 = .ok (.iload_n 2, 1) := dk_28 (dk_at dksX5_present_0 15 rfl rfl)
theorem dX5_present_16 : decode cX5_present 16 = .ok (.iload_n 3, 1) := dk_29 (dk_at dksX5_present_0 16 rfl rfl)
theorem dX5_present_17 : decode cX5_present 17 = .ok (.iload 4, 2) := dk_21 4 (dk_at dksX5_present_0 17 rfl rfl)
theorem dX5_present_19 : decode cX5_present 19 = .ok (.iload 5, 2) := dk_21 5 (dk_at dksX5_present_0 19 rfl rfl)
theorem dX5_present_21 : decode cX5_present 21 = .ok (.invokevirtual 208, 3) := dk_182 0 208 (dk_at dksX5_present_0 21 rfl rfl)
theorem dX5_present_24 : decode cX5_present 24 = .ok (.iconst 2, 1) := dk_5 (dk_at dksX5_present_1 0 rfl rfl)
theorem dX5_present_25 : decode cX5_present 25 = .ok (.invokevirtual 153, 3) := dk_182 0 153 (dk_at dksX5_present_1 1 rfl rfl)
theorem dX5_present_28 : decode cX5_present 28 = .ok (.ifCond .ne 27, 3) := dk_154 0 27 (dk_at dksX5_present_1 4 rfl rfl)
theorem dX5_present_31 : decode cX5_present 31 = .ok (.aload_n 0, 1) := dk_42 (dk_at dksX5_present_1 7 rfl rfl)
theorem dX5_present_32 : decode cX5_present 32 = .ok (.aload_n 0, 1) := dk_42 (dk_at dksX5_present_1 8 rfl rfl)
theorem dX5_present_33 : decode cX5_present 33 = .ok (.getfield 17, 3) := dk_180 0 17 (dk_at dksX5_present_1 9 rfl rfl)
theorem dX5_present_36 : decode cX5_present 36 = .ok (.iconst 1, 1) := dk_4 (dk_at dksX5_present_1 12 rfl rfl)
theorem dX5_present_37 : decode cX5_present 37 = .ok (.iaload, 1) := dk_46 (dk_at dksX5_present_1 13 rfl rfl)
theorem dX5_present_38 : decode cX5_present 38 = .ok (.bipush 24, 2) := dk_16 24 (dk_at dksX5_present_1 14 rfl rfl)
theorem dX5_present_40 : decode cX5_present 40 = .ok (.if_icmp .ne 7, 3) := dk_160 0 7 (dk_at dksX5_present_1 16 rfl rfl)
theorem dX5_present_43 : decode cX5_present 43 = .ok (.iconst 1, 1) := dk_4 (dk_at dksX5_present_1 19 rfl rfl)
theorem dX5_present_44 : decode cX5_present 44 = .ok (.goto 4, 3) := dk_167 0 4 (dk_at dksX5_present_1 20 rfl rfl)
theorem dX5_present_47 : decode cX5_present 47 = .ok (.iconst 0, 1) := dk_3 (dk_at dksX5_present_1 23 rfl rfl)
theorem dX5_present_48 : decode cX5_present 48 = .ok (.iconst 3, 1) := dk_6 (dk_at dksX5_present_2 0 rfl rfl)
theorem dX5_present_49 : decode cX5_present 49 = .ok (.invokevirtual 153, 3) := dk_182 0 153 (dk_at dksX5_present_2 1 rfl rfl)
theorem dX5_present_52 : decode cX5_present 52 = .ok (.ifCond .eq 5, 3) := dk_153 0 5 (dk_at dksX5_present_2 4 rfl rfl)
theorem dX5_present_55 : decode cX5_present 55 = .ok (.iconst 0, 1) := dk_3 (dk_at dksX5_present_2 7 rfl rfl)
theorem dX5_present_56 : decode cX5_present 56 = .ok (.ireturn, 1) := dk_172 (dk_at dksX5_present_2 8 rfl rfl)
theorem dX5_present_57 : decode cX5_present 57 = .ok (.aload_n 0, 1) := dk_42 (dk_at dksX5_present_2 9 rfl rfl)
theorem dX5_present_58 : decode cX5_present 58 = .ok (.invokevirtual 160, 3) := dk_182 0 160 (dk_at dksX5_present_2 10 rfl rfl)
theorem dX5_present_61 : decode cX5_present 61 = .ok (.aload_n 0, 1) := dk_42 (dk_at dksX5_present_2 13 rfl rfl)
theorem dX5_present_62 : decode cX5_present 62 = .ok (.getfield 17, 3) := dk_180 0 17 (dk_at dksX5_present_2 14 rfl rfl)
theorem dX5_present_65 : decode cX5_present 65 = .ok (.iconst 1, 1) := dk_4 (dk_at dksX5_present_2 17 rfl rfl)
theorem dX5_present_66 : decode cX5_present 66 = .ok (.iaload, 1) := dk_46 (dk_at dksX5_present_2 18 rfl rfl)
theorem dX5_present_67 : decode cX5_present 67 = .ok (.istore 6, 2) := dk_54 6 (dk_at dksX5_present_2 19 rfl rfl)
theorem dX5_present_69 : decode cX5_present 69 = .ok (.iload 6, 2) := dk_21 6 (dk_at dksX5_present_2 21 rfl rfl)
theorem dX5_present_71 : decode cX5_present 71 = .ok (.invokestatic 188, 3) := dk_184 0 188 (dk_at dksX5_present_3 0 rfl rfl)
theorem dX5_present_74 : decode cX5_present 74 = .ok (.istore 7, 2) := dk_54 7 (dk_at dksX5_present_3 3 rfl rfl)
theorem dX5_present_76 : decode cX5_present 76 = .ok (.aload_n 0, 1) := dk_42 (dk_at dksX5_present_3 5 rfl rfl)
theorem dX5_present_77 : decode cX5_present 77 = .ok (.iload_n 1, 1) := dk_27 (dk_at dksX5_present_3 6 rfl rfl)
theorem dX5_present_78 : decode cX5_present 78 = .ok (.iload_n 2, 1) := dk_28 (dk_at dksX5_present_3 7 rfl rfl)
theorem dX5_present_79 : decode cX5_present 79 = .ok (.iload_n 3, 1) := dk_29 (dk_at dksX5_present_3 8 rfl rfl)
theorem dX5_present_80 : decode cX5_present 80 = .ok (.iload 4, 2) := dk_21 4 (dk_at dksX5_present_3 9 rfl rfl)
theorem dX5_present_82 : decode cX5_present 82 = .ok (.iload 5, 2) := dk_21 5 (dk_at dksX5_present_3 11 rfl rfl)
theorem dX5_present_84 : decode cX5_present 84 = .ok (.invokevirtual 212, 3) := dk_182 0 212 (dk_at dksX5_present_3 13 rfl rfl)
theorem dX5_present_87 : decode cX5_present 87 = .ok (.istore 8, 2) := dk_54 8 (dk_at dksX5_present_3 16 rfl rfl)
theorem dX5_present_89 : decode cX5_present 89 = .ok (.aload_n 0, 1) := dk_42 (dk_at dksX5_present_3 18 rfl rfl)
theorem dX5_present_90 : decode cX5_present 90 = .ok (.getfield 17, 3) := dk_180 0 17 (dk_at dksX5_present_3 19 rfl rfl)
theorem dX5_present_93 : decode cX5_present 93 = .ok (.iconst 1, 1) := dk_4 (dk_at dksX5_present_3 22 rfl rfl)
theorem dX5_present_94 : decode cX5_present 94 = .ok (.dup2, 1) := dk_92 (dk_at dksX5_present_3 23 rfl rfl)
theorem dX5_present_95 : decode cX5_present 95 = .ok (.iaload, 1) := dk_46 (dk_at dksX5_present_4 0 rfl rfl)
theorem dX5_present_96 : decode cX5_present 96 = .ok (.iconst 1, 1) := dk_4 (dk_at dksX5_present_4 1 rfl rfl)
theorem dX5_present_97 : decode cX5_present 97 = .ok (.iadd, 1) := dk_96 (dk_at dksX5_present_4 2 rfl rfl)
theorem dX5_present_98 : decode cX5_present 98 = .ok (.iastore, 1) := dk_79 (dk_at dksX5_present_4 3 rfl rfl)
theorem dX5_present_99 : decode cX5_present 99 = .ok (.aload_n 0, 1) := dk_42 (dk_at dksX5_present_4 4 rfl rfl)
theorem dX5_present_100 : decode cX5_present 100 = .ok (.getfield 17, 3) := dk_180 0 17 (dk_at dksX5_present_4 5 rfl rfl)
theorem dX5_present_103 : decode cX5_present 103 = .ok (.iload 7, 2) := dk_21 7 (dk_at dksX5_present_4 8 rfl rfl)
theorem dX5_present_105 : decode cX5_present 105 = .ok (.iload_n 1, 1) := dk_27 (dk_at dksX5_present_4 10 rfl rfl)
theorem dX5_present_106 : decode cX5_present 106 = .ok (.iastore, 1) := dk_79 (dk_at dksX5_present_4 11 rfl rfl)
theorem dX5_present_107 : decode cX5_present 107 = .ok (.aload_n 0, 1) := dk_42 (dk_at dksX5_present_4 12 rfl rfl)
theorem dX5_present_108 : decode cX5_present 108 = .ok (.getfield 17, 3) := dk_180 0 17 (dk_at dksX5_present_4 13 rfl rfl)
theorem dX5_present_111 : decode cX5_present 111 = .ok (.iload 7, 2) := dk_21 7 (dk_at dksX5_present_4 16 rfl rfl)
theorem dX5_present_113 : decode cX5_present 113 = .ok (.iconst 1, 1) := dk_4 (dk_at dksX5_present_4 18 rfl rfl)
theorem dX5_present_114 : decode cX5_present 114 = .ok (.iadd, 1) := dk_96 (dk_at dksX5_present_4 19 rfl rfl)
theorem dX5_present_115 : decode cX5_present 115 = .ok (.aload_n 0, 1) := dk_42 (dk_at dksX5_present_4 20 rfl rfl)
theorem dX5_present_116 : decode cX5_present 116 = .ok (.getfield 17, 3) := dk_180 0 17 (dk_at dksX5_present_4 21 rfl rfl)
theorem dX5_present_119 : decode cX5_present 119 = .ok (.iconst 3, 1) := dk_6 (dk_at dksX5_present_5 0 rfl rfl)
theorem dX5_present_120 : decode cX5_present 120 = .ok (.iaload, 1) := dk_46 (dk_at dksX5_present_5 1 rfl rfl)
theorem dX5_present_121 : decode cX5_present 121 = .ok (.iastore, 1) := dk_79 (dk_at dksX5_present_5 2 rfl rfl)
theorem dX5_present_122 : decode cX5_present 122 = .ok (.aload_n 0, 1) := dk_42 (dk_at dksX5_present_5 3 rfl rfl)
theorem dX5_present_123 : decode cX5_present 123 = .ok (.getfield 17, 3) := dk_180 0 17 (dk_at dksX5_present_5 4 rfl rfl)
theorem dX5_present_126 : decode cX5_present 126 = .ok (.iload 7, 2) := dk_21 7 (dk_at dksX5_present_5 7 rfl rfl)
theorem dX5_present_128 : decode cX5_present 128 = .ok (.iconst 2, 1) := dk_5 (dk_at dksX5_present_5 9 rfl rfl)
theorem dX5_present_129 : decode cX5_present 129 = .ok (.iadd, 1) := dk_96 (dk_at dksX5_present_5 10 rfl rfl)
theorem dX5_present_130 : decode cX5_present 130 = .ok (.iload_n 3, 1) := dk_29 (dk_at dksX5_present_5 11 rfl rfl)
theorem dX5_present_131 : decode cX5_present 131 = .ok (.iastore, 1) := dk_79 (dk_at dksX5_present_5 12 rfl rfl)
theorem dX5_present_132 : decode cX5_present 132 = .ok (.aload_n 0, 1) := dk_42 (dk_at dksX5_present_5 13 rfl rfl)
theorem dX5_present_133 : decode cX5_present 133 = .ok (.getfield 17, 3) := dk_180 0 17 (dk_at dksX5_present_5 14 rfl rfl)
theorem dX5_present_136 : decode cX5_present 136 = .ok (.iload 7, 2) := dk_21 7 (dk_at dksX5_present_5 17 rfl rfl)
theorem dX5_present_138 : decode cX5_present 138 = .ok (.iconst 3, 1) := dk_6 (dk_at dksX5_present_5 19 rfl rfl)
theorem dX5_present_139 : decode cX5_present 139 = .ok (.iadd, 1) := dk_96 (dk_at dksX5_present_5 20 rfl rfl)
theorem dX5_present_140 : decode cX5_present 140 = .ok (.iload 8, 2) := dk_21 8 (dk_at dksX5_present_5 21 rfl rfl)
theorem dX5_present_142 : decode cX5_present 142 = .ok (.iastore, 1) := dk_79 (dk_at dksX5_present_5 23 rfl rfl)
theorem dX5_present_143 : decode cX5_present 143 = .ok (.aload_n 0, 1) := dk_42 (dk_at dksX5_present_6 0 rfl rfl)
theorem dX5_present_144 : decode cX5_present 144 = .ok (.getfield 17, 3) := dk_180 0 17 (dk_at dksX5_present_6 1 rfl rfl)
theorem dX5_present_147 : decode cX5_present 147 = .ok (.iload 7, 2) := dk_21 7 (dk_at dksX5_present_6 4 rfl rfl)
theorem dX5_present_149 : decode cX5_present 149 = .ok (.iconst 4, 1) := dk_7 (dk_at dksX5_present_6 6 rfl rfl)
theorem dX5_present_150 : decode cX5_present 150 = .ok (.iadd, 1) := dk_96 (dk_at dksX5_present_6 7 rfl rfl)
theorem dX5_present_151 : decode cX5_present 151 = .ok (.iconst 0, 1) := dk_3 (dk_at dksX5_present_6 8 rfl rfl)
theorem dX5_present_152 : decode cX5_present 152 = .ok (.iastore, 1) := dk_79 (dk_at dksX5_present_6 9 rfl rfl)
theorem dX5_present_153 : decode cX5_present 153 = .ok (.aload_n 0, 1) := dk_42 (dk_at dksX5_present_6 10 rfl rfl)
theorem dX5_present_154 : decode cX5_present 154 = .ok (.getfield 17, 3) := dk_180 0 17 (dk_at dksX5_present_6 11 rfl rfl)
theorem dX5_present_157 : decode cX5_present 157 = .ok (.iload 7, 2) := dk_21 7 (dk_at dksX5_present_6 14 rfl rfl)
theorem dX5_present_159 : decode cX5_present 159 = .ok (.iconst 5, 1) := dk_8 (dk_at dksX5_present_6 16 rfl rfl)
theorem dX5_present_160 : decode cX5_present 160 = .ok (.iadd, 1) := dk_96 (dk_at dksX5_present_6 17 rfl rfl)
theorem dX5_present_161 : decode cX5_present 161 = .ok (.iconst 0, 1) := dk_3 (dk_at dksX5_present_6 18 rfl rfl)
theorem dX5_present_162 : decode cX5_present 162 = .ok (.iastore, 1) := dk_79 (dk_at dksX5_present_6 19 rfl rfl)
theorem dX5_present_163 : decode cX5_present 163 = .ok (.iload 6, 2) := dk_21 6 (dk_at dksX5_present_6 20 rfl rfl)
theorem dX5_present_165 : decode cX5_present 165 = .ok (.ireturn, 1) := dk_172 (dk_at dksX5_present_6 22 rfl rfl)
abbrev cX5_examine : ByteArray := prog_14_method_75_code
def yX5_examine : MethodName := ⟨RX5, "examine", "(I)I"⟩
def dkwX5_examine_4 : List UInt8 := [180, 0, 17, 28, 7, 96, 4, 79, 42, 180, 0, 17, 28, 7, 96, 46, 172]
abbrev dktX5_examine_4 : List UInt8 := dkwX5_examine_4 ++ []
def dkwX5_examine_3 : List UInt8 := [180, 0, 17, 6, 46, 42, 27, 182, 0, 219, 164, 0, 11, 42, 27, 182, 0, 245, 167, 0, 12, 42]
abbrev dktX5_examine_3 : List UInt8 := dkwX5_examine_3 ++ dktX5_examine_4
def dkwX5_examine_2 : List UInt8 := [182, 0, 153, 153, 0, 5, 3, 172, 42, 182, 0, 160, 29, 153, 0, 23, 29, 7, 126, 154, 0, 25, 42]
abbrev dktX5_examine_2 : List UInt8 := dkwX5_examine_2 ++ dktX5_examine_3
def dkwX5_examine_1 : List UInt8 := [28, 6, 96, 46, 62, 42, 42, 180, 0, 17, 28, 7, 96, 46, 153, 0, 7, 4, 167, 0, 4, 3, 5]
abbrev dktX5_examine_1 : List UInt8 := dkwX5_examine_1 ++ dktX5_examine_2
def dkwX5_examine_0 : List UInt8 := [42, 3, 181, 0, 32, 42, 27, 182, 0, 216, 153, 0, 5, 3, 172, 27, 184, 0, 188, 61, 42, 180, 0, 17]
abbrev dktX5_examine_0 : List UInt8 := dkwX5_examine_0 ++ dktX5_examine_1
theorem dksX5_examine_0 : cX5_examine.data.toList.drop 0 = dktX5_examine_0 := by decide +kernel
theorem dksX5_examine_1 : cX5_examine.data.toList.drop 24 = dktX5_examine_1 := dk_seg dksX5_examine_0 24 rfl rfl
theorem dksX5_examine_2 : cX5_examine.data.toList.drop 47 = dktX5_examine_2 := dk_seg dksX5_examine_1 23 rfl rfl
theorem dksX5_examine_3 : cX5_examine.data.toList.drop 70 = dktX5_examine_3 := dk_seg dksX5_examine_2 23 rfl rfl
theorem dksX5_examine_4 : cX5_examine.data.toList.drop 92 = dktX5_examine_4 := dk_seg dksX5_examine_3 22 rfl rfl
theorem dX5_examine_0 : decode cX5_examine 0 = .ok (.aload_n 0, 1) := dk_42 (dk_at dksX5_examine_0 0 rfl rfl)
theorem dX5_examine_1 : decode cX5_examine 1 = .ok (.iconst 0, 1) := dk_3 (dk_at dksX5_examine_0 1 rfl rfl)
theorem dX5_examine_2 : decode cX5_examine 2 = .ok (.putfield 32, 3) := dk_181 0 32 (dk_at dksX5_examine_0 2 rfl rfl)
theorem dX5_examine_5 : decode cX5_examine 5 = .ok (.aload_n 0, 1) := dk_42 (dk_at dksX5_examine_0 5 rfl rfl)
theorem dX5_examine_6 : decode cX5_examine 6 = .ok (.iload_n 1, 1) := dk_27 (dk_at dksX5_examine_0 6 rfl rfl)
theorem dX5_examine_7 : decode cX5_examine 7 = .ok (.invokevirtual 216, 3) := dk_182 0 216 (dk_at dksX5_examine_0 7 rfl rfl)
theorem dX5_examine_10 : decode cX5_examine 10 = .ok (.ifCond .eq 5, 3) := dk_153 0 5 (dk_at dksX5_examine_0 10 rfl rfl)
theorem dX5_examine_13 : decode cX5_examine 13 = .ok (.iconst 0, 1) := dk_3 (dk_at dksX5_examine_0 13 rfl rfl)
theorem dX5_examine_14 : decode cX5_examine 14 = .ok (.ireturn, 1) := dk_172 (dk_at dksX5_examine_0 14 rfl rfl)
theorem dX5_examine_15 : decode cX5_examine 15 = .ok (.iload_n 1, 1) := dk_27 (dk_at dksX5_examine_0 15 rfl rfl)
theorem dX5_examine_16 : decode cX5_examine 16 = .ok (.invokestatic 188, 3) := dk_184 0 188 (dk_at dksX5_examine_0 16 rfl rfl)
theorem dX5_examine_19 : decode cX5_examine 19 = .ok (.istore_n 2, 1) := dk_61 (dk_at dksX5_examine_0 19 rfl rfl)
theorem dX5_examine_20 : decode cX5_examine 20 = .ok (.aload_n 0, 1) := dk_42 (dk_at dksX5_examine_0 20 rfl rfl)
theorem dX5_examine_21 : decode cX5_examine 21 = .ok (.getfield 17, 3) := dk_180 0 17 (dk_at dksX5_examine_0 21 rfl rfl)
theorem dX5_examine_24 : decode cX5_examine 24 = .ok (.iload_n 2, 1) := dk_28 (dk_at dksX5_examine_1 0 rfl rfl)
theorem dX5_examine_25 : decode cX5_examine 25 = .ok (.iconst 3, 1) := dk_6 (dk_at dksX5_examine_1 1 rfl rfl)
theorem dX5_examine_26 : decode cX5_examine 26 = .ok (.iadd, 1) := dk_96 (dk_at dksX5_examine_1 2 rfl rfl)
theorem dX5_examine_27 : decode cX5_examine 27 = .ok (.iaload, 1) := dk_46 (dk_at dksX5_examine_1 3 rfl rfl)
theorem dX5_examine_28 : decode cX5_examine 28 = .ok (.istore_n 3, 1) := dk_62 (dk_at dksX5_examine_1 4 rfl rfl)
theorem dX5_examine_29 : decode cX5_examine 29 = .ok (.aload_n 0, 1) := dk_42 (dk_at dksX5_examine_1 5 rfl rfl)
theorem dX5_examine_30 : decode cX5_examine 30 = .ok (.aload_n 0, 1) := dk_42 (dk_at dksX5_examine_1 6 rfl rfl)
theorem dX5_examine_31 : decode cX5_examine 31 = .ok (.getfield 17, 3) := dk_180 0 17 (dk_at dksX5_examine_1 7 rfl rfl)
theorem dX5_examine_34 : decode cX5_examine 34 = .ok (.iload_n 2, 1) := dk_28 (dk_at dksX5_examine_1 10 rfl rfl)
theorem dX5_examine_35 : decode cX5_examine 35 = .ok (.iconst 4, 1) := dk_7 (dk_at dksX5_examine_1 11 rfl rfl)
theorem dX5_examine_36 : decode cX5_examine 36 = .ok (.iadd, 1) := dk_96 (dk_at dksX5_examine_1 12 rfl rfl)
theorem dX5_examine_37 : decode cX5_examine 37 = .ok (.iaload, 1) := dk_46 (dk_at dksX5_examine_1 13 rfl rfl)
theorem dX5_examine_38 : decode cX5_examine 38 = .ok (.ifCond .eq 7, 3) := dk_153 0 7 (dk_at dksX5_examine_1 14 rfl rfl)
theorem dX5_examine_41 : decode cX5_examine 41 = .ok (.iconst 1, 1) := dk_4 (dk_at dksX5_examine_1 17 rfl rfl)
theorem dX5_examine_42 : decode cX5_examine 42 = .ok (.goto 4, 3) := dk_167 0 4 (dk_at dksX5_examine_1 18 rfl rfl)
theorem dX5_examine_45 : decode cX5_examine 45 = .ok (.iconst 0, 1) := dk_3 (dk_at dksX5_examine_1 21 rfl rfl)
theorem dX5_examine_46 : decode cX5_examine 46 = .ok (.iconst 2, 1) := dk_5 (dk_at dksX5_examine_1 22 rfl rfl)
theorem dX5_examine_47 : decode cX5_examine 47 = .ok (.invokevirtual 153, 3) := dk_182 0 153 (dk_at dksX5_examine_2 0 rfl rfl)
theorem dX5_examine_50 : decode cX5_examine 50 = .ok (.ifCond .eq 5, 3) := dk_153 0 5 (dk_at dksX5_examine_2 3 rfl rfl)
theorem dX5_examine_53 : decode cX5_examine 53 = .ok (.iconst 0, 1) := dk_3 (dk_at dksX5_examine_2 6 rfl rfl)
theorem dX5_examine_54 : decode cX5_examine 54 = .ok (.ireturn, 1) := dk_172 (dk_at dksX5_examine_2 7 rfl rfl)
theorem dX5_examine_55 : decode cX5_examine 55 = .ok (.aload_n 0, 1) := dk_42 (dk_at dksX5_examine_2 8 rfl rfl)
theorem dX5_examine_56 : decode cX5_examine 56 = .ok (.invokevirtual 160, 3) := dk_182 0 160 (dk_at dksX5_examine_2 9 rfl rfl)
theorem dX5_examine_59 : decode cX5_examine 59 = .ok (.iload_n 3, 1) := dk_29 (dk_at dksX5_examine_2 12 rfl rfl)
theorem dX5_examine_60 : decode cX5_examine 60 = .ok (.ifCond .eq 23, 3) := dk_153 0 23 (dk_at dksX5_examine_2 13 rfl rfl)
theorem dX5_examine_63 : decode cX5_examine 63 = .ok (.iload_n 3, 1) := dk_29 (dk_at dksX5_examine_2 16 rfl rfl)
theorem dX5_examine_64 : decode cX5_examine 64 = .ok (.iconst 4, 1) := dk_7 (dk_at dksX5_examine_2 17 rfl rfl)
theorem dX5_examine_65 : decode cX5_examine 65 = .ok (.iand, 1) := dk_126 (dk_at dksX5_examine_2 18 rfl rfl)
theorem dX5_examine_66 : decode cX5_examine 66 = .ok (.ifCond .ne 25, 3) := dk_154 0 25 (dk_at dksX5_examine_2 19 rfl rfl)
theorem dX5_examine_69 : decode cX5_examine 69 = .ok (.aload_n 0, 1) := dk_42 (dk_at dksX5_examine_2 22 rfl rfl)
theorem dX5_examine_70 : decode cX5_examine 70 = .ok (.getfield 17, 3) := dk_180 0 17 (dk_at dksX5_examine_3 0 rfl rfl)
theorem dX5_examine_73 : decode cX5_examine 73 = .ok (.iconst 3, 1) := dk_6 (dk_at dksX5_examine_3 3 rfl rfl)
theorem dX5_examine_74 : decode cX5_examine 74 = .ok (.iaload, 1) := dk_46 (dk_at dksX5_examine_3 4 rfl rfl)
theorem dX5_examine_75 : decode cX5_examine 75 = .ok (.aload_n 0, 1) := dk_42 (dk_at dksX5_examine_3 5 rfl rfl)
theorem dX5_examine_76 : decode cX5_examine 76 = .ok (.iload_n 1, 1) := dk_27 (dk_at dksX5_examine_3 6 rfl rfl)
theorem dX5_examine_77 : decode cX5_examine 77 = .ok (.invokevirtual 219, 3) := dk_182 0 219 (dk_at dksX5_examine_3 7 rfl rfl)
theorem dX5_examine_80 : decode cX5_examine 80 = .ok (.if_icmp .le 11, 3) := dk_164 0 11 (dk_at dksX5_examine_3 10 rfl rfl)
theorem dX5_examine_83 : decode cX5_examine 83 = .ok (.aload_n 0, 1) := dk_42 (dk_at dksX5_examine_3 13 rfl rfl)
theorem dX5_examine_84 : decode cX5_examine 84 = .ok (.iload_n 1, 1) := dk_27 (dk_at dksX5_examine_3 14 rfl rfl)
theorem dX5_examine_85 : decode cX5_examine 85 = .ok (.invokevirtual 245, 3) := dk_182 0 245 (dk_at dksX5_examine_3 15 rfl rfl)
theorem dX5_examine_88 : decode cX5_examine 88 = .ok (.goto 12, 3) := dk_167 0 12 (dk_at dksX5_examine_3 18 rfl rfl)
theorem dX5_examine_91 : decode cX5_examine 91 = .ok (.aload_n 0, 1) := dk_42 (dk_at dksX5_examine_3 21 rfl rfl)
theorem dX5_examine_92 : decode cX5_examine 92 = .ok (.getfield 17, 3) := dk_180 0 17 (dk_at dksX5_examine_4 0 rfl rfl)
theorem dX5_examine_95 : decode cX5_examine 95 = .ok (.iload_n 2, 1) := dk_28 (dk_at dksX5_examine_4 3 rfl rfl)
theorem dX5_examine_96 : decode cX5_examine 96 = .ok (.iconst 4, 1) := dk_7 (dk_at dksX5_examine_4 4 rfl rfl)
theorem dX5_examine_97 : decode cX5_examine 97 = .ok (.iadd, 1) := dk_96 (dk_at dksX5_examine_4 5 rfl rfl)
theorem dX5_examine_98 : decode cX5_examine 98 = .ok (.iconst 1, 1) := dk_4 (dk_at dksX5_examine_4 6 rfl rfl)
theorem dX5_examine_99 : decode cX5_examine 99 = .ok (.iastore, 1) := dk_79 (dk_at dksX5_examine_4 7 rfl rfl)
theorem dX5_examine_100 : decode cX5_examine 100 = .ok (.aload_n 0, 1) := dk_42 (dk_at dksX5_examine_4 8 rfl rfl)
theorem dX5_examine_101 : decode cX5_examine 101 = .ok (.getfield 17, 3) := dk_180 0 17 (dk_at dksX5_examine_4 9 rfl rfl)
theorem dX5_examine_104 : decode cX5_examine 104 = .ok (.iload_n 2, 1) := dk_28 (dk_at dksX5_examine_4 12 rfl rfl)
theorem dX5_examine_105 : decode cX5_examine 105 = .ok (.iconst 4, 1) := dk_7 (dk_at dksX5_examine_4 13 rfl rfl)
theorem dX5_examine_106 : decode cX5_examine 106 = .ok (.iadd, 1) := dk_96 (dk_at dksX5_examine_4 14 rfl rfl)
theorem dX5_examine_107 : decode cX5_examine 107 = .ok (.iaload, 1) := dk_46 (dk_at dksX5_examine_4 15 rfl rfl)
theorem dX5_examine_108 : decode cX5_examine 108 = .ok (.ireturn, 1) := dk_172 (dk_at dksX5_examine_4 16 rfl rfl)
abbrev cX5_honour : ByteArray := prog_14_method_74_code
def yX5_honour : MethodName := ⟨RX5, "honour", "(I)V"⟩
def dkwX5_honour_1 : List UInt8 := [180, 0, 17, 6, 46, 79, 177]
abbrev dktX5_honour_1 : List UInt8 := dkwX5_honour_1 ++ []
def dkwX5_honour_0 : List UInt8 := [42, 180, 0, 17, 27, 184, 0, 188, 7, 96, 5, 79, 42, 180, 0, 17, 27, 184, 0, 188, 8, 96, 42]
abbrev dktX5_honour_0 : List UInt8 := dkwX5_honour_0 ++ dktX5_honour_1
theorem dksX5_honour_0 : cX5_honour.data.toList.drop 0 = dktX5_honour_0 := by decide +kernel
theorem dksX5_honour_1 : cX5_honour.data.toList.drop 23 = dktX5_honour_1 := dk_seg dksX5_honour_0 23 rfl rfl
theorem dX5_honour_0 : decode cX5_honour 0 = .ok (.aload_n 0, 1) := dk_42 (dk_at dksX5_honour_0 0 rfl rfl)
theorem dX5_honour_1 : decode cX5_honour 1 = .ok (.getfield 17, 3) := dk_180 0 17 (dk_at dksX5_honour_0 1 rfl rfl)
theorem dX5_honour_4 : decode cX5_honour 4 = .ok (.iload_n 1, 1) := dk_27 (dk_at dksX5_honour_0 4 rfl rfl)
theorem dX5_honour_5 : decode cX5_honour 5 = .ok (.invokestatic 188, 3) := dk_184 0 188 (dk_at dksX5_honour_0 5 rfl rfl)
theorem dX5_honour_8 : decode cX5_honour 8 = .ok (.iconst 4, 1) := dk_7 (dk_at dksX5_honour_0 8 rfl rfl)
theorem dX5_honour_9 : decode cX5_honour 9 = .ok (.iadd, 1) := dk_96 (dk_at dksX5_honour_0 9 rfl rfl)
theorem dX5_honour_10 : decode cX5_honour 10 = .ok (.iconst 2, 1) := dk_5 (dk_at dksX5_honour_0 10 rfl rfl)
theorem dX5_honour_11 : decode cX5_honour 11 = .ok (.iastore, 1) := dk_79 (dk_at dksX5_honour_0 11 rfl rfl)
theorem dX5_honour_12 : decode cX5_honour 12 = .ok (.aload_n 0, 1) := dk_42 (dk_at dksX5_honour_0 12 rfl rfl)
theorem dX5_honour_13 : decode cX5_honour 13 = .ok (.getfield 17, 3) := dk_180 0 17 (dk_at dksX5_honour_0 13 rfl rfl)
theorem dX5_honour_16 : decode cX5_honour 16 = .ok (.iload_n 1, 1) := dk_27 (dk_at dksX5_honour_0 16 rfl rfl)
theorem dX5_honour_17 : decode cX5_honour 17 = .ok (.invokestatic 188, 3) := dk_184 0 188 (dk_at dksX5_honour_0 17 rfl rfl)
theorem dX5_honour_20 : decode cX5_honour 20 = .ok (.iconst 5, 1) := dk_8 (dk_at dksX5_honour_0 20 rfl rfl)
theorem dX5_honour_21 : decode cX5_honour 21 = .ok (.iadd, 1) := dk_96 (dk_at dksX5_honour_0 21 rfl rfl)
theorem dX5_honour_22 : decode cX5_honour 22 = .ok (.aload_n 0, 1) := dk_42 (dk_at dksX5_honour_0 22 rfl rfl)
theorem dX5_honour_23 : decode cX5_honour 23 = .ok (.getfield 17, 3) := dk_180 0 17 (dk_at dksX5_honour_1 0 rfl rfl)
theorem dX5_honour_26 : decode cX5_honour 26 = .ok (.iconst 3, 1) := dk_6 (dk_at dksX5_honour_1 3 rfl rfl)
theorem dX5_honour_27 : decode cX5_honour 27 = .ok (.iaload, 1) := dk_46 (dk_at dksX5_honour_1 4 rfl rfl)
theorem dX5_honour_28 : decode cX5_honour 28 = .ok (.iastore, 1) := dk_79 (dk_at dksX5_honour_1 5 rfl rfl)
theorem dX5_honour_29 : decode cX5_honour 29 = .ok (.return_, 1) := dk_177 (dk_at dksX5_honour_1 6 rfl rfl)
abbrev cX5_waive : ByteArray := prog_14_method_76_code
def yX5_waive : MethodName := ⟨RX5, "waive", "(I)I"⟩
def dkwX5_waive_3 : List UInt8 := [27, 182, 0, 222, 172]
abbrev dktX5_waive_3 : List UInt8 := dkwX5_waive_3 ++ []
def dkwX5_waive_2 : List UInt8 := [4, 167, 0, 4, 3, 5, 182, 0, 153, 153, 0, 5, 3, 172, 42, 182, 0, 160, 42, 27, 182, 0, 245, 42]
abbrev dktX5_waive_2 : List UInt8 := dkwX5_waive_2 ++ dktX5_waive_3
def dkwX5_waive_1 : List UInt8 := [180, 0, 17, 28, 7, 96, 46, 4, 160, 0, 16, 42, 180, 0, 17, 28, 6, 96, 46, 7, 126, 153, 0, 7]
abbrev dktX5_waive_1 : List UInt8 := dkwX5_waive_1 ++ dktX5_waive_2
def dkwX5_waive_0 : List UInt8 := [42, 3, 181, 0, 32, 42, 27, 182, 0, 216, 153, 0, 5, 3, 172, 27, 184, 0, 188, 61, 42, 42]
abbrev dktX5_waive_0 : List UInt8 := dkwX5_waive_0 ++ dktX5_waive_1
theorem dksX5_waive_0 : cX5_waive.data.toList.drop 0 = dktX5_waive_0 := by decide +kernel
theorem dksX5_waive_1 : cX5_waive.data.toList.drop 22 = dktX5_waive_1 := dk_seg dksX5_waive_0 22 rfl rfl
theorem dksX5_waive_2 : cX5_waive.data.toList.drop 46 = dktX5_waive_2 := dk_seg dksX5_waive_1 24 rfl rfl
theorem dksX5_waive_3 : cX5_waive.data.toList.drop 70 = dktX5_waive_3 := dk_seg dksX5_waive_2 24 rfl rfl
theorem dX5_waive_0 : decode cX5_waive 0 = .ok (.aload_n 0, 1) := dk_42 (dk_at dksX5_waive_0 0 rfl rfl)
theorem dX5_waive_1 : decode cX5_waive 1 = .ok (.iconst 0, 1) := dk_3 (dk_at dksX5_waive_0 1 rfl rfl)
theorem dX5_waive_2 : decode cX5_waive 2 = .ok (.putfield 32, 3) := dk_181 0 32 (dk_at dksX5_waive_0 2 rfl rfl)
theorem dX5_waive_5 : decode cX5_waive 5 = .ok (.aload_n 0, 1) := dk_42 (dk_at dksX5_waive_0 5 rfl rfl)
theorem dX5_waive_6 : decode cX5_waive 6 = .ok (.iload_n 1, 1) := dk_27 (dk_at dksX5_waive_0 6 rfl rfl)
theorem dX5_waive_7 : decode cX5_waive 7 = .ok (.invokevirtual 216, 3) := dk_182 0 216 (dk_at dksX5_waive_0 7 rfl rfl)
theorem dX5_waive_10 : decode cX5_waive 10 = .ok (.ifCond .eq 5, 3) := dk_153 0 5 (dk_at dksX5_waive_0 10 rfl rfl)
theorem dX5_waive_13 : decode cX5_waive 13 = .ok (.iconst 0, 1) := dk_3 (dk_at dksX5_waive_0 13 rfl rfl)
theorem dX5_waive_14 : decode cX5_waive 14 = .ok (.ireturn, 1) := dk_172 (dk_at dksX5_waive_0 14 rfl rfl)
theorem dX5_waive_15 : decode cX5_waive 15 = .ok (.iload_n 1, 1) := dk_27 (dk_at dksX5_waive_0 15 rfl rfl)
theorem dX5_waive_16 : decode cX5_waive 16 = .ok (.invokestatic 188, 3) := dk_184 0 188 (dk_at dksX5_waive_0 16 rfl rfl)
theorem dX5_waive_19 : decode cX5_waive 19 = .ok (.istore_n 2, 1) := dk_61 (dk_at dksX5_waive_0 19 rfl rfl)
theorem dX5_waive_20 : decode cX5_waive 20 = .ok (.aload_n 0, 1) := dk_42 (dk_at dksX5_waive_0 20 rfl rfl)
theorem dX5_waive_21 : decode cX5_waive 21 = .ok (.aload_n 0, 1) := dk_42 (dk_at dksX5_waive_0 21 rfl rfl)
theorem dX5_waive_22 : decode cX5_waive 22 = .ok (.getfield 17, 3) := dk_180 0 17 (dk_at dksX5_waive_1 0 rfl rfl)
theorem dX5_waive_25 : decode cX5_waive 25 = .ok (.iload_n 2, 1) := dk_28 (dk_at dksX5_waive_1 3 rfl rfl)
theorem dX5_waive_26 : decode cX5_waive 26 = .ok (.iconst 4, 1) := dk_7 (dk_at dksX5_waive_1 4 rfl rfl)
theorem dX5_waive_27 : decode cX5_waive 27 = .ok (.iadd, 1) := dk_96 (dk_at dksX5_waive_1 5 rfl rfl)
theorem dX5_waive_28 : decode cX5_waive 28 = .ok (.iaload, 1) := dk_46 (dk_at dksX5_waive_1 6 rfl rfl)
theorem dX5_waive_29 : decode cX5_waive 29 = .ok (.iconst 1, 1) := dk_4 (dk_at dksX5_waive_1 7 rfl rfl)
theorem dX5_waive_30 : decode cX5_waive 30 = .ok (.if_icmp .ne 16, 3) := dk_160 0 16 (dk_at dksX5_waive_1 8 rfl rfl)
theorem dX5_waive_33 : decode cX5_waive 33 = .ok (.aload_n 0, 1) := dk_42 (dk_at dksX5_waive_1 11 rfl rfl)
theorem dX5_waive_34 : decode cX5_waive 34 = .ok (.getfield 17, 3) := dk_180 0 17 (dk_at dksX5_waive_1 12 rfl rfl)
theorem dX5_waive_37 : decode cX5_waive 37 = .ok (.iload_n 2, 1) := dk_28 (dk_at dksX5_waive_1 15 rfl rfl)
theorem dX5_waive_38 : decode cX5_waive 38 = .ok (.iconst 3, 1) := dk_6 (dk_at dksX5_waive_1 16 rfl rfl)
theorem dX5_waive_39 : decode cX5_waive 39 = .ok (.iadd, 1) := dk_96 (dk_at dksX5_waive_1 17 rfl rfl)
theorem dX5_waive_40 : decode cX5_waive 40 = .ok (.iaload, 1) := dk_46 (dk_at dksX5_waive_1 18 rfl rfl)
theorem dX5_waive_41 : decode cX5_waive 41 = .ok (.iconst 4, 1) := dk_7 (dk_at dksX5_waive_1 19 rfl rfl)
theorem dX5_waive_42 : decode cX5_waive 42 = .ok (.iand, 1) := dk_126 (dk_at dksX5_waive_1 20 rfl rfl)
theorem dX5_waive_43 : decode cX5_waive 43 = .ok (.ifCond .eq 7, 3) := dk_153 0 7 (dk_at dksX5_waive_1 21 rfl rfl)
theorem dX5_waive_46 : decode cX5_waive 46 = .ok (.iconst 1, 1) := dk_4 (dk_at dksX5_waive_2 0 rfl rfl)
theorem dX5_waive_47 : decode cX5_waive 47 = .ok (.goto 4, 3) := dk_167 0 4 (dk_at dksX5_waive_2 1 rfl rfl)
theorem dX5_waive_50 : decode cX5_waive 50 = .ok (.iconst 0, 1) := dk_3 (dk_at dksX5_waive_2 4 rfl rfl)
theorem dX5_waive_51 : decode cX5_waive 51 = .ok (.iconst 2, 1) := dk_5 (dk_at dksX5_waive_2 5 rfl rfl)
theorem dX5_waive_52 : decode cX5_waive 52 = .ok (.invokevirtual 153, 3) := dk_182 0 153 (dk_at dksX5_waive_2 6 rfl rfl)
theorem dX5_waive_55 : decode cX5_waive 55 = .ok (.ifCond .eq 5, 3) := dk_153 0 5 (dk_at dksX5_waive_2 9 rfl rfl)
theorem dX5_waive_58 : decode cX5_waive 58 = .ok (.iconst 0, 1) := dk_3 (dk_at dksX5_waive_2 12 rfl rfl)
theorem dX5_waive_59 : decode cX5_waive 59 = .ok (.ireturn, 1) := dk_172 (dk_at dksX5_waive_2 13 rfl rfl)
theorem dX5_waive_60 : decode cX5_waive 60 = .ok (.aload_n 0, 1) := dk_42 (dk_at dksX5_waive_2 14 rfl rfl)
theorem dX5_waive_61 : decode cX5_waive 61 = .ok (.invokevirtual 160, 3) := dk_182 0 160 (dk_at dksX5_waive_2 15 rfl rfl)
theorem dX5_waive_64 : decode cX5_waive 64 = .ok (.aload_n 0, 1) := dk_42 (dk_at dksX5_waive_2 18 rfl rfl)
theorem dX5_waive_65 : decode cX5_waive 65 = .ok (.iload_n 1, 1) := dk_27 (dk_at dksX5_waive_2 19 rfl rfl)
theorem dX5_waive_66 : decode cX5_waive 66 = .ok (.invokevirtual 245, 3) := dk_182 0 245 (dk_at dksX5_waive_2 20 rfl rfl)
theorem dX5_waive_69 : decode cX5_waive 69 = .ok (.aload_n 0, 1) := dk_42 (dk_at dksX5_waive_2 23 rfl rfl)
theorem dX5_waive_70 : decode cX5_waive 70 = .ok (.iload_n 1, 1) := dk_27 (dk_at dksX5_waive_3 0 rfl rfl)
theorem dX5_waive_71 : decode cX5_waive 71 = .ok (.invokevirtual 222, 3) := dk_182 0 222 (dk_at dksX5_waive_3 1 rfl rfl)
theorem dX5_waive_74 : decode cX5_waive 74 = .ok (.ireturn, 1) := dk_172 (dk_at dksX5_waive_3 4 rfl rfl)
abbrev cX5_refuse : ByteArray := prog_14_method_77_code
def yX5_refuse : MethodName := ⟨RX5, "refuse", "(I)I"⟩
def dkwX5_refuse_3 : List UInt8 := [172]
abbrev dktX5_refuse_3 : List UInt8 := dkwX5_refuse_3 ++ []
def dkwX5_refuse_2 : List UInt8 := [172, 42, 182, 0, 160, 42, 180, 0, 17, 28, 7, 96, 6, 79, 42, 42, 180, 0, 17, 28, 46, 182, 0, 201]
abbrev dktX5_refuse_2 : List UInt8 := dkwX5_refuse_2 ++ dktX5_refuse_3
def dkwX5_refuse_1 : List UInt8 := [180, 0, 17, 28, 7, 96, 46, 4, 159, 0, 7, 4, 167, 0, 4, 3, 5, 182, 0, 153, 153, 0, 5, 3]
abbrev dktX5_refuse_1 : List UInt8 := dkwX5_refuse_1 ++ dktX5_refuse_2
def dkwX5_refuse_0 : List UInt8 := [42, 3, 181, 0, 32, 42, 27, 182, 0, 216, 153, 0, 5, 3, 172, 27, 184, 0, 188, 61, 42, 42]
abbrev dktX5_refuse_0 : List UInt8 := dkwX5_refuse_0 ++ dktX5_refuse_1
theorem dksX5_refuse_0 : cX5_refuse.data.toList.drop 0 = dktX5_refuse_0 := by decide +kernel
theorem dksX5_refuse_1 : cX5_refuse.data.toList.drop 22 = dktX5_refuse_1 := dk_seg dksX5_refuse_0 22 rfl rfl
theorem dksX5_refuse_2 : cX5_refuse.data.toList.drop 46 = dktX5_refuse_2 := dk_seg dksX5_refuse_1 24 rfl rfl
theorem dksX5_refuse_3 : cX5_refuse.data.toList.drop 70 = dktX5_refuse_3 := dk_seg dksX5_refuse_2 24 rfl rfl
theorem dX5_refuse_0 : decode cX5_refuse 0 = .ok (.aload_n 0, 1) := dk_42 (dk_at dksX5_refuse_0 0 rfl rfl)
theorem dX5_refuse_1 : decode cX5_refuse 1 = .ok (.iconst 0, 1) := dk_3 (dk_at dksX5_refuse_0 1 rfl rfl)
theorem dX5_refuse_2 : decode cX5_refuse 2 = .ok (.putfield 32, 3) := dk_181 0 32 (dk_at dksX5_refuse_0 2 rfl rfl)
theorem dX5_refuse_5 : decode cX5_refuse 5 = .ok (.aload_n 0, 1) := dk_42 (dk_at dksX5_refuse_0 5 rfl rfl)
theorem dX5_refuse_6 : decode cX5_refuse 6 = .ok (.iload_n 1, 1) := dk_27 (dk_at dksX5_refuse_0 6 rfl rfl)
theorem dX5_refuse_7 : decode cX5_refuse 7 = .ok (.invokevirtual 216, 3) := dk_182 0 216 (dk_at dksX5_refuse_0 7 rfl rfl)
theorem dX5_refuse_10 : decode cX5_refuse 10 = .ok (.ifCond .eq 5, 3) := dk_153 0 5 (dk_at dksX5_refuse_0 10 rfl rfl)
theorem dX5_refuse_13 : decode cX5_refuse 13 = .ok (.iconst 0, 1) := dk_3 (dk_at dksX5_refuse_0 13 rfl rfl)
theorem dX5_refuse_14 : decode cX5_refuse 14 = .ok (.ireturn, 1) := dk_172 (dk_at dksX5_refuse_0 14 rfl rfl)
theorem dX5_refuse_15 : decode cX5_refuse 15 = .ok (.iload_n 1, 1) := dk_27 (dk_at dksX5_refuse_0 15 rfl rfl)
theorem dX5_refuse_16 : decode cX5_refuse 16 = .ok (.invokestatic 188, 3) := dk_184 0 188 (dk_at dksX5_refuse_0 16 rfl rfl)
theorem dX5_refuse_19 : decode cX5_refuse 19 = .ok (.istore_n 2, 1) := dk_61 (dk_at dksX5_refuse_0 19 rfl rfl)
theorem dX5_refuse_20 : decode cX5_refuse 20 = .ok (.aload_n 0, 1) := dk_42 (dk_at dksX5_refuse_0 20 rfl rfl)
theorem dX5_refuse_21 : decode cX5_refuse 21 = .ok (.aload_n 0, 1) := dk_42 (dk_at dksX5_refuse_0 21 rfl rfl)
theorem dX5_refuse_22 : decode cX5_refuse 22 = .ok (.getfield 17, 3) := dk_180 0 17 (dk_at dksX5_refuse_1 0 rfl rfl)
theorem dX5_refuse_25 : decode cX5_refuse 25 = .ok (.iload_n 2, 1) := dk_28 (dk_at dksX5_refuse_1 3 rfl rfl)
theorem dX5_refuse_26 : decode cX5_refuse 26 = .ok (.iconst 4, 1) := dk_7 (dk_at dksX5_refuse_1 4 rfl rfl)
theorem dX5_refuse_27 : decode cX5_refuse 27 = .ok (.iadd, 1) := dk_96 (dk_at dksX5_refuse_1 5 rfl rfl)
theorem dX5_refuse_28 : decode cX5_refuse 28 = .ok (.iaload, 1) := dk_46 (dk_at dksX5_refuse_1 6 rfl rfl)
theorem dX5_refuse_29 : decode cX5_refuse 29 = .ok (.iconst 1, 1) := dk_4 (dk_at dksX5_refuse_1 7 rfl rfl)
theorem dX5_refuse_30 : decode cX5_refuse 30 = .ok (.if_icmp .eq 7, 3) := dk_159 0 7 (dk_at dksX5_refuse_1 8 rfl rfl)
theorem dX5_refuse_33 : decode cX5_refuse 33 = .ok (.iconst 1, 1) := dk_4 (dk_at dksX5_refuse_1 11 rfl rfl)
theorem dX5_refuse_34 : decode cX5_refuse 34 = .ok (.goto 4, 3) := dk_167 0 4 (dk_at dksX5_refuse_1 12 rfl rfl)
theorem dX5_refuse_37 : decode cX5_refuse 37 = .ok (.iconst 0, 1) := dk_3 (dk_at dksX5_refuse_1 15 rfl rfl)
theorem dX5_refuse_38 : decode cX5_refuse 38 = .ok (.iconst 2, 1) := dk_5 (dk_at dksX5_refuse_1 16 rfl rfl)
theorem dX5_refuse_39 : decode cX5_refuse 39 = .ok (.invokevirtual 153, 3) := dk_182 0 153 (dk_at dksX5_refuse_1 17 rfl rfl)
theorem dX5_refuse_42 : decode cX5_refuse 42 = .ok (.ifCond .eq 5, 3) := dk_153 0 5 (dk_at dksX5_refuse_1 20 rfl rfl)
theorem dX5_refuse_45 : decode cX5_refuse 45 = .ok (.iconst 0, 1) := dk_3 (dk_at dksX5_refuse_1 23 rfl rfl)
theorem dX5_refuse_46 : decode cX5_refuse 46 = .ok (.ireturn, 1) := dk_172 (dk_at dksX5_refuse_2 0 rfl rfl)
theorem dX5_refuse_47 : decode cX5_refuse 47 = .ok (.aload_n 0, 1) := dk_42 (dk_at dksX5_refuse_2 1 rfl rfl)
theorem dX5_refuse_48 : decode cX5_refuse 48 = .ok (.invokevirtual 160, 3) := dk_182 0 160 (dk_at dksX5_refuse_2 2 rfl rfl)
theorem dX5_refuse_51 : decode cX5_refuse 51 = .ok (.aload_n 0, 1) := dk_42 (dk_at dksX5_refuse_2 5 rfl rfl)
theorem dX5_refuse_52 : decode cX5_refuse 52 = .ok (.getfield 17, 3) := dk_180 0 17 (dk_at dksX5_refuse_2 6 rfl rfl)
theorem dX5_refuse_55 : decode cX5_refuse 55 = .ok (.iload_n 2, 1) := dk_28 (dk_at dksX5_refuse_2 9 rfl rfl)
theorem dX5_refuse_56 : decode cX5_refuse 56 = .ok (.iconst 4, 1) := dk_7 (dk_at dksX5_refuse_2 10 rfl rfl)
theorem dX5_refuse_57 : decode cX5_refuse 57 = .ok (.iadd, 1) := dk_96 (dk_at dksX5_refuse_2 11 rfl rfl)
theorem dX5_refuse_58 : decode cX5_refuse 58 = .ok (.iconst 3, 1) := dk_6 (dk_at dksX5_refuse_2 12 rfl rfl)
theorem dX5_refuse_59 : decode cX5_refuse 59 = .ok (.iastore, 1) := dk_79 (dk_at dksX5_refuse_2 13 rfl rfl)
theorem dX5_refuse_60 : decode cX5_refuse 60 = .ok (.aload_n 0, 1) := dk_42 (dk_at dksX5_refuse_2 14 rfl rfl)
theorem dX5_refuse_61 : decode cX5_refuse 61 = .ok (.aload_n 0, 1) := dk_42 (dk_at dksX5_refuse_2 15 rfl rfl)
theorem dX5_refuse_62 : decode cX5_refuse 62 = .ok (.getfield 17, 3) := dk_180 0 17 (dk_at dksX5_refuse_2 16 rfl rfl)
theorem dX5_refuse_65 : decode cX5_refuse 65 = .ok (.iload_n 2, 1) := dk_28 (dk_at dksX5_refuse_2 19 rfl rfl)
theorem dX5_refuse_66 : decode cX5_refuse 66 = .ok (.iaload, 1) := dk_46 (dk_at dksX5_refuse_2 20 rfl rfl)
theorem dX5_refuse_67 : decode cX5_refuse 67 = .ok (.invokevirtual 201, 3) := dk_182 0 201 (dk_at dksX5_refuse_2 21 rfl rfl)
theorem dX5_refuse_70 : decode cX5_refuse 70 = .ok (.ireturn, 1) := dk_172 (dk_at dksX5_refuse_3 0 rfl rfl)
abbrev cX5_transfer : ByteArray := prog_14_method_78_code
def yX5_transfer : MethodName := ⟨RX5, "transfer", "(III)I"⟩
def dkwX5_transfer_12 : List UInt8 := [16, 8, 96, 3, 79, 42, 180, 0, 17, 21, 7, 16, 10, 96, 27, 79, 21, 6, 172]
abbrev dktX5_transfer_12 : List UInt8 := dkwX5_transfer_12 ++ []
def dkwX5_transfer_11 : List UInt8 := [21, 7, 7, 96, 42, 180, 0, 17, 21, 4, 7, 96, 46, 29, 184, 0, 87, 79, 42, 180, 0, 17, 21, 7]
abbrev dktX5_transfer_11 : List UInt8 := dkwX5_transfer_11 ++ dktX5_transfer_12
def dkwX5_transfer_10 : List UInt8 := [42, 180, 0, 17, 21, 7, 5, 96, 3, 79, 42, 180, 0, 17, 21, 7, 6, 96, 29, 79, 42, 180, 0, 17]
abbrev dktX5_transfer_10 : List UInt8 := dkwX5_transfer_10 ++ dktX5_transfer_11
def dkwX5_transfer_9 : List UInt8 := [132, 8, 1, 167, 255, 226, 42, 180, 0, 17, 21, 7, 28, 79, 42, 180, 0, 17, 21, 7, 4, 96, 3, 79]
abbrev dktX5_transfer_9 : List UInt8 := dkwX5_transfer_9 ++ dktX5_transfer_10
def dkwX5_transfer_8 : List UInt8 := [162, 0, 29, 42, 180, 0, 17, 21, 7, 21, 8, 96, 42, 180, 0, 17, 21, 4, 21, 8, 96, 46, 79]
abbrev dktX5_transfer_8 : List UInt8 := dkwX5_transfer_8 ++ dktX5_transfer_9
def dkwX5_transfer_7 : List UInt8 := [184, 0, 126, 54, 7, 42, 180, 0, 17, 3, 92, 46, 4, 96, 79, 3, 54, 8, 21, 8, 16, 11]
abbrev dktX5_transfer_7 : List UInt8 := dkwX5_transfer_7 ++ dktX5_transfer_8
def dkwX5_transfer_6 : List UInt8 := [3, 6, 182, 0, 153, 153, 0, 5, 3, 172, 42, 182, 0, 160, 42, 180, 0, 17, 3, 46, 54, 6, 21, 6]
abbrev dktX5_transfer_6 : List UInt8 := dkwX5_transfer_6 ++ dktX5_transfer_7
def dkwX5_transfer_5 : List UInt8 := [3, 54, 5, 42, 21, 5, 154, 0, 14, 42, 180, 0, 17, 3, 46, 16, 12, 160, 0, 7, 4, 167, 0, 4]
abbrev dktX5_transfer_5 : List UInt8 := dkwX5_transfer_5 ++ dktX5_transfer_6
def dkwX5_transfer_4 : List UInt8 := [180, 0, 17, 21, 4, 16, 7, 96, 46, 154, 0, 15, 42, 27, 182, 0, 198, 153, 0, 7, 4, 167, 0, 4]
abbrev dktX5_transfer_4 : List UInt8 := dkwX5_transfer_4 ++ dktX5_transfer_5
def dkwX5_transfer_3 : List UInt8 := [180, 0, 17, 21, 4, 16, 8, 96, 46, 153, 0, 33, 28, 42, 27, 182, 0, 201, 163, 0, 24, 42]
abbrev dktX5_transfer_3 : List UInt8 := dkwX5_transfer_3 ++ dktX5_transfer_4
def dkwX5_transfer_2 : List UInt8 := [21, 4, 6, 96, 46, 164, 0, 7, 4, 167, 0, 4, 3, 5, 182, 0, 153, 153, 0, 5, 3, 172, 42]
abbrev dktX5_transfer_2 : List UInt8 := dkwX5_transfer_2 ++ dktX5_transfer_3
def dkwX5_transfer_1 : List UInt8 := [18, 129, 184, 0, 54, 153, 0, 27, 29, 3, 17, 3, 231, 184, 0, 54, 153, 0, 16, 29, 42, 180, 0, 17]
abbrev dktX5_transfer_1 : List UInt8 := dkwX5_transfer_1 ++ dktX5_transfer_2
def dkwX5_transfer_0 : List UInt8 := [42, 3, 181, 0, 32, 42, 27, 182, 0, 179, 153, 0, 5, 3, 172, 27, 184, 0, 126, 54, 4, 42, 28, 4]
abbrev dktX5_transfer_0 : List UInt8 := dkwX5_transfer_0 ++ dktX5_transfer_1
theorem dksX5_transfer_0 : cX5_transfer.data.toList.drop 0 = dktX5_transfer_0 := by decide +kernel
theorem dksX5_transfer_1 : cX5_transfer.data.toList.drop 24 = dktX5_transfer_1 := dk_seg dksX5_transfer_0 24 rfl rfl
theorem dksX5_transfer_2 : cX5_transfer.data.toList.drop 48 = dktX5_transfer_2 := dk_seg dksX5_transfer_1 24 rfl rfl
theorem dksX5_transfer_3 : cX5_transfer.data.toList.drop 71 = dktX5_transfer_3 := dk_seg dksX5_transfer_2 23 rfl rfl
theorem dksX5_transfer_4 : cX5_transfer.data.toList.drop 93 = dktX5_transfer_4 := dk_seg dksX5_transfer_3 22 rfl rfl
theorem dksX5_transfer_5 : cX5_transfer.data.toList.drop 117 = dktX5_transfer_5 := dk_seg dksX5_transfer_4 24 rfl rfl
theorem dksX5_transfer_6 : cX5_transfer.data.toList.drop 141 = dktX5_transfer_6 := dk_seg dksX5_transfer_5 24 rfl rfl
theorem dksX5_transfer_7 : cX5_transfer.data.toList.drop 165 = dktX5_transfer_7 := dk_seg dksX5_transfer_6 24 rfl rfl
theorem dksX5_transfer_8 : cX5_transfer.data.toList.drop 187 = dktX5_transfer_8 := dk_seg dksX5_transfer_7 22 rfl rfl
theorem dksX5_transfer_9 : cX5_transfer.data.toList.drop 210 = dktX5_transfer_9 := dk_seg dksX5_transfer_8 23 rfl rfl
theorem dksX5_transfer_10 : cX5_transfer.data.toList.drop 234 = dktX5_transfer_10 := dk_seg dksX5_transfer_9 24 rfl rfl
theorem dksX5_transfer_11 : cX5_transfer.data.toList.drop 258 = dktX5_transfer_11 := dk_seg dksX5_transfer_10 24 rfl rfl
theorem dksX5_transfer_12 : cX5_transfer.data.toList.drop 282 = dktX5_transfer_12 := dk_seg dksX5_transfer_11 24 rfl rfl
theorem dX5_transfer_0 : decode cX5_transfer 0 = .ok (.aload_n 0, 1) := dk_42 (dk_at dksX5_transfer_0 0 rfl rfl)
theorem dX5_transfer_1 : decode cX5_transfer 1 = .ok (.iconst 0, 1) := dk_3 (dk_at dksX5_transfer_0 1 rfl rfl)
theorem dX5_transfer_2 : decode cX5_transfer 2 = .ok (.putfield 32, 3) := dk_181 0 32 (dk_at dksX5_transfer_0 2 rfl rfl)
theorem dX5_transfer_5 : decode cX5_transfer 5 = .ok (.aload_n 0, 1) := dk_42 (dk_at dksX5_transfer_0 5 rfl rfl)
theorem dX5_transfer_6 : decode cX5_transfer 6 = .ok (.iload_n 1, 1) := dk_27 (dk_at dksX5_transfer_0 6 rfl rfl)
theorem dX5_transfer_7 : decode cX5_transfer 7 = .ok (.invokevirtual 179, 3) := dk_182 0 179 (dk_at dksX5_transfer_0 7 rfl rfl)
theorem dX5_transfer_10 : decode cX5_transfer 10 = .ok (.ifCond .eq 5, 3) := dk_153 0 5 (dk_at dksX5_transfer_0 10 rfl rfl)
theorem dX5_transfer_13 : decode cX5_transfer 13 = .ok (.iconst 0, 1) := dk_3 (dk_at dksX5_transfer_0 13 rfl rfl)
theorem dX5_transfer_14 : decode cX5_transfer 14 = .ok (.ireturn, 1) := dk_172 (dk_at dksX5_transfer_0 14 rfl rfl)
theorem dX5_transfer_15 : decode cX5_transfer 15 = .ok (.iload_n 1, 1) := dk_27 (dk_at dksX5_transfer_0 15 rfl rfl)
theorem dX5_transfer_16 : decode cX5_transfer 16 = .ok (.invokestatic 126, 3) := dk_184 0 126 (dk_at dksX5_transfer_0 16 rfl rfl)
theorem dX5_transfer_19 : decode cX5_transfer 19 = .ok (.istore 4, 2) := dk_54 4 (dk_at dksX5_transfer_0 19 rfl rfl)
theorem dX5_transfer_21 : decode cX5_transfer 21 = .ok (.aload_n 0, 1) := dk_42 (dk_at dksX5_transfer_0 21 rfl rfl)
theorem dX5_transfer_22 : decode cX5_transfer 22 = .ok (.iload_n 2, 1) := dk_28 (dk_at dksX5_transfer_0 22 rfl rfl)
theorem dX5_transfer_23 : decode cX5_transfer 23 = .ok (.iconst 1, 1) := dk_4 (dk_at dksX5_transfer_0 23 rfl rfl)
theorem dX5_transfer_24 : decode cX5_transfer 24 = .ok (.ldc 129, 2) := dk_18 129 (dk_at dksX5_transfer_1 0 rfl rfl)
theorem dX5_transfer_26 : decode cX5_transfer 26 = .ok (.invokestatic 54, 3) := dk_184 0 54 (dk_at dksX5_transfer_1 2 rfl rfl)
theorem dX5_transfer_29 : decode cX5_transfer 29 = .ok (.ifCond .eq 27, 3) := dk_153 0 27 (dk_at dksX5_transfer_1 5 rfl rfl)
theorem dX5_transfer_32 : decode cX5_transfer 32 = .ok (.iload_n 3, 1) := dk_29 (dk_at dksX5_transfer_1 8 rfl rfl)
theorem dX5_transfer_33 : decode cX5_transfer 33 = .ok (.iconst 0, 1) := dk_3 (dk_at dksX5_transfer_1 9 rfl rfl)
theorem dX5_transfer_34 : decode cX5_transfer 34 = .ok (.sipush 999, 3) := dk_17 3 231 (dk_at dksX5_transfer_1 10 rfl rfl)
theorem dX5_transfer_37 : decode cX5_transfer 37 = .ok (.invokestatic 54, 3) := dk_184 0 54 (dk_at dksX5_transfer_1 13 rfl rfl)
theorem dX5_transfer_40 : decode cX5_transfer 40 = .ok (.ifCond .eq 16, 3) := dk_153 0 16 (dk_at dksX5_transfer_1 16 rfl rfl)
theorem dX5_transfer_43 : decode cX5_transfer 43 = .ok (.iload_n 3, 1) := dk_29 (dk_at dksX5_transfer_1 19 rfl rfl)
theorem dX5_transfer_44 : decode cX5_transfer 44 = .ok (.aload_n 0, 1) := dk_42 (dk_at dksX5_transfer_1 20 rfl rfl)
theorem dX5_transfer_45 : decode cX5_transfer 45 = .ok (.getfield 17, 3) := dk_180 0 17 (dk_at dksX5_transfer_1 21 rfl rfl)
theorem dX5_transfer_48 : decode cX5_transfer 48 = .ok (.iload 4, 2) := dk_21 4 (dk_at dksX5_transfer_2 0 rfl rfl)
theorem dX5_transfer_50 : decode cX5_transfer 50 = .ok (.iconst 3, 1) := dk_6 (dk_at dksX5_transfer_2 2 rfl rfl)
theorem dX5_transfer_51 : decode cX5_transfer 51 = .ok (.iadd, 1) := dk_96 (dk_at dksX5_transfer_2 3 rfl rfl)
theorem dX5_transfer_52 : decode cX5_transfer 52 = .ok (.iaload, 1) := dk_46 (dk_at dksX5_transfer_2 4 rfl rfl)
theorem dX5_transfer_53 : decode cX5_transfer 53 = .ok (.if_icmp .le 7, 3) := dk_164 0 7 (dk_at dksX5_transfer_2 5 rfl rfl)
theorem dX5_transfer_56 : decode cX5_transfer 56 = .ok (.iconst 1, 1) := dk_4 (dk_at dksX5_transfer_2 8 rfl rfl)
theorem dX5_transfer_57 : decode cX5_transfer 57 = .ok (.goto 4, 3) := dk_167 0 4 (dk_at dksX5_transfer_2 9 rfl rfl)
theorem dX5_transfer_60 : decode cX5_transfer 60 = .ok (.iconst 0, 1) := dk_3 (dk_at dksX5_transfer_2 12 rfl rfl)
theorem dX5_transfer_61 : decode cX5_transfer 61 = .ok (.iconst 2, 1) := dk_5 (dk_at dksX5_transfer_2 13 rfl rfl)
theorem dX5_transfer_62 : decode cX5_transfer 62 = .ok (.invokevirtual 153, 3) := dk_182 0 153 (dk_at dksX5_transfer_2 14 rfl rfl)
theorem dX5_transfer_65 : decode cX5_transfer 65 = .ok (.ifCond .eq 5, 3) := dk_153 0 5 (dk_at dksX5_transfer_2 17 rfl rfl)
theorem dX5_transfer_68 : decode cX5_transfer 68 = .ok (.iconst 0, 1) := dk_3 (dk_at dksX5_transfer_2 20 rfl rfl)
theorem dX5_transfer_69 : decode cX5_transfer 69 = .ok (.ireturn, 1) := dk_172 (dk_at dksX5_transfer_2 21 rfl rfl)
theorem dX5_transfer_70 : decode cX5_transfer 70 = .ok (.aload_n 0, 1) := dk_42 (dk_at dksX5_transfer_2 22 rfl rfl)
theorem dX5_transfer_71 : decode cX5_transfer 71 = .ok (.getfield 17, 3) := dk_180 0 17 (dk_at dksX5_transfer_3 0 rfl rfl)
theorem dX5_transfer_74 : decode cX5_transfer 74 = .ok (.iload 4, 2) := dk_21 4 (dk_at dksX5_transfer_3 3 rfl rfl)
theorem dX5_transfer_76 : decode cX5_transfer 76 = .ok (.bipush 8, 2) := dk_16 8 (dk_at dksX5_transfer_3 5 rfl rfl)
theorem dX5_transfer_78 : decode cX5_transfer 78 = .ok (.iadd, 1) := dk_96 (dk_at dksX5_transfer_3 7 rfl rfl)
theorem dX5_transfer_79 : decode cX5_transfer 79 = .ok (.iaload, 1) := dk_46 (dk_at dksX5_transfer_3 8 rfl rfl)
theorem dX5_transfer_80 : decode cX5_transfer 80 = .ok (.ifCond .eq 33, 3) := dk_153 0 33 (dk_at dksX5_transfer_3 9 rfl rfl)
theorem dX5_transfer_83 : decode cX5_transfer 83 = .ok (.iload_n 2, 1) := dk_28 (dk_at dksX5_transfer_3 12 rfl rfl)
theorem dX5_transfer_84 : decode cX5_transfer 84 = .ok (.aload_n 0, 1) := dk_42 (dk_at dksX5_transfer_3 13 rfl rfl)
theorem dX5_transfer_85 : decode cX5_transfer 85 = .ok (.iload_n 1, 1) := dk_27 (dk_at dksX5_transfer_3 14 rfl rfl)
theorem dX5_transfer_86 : decode cX5_transfer 86 = .ok (.invokevirtual 201, 3) := dk_182 0 201 (dk_at dksX5_transfer_3 15 rfl rfl)
theorem dX5_transfer_89 : decode cX5_transfer 89 = .ok (.if_icmp .gt 24, 3) := dk_163 0 24 (dk_at dksX5_transfer_3 18 rfl rfl)
theorem dX5_transfer_92 : decode cX5_transfer 92 = .ok (.aload_n 0, 1) := dk_42 (dk_at dksX5_transfer_3 21 rfl rfl)
theorem dX5_transfer_93 : decode cX5_transfer 93 = .ok (.getfield 17, 3) := dk_180 0 17 (dk_at dksX5_transfer_4 0 rfl rfl)
theorem dX5_transfer_96 : decode cX5_transfer 96 = .ok (.iload 4, 2) := dk_21 4 (dk_at dksX5_transfer_4 3 rfl rfl)
theorem dX5_transfer_98 : decode cX5_transfer 98 = .ok (.bipush 7, 2) := dk_16 7 (dk_at dksX5_transfer_4 5 rfl rfl)
theorem dX5_transfer_100 : decode cX5_transfer 100 = .ok (.iadd, 1) := dk_96 (dk_at dksX5_transfer_4 7 rfl rfl)
theorem dX5_transfer_101 : decode cX5_transfer 101 = .ok (.iaload, 1) := dk_46 (dk_at dksX5_transfer_4 8 rfl rfl)
theorem dX5_transfer_102 : decode cX5_transfer 102 = .ok (.ifCond .ne 15, 3) := dk_154 0 15 (dk_at dksX5_transfer_4 9 rfl rfl)
theorem dX5_transfer_105 : decode cX5_transfer 105 = .ok (.aload_n 0, 1) := dk_42 (dk_at dksX5_transfer_4 12 rfl rfl)
theorem dX5_transfer_106 : decode cX5_transfer 106 = .ok (.iload_n 1, 1) := dk_27 (dk_at dksX5_transfer_4 13 rfl rfl)
theorem dX5_transfer_107 : decode cX5_transfer 107 = .ok (.invokevirtual 198, 3) := dk_182 0 198 (dk_at dksX5_transfer_4 14 rfl rfl)
theorem dX5_transfer_110 : decode cX5_transfer 110 = .ok (.ifCond .eq 7, 3) := dk_153 0 7 (dk_at dksX5_transfer_4 17 rfl rfl)
theorem dX5_transfer_113 : decode cX5_transfer 113 = .ok (.iconst 1, 1) := dk_4 (dk_at dksX5_transfer_4 20 rfl rfl)
theorem dX5_transfer_114 : decode cX5_transfer 114 = .ok (.goto 4, 3) := dk_167 0 4 (dk_at dksX5_transfer_4 21 rfl rfl)
theorem dX5_transfer_117 : decode cX5_transfer 117 = .ok (.iconst 0, 1) := dk_3 (dk_at dksX5_transfer_5 0 rfl rfl)
theorem dX5_transfer_118 : decode cX5_transfer 118 = .ok (.istore 5, 2) := dk_54 5 (dk_at dksX5_transfer_5 1 rfl rfl)
theorem dX5_transfer_120 : decode cX5_transfer 120 = .ok (.aload_n 0, 1) := dk_42 (dk_at dksX5_transfer_5 3 rfl rfl)
theorem dX5_transfer_121 : decode cX5_transfer 121 = .ok (.iload 5, 2) := dk_21 5 (dk_at dksX5_transfer_5 4 rfl rfl)
theorem dX5_transfer_123 : decode cX5_transfer 123 = .ok (.ifCond .ne 14, 3) := dk_154 0 14 (dk_at dksX5_transfer_5 6 rfl rfl)
theorem dX5_transfer_126 : decode cX5_transfer 126 = .ok (.aload_n 0, 1) := dk_42 (dk_at dksX5_transfer_5 9 rfl rfl)
theorem dX5_transfer_127 : decode cX5_transfer 127 = .ok (.getfield 17, 3) := dk_180 0 17 (dk_at dksX5_transfer_5 10 rfl rfl)
theorem dX5_transfer_130 : decode cX5_transfer 130 = .ok (.iconst 0, 1) := dk_3 (dk_at dksX5_transfer_5 13 rfl rfl)
theorem dX5_transfer_131 : decode cX5_transfer 131 = .ok (.iaload, 1) := dk_46 (dk_at dksX5_transfer_5 14 rfl rfl)
theorem dX5_transfer_132 : decode cX5_transfer 132 = .ok (.bipush 12, 2) := dk_16 12 (dk_at dksX5_transfer_5 15 rfl rfl)
theorem dX5_transfer_134 : decode cX5_transfer 134 = .ok (.if_icmp .ne 7, 3) := dk_160 0 7 (dk_at dksX5_transfer_5 17 rfl rfl)
theorem dX5_transfer_137 : decode cX5_transfer 137 = .ok (.iconst 1, 1) := dk_4 (dk_at dksX5_transfer_5 20 rfl rfl)
theorem dX5_transfer_138 : decode cX5_transfer 138 = .ok (.goto 4, 3) := dk_167 0 4 (dk_at dksX5_transfer_5 21 rfl rfl)
theorem dX5_transfer_141 : decode cX5_transfer 141 = .ok (.iconst 0, 1) := dk_3 (dk_at dksX5_transfer_6 0 rfl rfl)
theorem dX5_transfer_142 : decode cX5_transfer 142 = .ok (.iconst 3, 1) := dk_6 (dk_at dksX5_transfer_6 1 rfl rfl)
theorem dX5_transfer_143 : decode cX5_transfer 143 = .ok (.invokevirtual 153, 3) := dk_182 0 153 (dk_at dksX5_transfer_6 2 rfl rfl)
theorem dX5_transfer_146 : decode cX5_transfer 146 = .ok (.ifCond .eq 5, 3) := dk_153 0 5 (dk_at dksX5_transfer_6 5 rfl rfl)
theorem dX5_transfer_149 : decode cX5_transfer 149 = .ok (.iconst 0, 1) := dk_3 (dk_at dksX5_transfer_6 8 rfl rfl)
theorem dX5_transfer_150 : decode cX5_transfer 150 = .ok (.ireturn, 1) := dk_172 (dk_at dksX5_transfer_6 9 rfl rfl)
theorem dX5_transfer_151 : decode cX5_transfer 151 = .ok (.aload_n 0, 1) := dk_42 (dk_at dksX5_transfer_6 10 rfl rfl)
theorem dX5_transfer_152 : decode cX5_transfer 152 = .ok (.invokevirtual 160, 3) := dk_182 0 160 (dk_at dksX5_transfer_6 11 rfl rfl)
theorem dX5_transfer_155 : decode cX5_transfer 155 = .ok (.aload_n 0, 1) := dk_42 (dk_at dksX5_transfer_6 14 rfl rfl)
theorem dX5_transfer_156 : decode cX5_transfer 156 = .ok (.getfield 17, 3) := dk_180 0 17 (dk_at dksX5_transfer_6 15 rfl rfl)
theorem dX5_transfer_159 : decode cX5_transfer 159 = .ok (.iconst 0, 1) := dk_3 (dk_at dksX5_transfer_6 18 rfl rfl)
theorem dX5_transfer_160 : decode cX5_transfer 160 = .ok (.iaload, 1) := dk_46 (dk_at dksX5_transfer_6 19 rfl rfl)
theorem dX5_transfer_161 : decode cX5_transfer 161 = .ok (.istore 6, 2) := dk_54 6 (dk_at dksX5_transfer_6 20 rfl rfl)
theorem dX5_transfer_163 : decode cX5_transfer 163 = .ok (.iload 6, 2) := dk_21 6 (dk_at dksX5_transfer_6 22 rfl rfl)
theorem dX5_transfer_165 : decode cX5_transfer 165 = .ok (.invokestatic 126, 3) := dk_184 0 126 (dk_at dksX5_transfer_7 0 rfl rfl)
theorem dX5_transfer_168 : decode cX5_transfer 168 = .ok (.istore 7, 2) := dk_54 7 (dk_at dksX5_transfer_7 3 rfl rfl)
theorem dX5_transfer_170 : decode cX5_transfer 170 = .ok (.aload_n 0, 1) := dk_42 (dk_at dksX5_transfer_7 5 rfl rfl)
theorem dX5_transfer_171 : decode cX5_transfer 171 = .ok (.getfield 17, 3) := dk_180 0 17 (dk_at dksX5_transfer_7 6 rfl rfl)
theorem dX5_transfer_174 : decode cX5_transfer 174 = .ok (.iconst 0, 1) := dk_3 (dk_at dksX5_transfer_7 9 rfl rfl)
theorem dX5_transfer_175 : decode cX5_transfer 175 = .ok (.dup2, 1) := dk_92 (dk_at dksX5_transfer_7 10 rfl rfl)
theorem dX5_transfer_176 : decode cX5_transfer 176 = .ok (.iaload, 1) := dk_46 (dk_at dksX5_transfer_7 11 rfl rfl)
theorem dX5_transfer_177 : decode cX5_transfer 177 = .ok (.iconst 1, 1) := dk_4 (dk_at dksX5_transfer_7 12 rfl rfl)
theorem dX5_transfer_178 : decode cX5_transfer 178 = .ok (.iadd, 1) := dk_96 (dk_at dksX5_transfer_7 13 rfl rfl)
theorem dX5_transfer_179 : decode cX5_transfer 179 = .ok (.iastore, 1) := dk_79 (dk_at dksX5_transfer_7 14 rfl rfl)
theorem dX5_transfer_180 : decode cX5_transfer 180 = .ok (.iconst 0, 1) := dk_3 (dk_at dksX5_transfer_7 15 rfl rfl)
theorem dX5_transfer_181 : decode cX5_transfer 181 = .ok (.istore 8, 2) := dk_54 8 (dk_at dksX5_transfer_7 16 rfl rfl)
theorem dX5_transfer_183 : decode cX5_transfer 183 = .ok (.iload 8, 2) := dk_21 8 (dk_at dksX5_transfer_7 18 rfl rfl)
theorem dX5_transfer_185 : decode cX5_transfer 185 = .ok (.bipush 11, 2) := dk_16 11 (dk_at dksX5_transfer_7 20 rfl rfl)
theorem dX5_transfer_187 : decode cX5_transfer 187 = .ok (.if_icmp .ge 29, 3) := dk_162 0 29 (dk_at dksX5_transfer_8 0 rfl rfl)
theorem dX5_transfer_190 : decode cX5_transfer 190 = .ok (.aload_n 0, 1) := dk_42 (dk_at dksX5_transfer_8 3 rfl rfl)
theorem dX5_transfer_191 : decode cX5_transfer 191 = .ok (.getfield 17, 3) := dk_180 0 17 (dk_at dksX5_transfer_8 4 rfl rfl)
theorem dX5_transfer_194 : decode cX5_transfer 194 = .ok (.iload 7, 2) := dk_21 7 (dk_at dksX5_transfer_8 7 rfl rfl)
theorem dX5_transfer_196 : decode cX5_transfer 196 = .ok (.iload 8, 2) := dk_21 8 (dk_at dksX5_transfer_8 9 rfl rfl)
theorem dX5_transfer_198 : decode cX5_transfer 198 = .ok (.iadd, 1) := dk_96 (dk_at dksX5_transfer_8 11 rfl rfl)
theorem dX5_transfer_199 : decode cX5_transfer 199 = .ok (.aload_n 0, 1) := dk_42 (dk_at dksX5_transfer_8 12 rfl rfl)
theorem dX5_transfer_200 : decode cX5_transfer 200 = .ok (.getfield 17, 3) := dk_180 0 17 (dk_at dksX5_transfer_8 13 rfl rfl)
theorem dX5_transfer_203 : decode cX5_transfer 203 = .ok (.iload 4, 2) := dk_21 4 (dk_at dksX5_transfer_8 16 rfl rfl)
theorem dX5_transfer_205 : decode cX5_transfer 205 = .ok (.iload 8, 2) := dk_21 8 (dk_at dksX5_transfer_8 18 rfl rfl)
theorem dX5_transfer_207 : decode cX5_transfer 207 = .ok (.iadd, 1) := dk_96 (dk_at dksX5_transfer_8 20 rfl rfl)
theorem dX5_transfer_208 : decode cX5_transfer 208 = .ok (.iaload, 1) := dk_46 (dk_at dksX5_transfer_8 21 rfl rfl)
theorem dX5_transfer_209 : decode cX5_transfer 209 = .ok (.iastore, 1) := dk_79 (dk_at dksX5_transfer_8 22 rfl rfl)
theorem dX5_transfer_210 : decode cX5_transfer 210 = .ok (.iinc 8 1, 3) := dk_132 8 1 (dk_at dksX5_transfer_9 0 rfl rfl)
theorem dX5_transfer_213 : decode cX5_transfer 213 = .ok (.goto (-30), 3) := dk_167 255 226 (dk_at dksX5_transfer_9 3 rfl rfl)
theorem dX5_transfer_216 : decode cX5_transfer 216 = .ok (.aload_n 0, 1) := dk_42 (dk_at dksX5_transfer_9 6 rfl rfl)
theorem dX5_transfer_217 : decode cX5_transfer 217 = .ok (.getfield 17, 3) := dk_180 0 17 (dk_at dksX5_transfer_9 7 rfl rfl)
theorem dX5_transfer_220 : decode cX5_transfer 220 = .ok (.iload 7, 2) := dk_21 7 (dk_at dksX5_transfer_9 10 rfl rfl)
theorem dX5_transfer_222 : decode cX5_transfer 222 = .ok (.iload_n 2, 1) := dk_28 (dk_at dksX5_transfer_9 12 rfl rfl)
theorem dX5_transfer_223 : decode cX5_transfer 223 = .ok (.iastore, 1) := dk_79 (dk_at dksX5_transfer_9 13 rfl rfl)
theorem dX5_transfer_224 : decode cX5_transfer 224 = .ok (.aload_n 0, 1) := dk_42 (dk_at dksX5_transfer_9 14 rfl rfl)
theorem dX5_transfer_225 : decode cX5_transfer 225 = .ok (.getfield 17, 3) := dk_180 0 17 (dk_at dksX5_transfer_9 15 rfl rfl)
theorem dX5_transfer_228 : decode cX5_transfer 228 = .ok (.iload 7, 2) := dk_21 7 (dk_at dksX5_transfer_9 18 rfl rfl)
theorem dX5_transfer_230 : decode cX5_transfer 230 = .ok (.iconst 1, 1) := dk_4 (dk_at dksX5_transfer_9 20 rfl rfl)
theorem dX5_transfer_231 : decode cX5_transfer 231 = .ok (.iadd, 1) := dk_96 (dk_at dksX5_transfer_9 21 rfl rfl)
theorem dX5_transfer_232 : decode cX5_transfer 232 = .ok (.iconst 0, 1) := dk_3 (dk_at dksX5_transfer_9 22 rfl rfl)
theorem dX5_transfer_233 : decode cX5_transfer 233 = .ok (.iastore, 1) := dk_79 (dk_at dksX5_transfer_9 23 rfl rfl)
theorem dX5_transfer_234 : decode cX5_transfer 234 = .ok (.aload_n 0, 1) := dk_42 (dk_at dksX5_transfer_10 0 rfl rfl)
theorem dX5_transfer_235 : decode cX5_transfer 235 = .ok (.getfield 17, 3) := dk_180 0 17 (dk_at dksX5_transfer_10 1 rfl rfl)
theorem dX5_transfer_238 : decode cX5_transfer 238 = .ok (.iload 7, 2) := dk_21 7 (dk_at dksX5_transfer_10 4 rfl rfl)
theorem dX5_transfer_240 : decode cX5_transfer 240 = .ok (.iconst 2, 1) := dk_5 (dk_at dksX5_transfer_10 6 rfl rfl)
theorem dX5_transfer_241 : decode cX5_transfer 241 = .ok (.iadd, 1) := dk_96 (dk_at dksX5_transfer_10 7 rfl rfl)
theorem dX5_transfer_242 : decode cX5_transfer 242 = .ok (.iconst 0, 1) := dk_3 (dk_at dksX5_transfer_10 8 rfl rfl)
theorem dX5_transfer_243 : decode cX5_transfer 243 = .ok (.iastore, 1) := dk_79 (dk_at dksX5_transfer_10 9 rfl rfl)
theorem dX5_transfer_244 : decode cX5_transfer 244 = .ok (.aload_n 0, 1) := dk_42 (dk_at dksX5_transfer_10 10 rfl rfl)
theorem dX5_transfer_245 : decode cX5_transfer 245 = .ok (.getfield 17, 3) := dk_180 0 17 (dk_at dksX5_transfer_10 11 rfl rfl)
theorem dX5_transfer_248 : decode cX5_transfer 248 = .ok (.iload 7, 2) := dk_21 7 (dk_at dksX5_transfer_10 14 rfl rfl)
theorem dX5_transfer_250 : decode cX5_transfer 250 = .ok (.iconst 3, 1) := dk_6 (dk_at dksX5_transfer_10 16 rfl rfl)
theorem dX5_transfer_251 : decode cX5_transfer 251 = .ok (.iadd, 1) := dk_96 (dk_at dksX5_transfer_10 17 rfl rfl)
theorem dX5_transfer_252 : decode cX5_transfer 252 = .ok (.iload_n 3, 1) := dk_29 (dk_at dksX5_transfer_10 18 rfl rfl)
theorem dX5_transfer_253 : decode cX5_transfer 253 = .ok (.iastore, 1) := dk_79 (dk_at dksX5_transfer_10 19 rfl rfl)
theorem dX5_transfer_254 : decode cX5_transfer 254 = .ok (.aload_n 0, 1) := dk_42 (dk_at dksX5_transfer_10 20 rfl rfl)
theorem dX5_transfer_255 : decode cX5_transfer 255 = .ok (.getfield 17, 3) := dk_180 0 17 (dk_at dksX5_transfer_10 21 rfl rfl)
theorem dX5_transfer_258 : decode cX5_transfer 258 = .ok (.iload 7, 2) := dk_21 7 (dk_at dksX5_transfer_11 0 rfl rfl)
theorem dX5_transfer_260 : decode cX5_transfer 260 = .ok (.iconst 4, 1) := dk_7 (dk_at dksX5_transfer_11 2 rfl rfl)
theorem dX5_transfer_261 : decode cX5_transfer 261 = .ok (.iadd, 1) := dk_96 (dk_at dksX5_transfer_11 3 rfl rfl)
theorem dX5_transfer_262 : decode cX5_transfer 262 = .ok (.aload_n 0, 1) := dk_42 (dk_at dksX5_transfer_11 4 rfl rfl)
theorem dX5_transfer_263 : decode cX5_transfer 263 = .ok (.getfield 17, 3) := dk_180 0 17 (dk_at dksX5_transfer_11 5 rfl rfl)
theorem dX5_transfer_266 : decode cX5_transfer 266 = .ok (.iload 4, 2) := dk_21 4 (dk_at dksX5_transfer_11 8 rfl rfl)
theorem dX5_transfer_268 : decode cX5_transfer 268 = .ok (.iconst 4, 1) := dk_7 (dk_at dksX5_transfer_11 10 rfl rfl)
theorem dX5_transfer_269 : decode cX5_transfer 269 = .ok (.iadd, 1) := dk_96 (dk_at dksX5_transfer_11 11 rfl rfl)
theorem dX5_transfer_270 : decode cX5_transfer 270 = .ok (.iaload, 1) := dk_46 (dk_at dksX5_transfer_11 12 rfl rfl)
theorem dX5_transfer_271 : decode cX5_transfer 271 = .ok (.iload_n 3, 1) := dk_29 (dk_at dksX5_transfer_11 13 rfl rfl)
theorem dX5_transfer_272 : decode cX5_transfer 272 = .ok (.invokestatic 87, 3) := dk_184 0 87 (dk_at dksX5_transfer_11 14 rfl rfl)
theorem dX5_transfer_275 : decode cX5_transfer 275 = .ok (.iastore, 1) := dk_79 (dk_at dksX5_transfer_11 17 rfl rfl)
theorem dX5_transfer_276 : decode cX5_transfer 276 = .ok (.aload_n 0, 1) := dk_42 (dk_at dksX5_transfer_11 18 rfl rfl)
theorem dX5_transfer_277 : decode cX5_transfer 277 = .ok (.getfield 17, 3) := dk_180 0 17 (dk_at dksX5_transfer_11 19 rfl rfl)
theorem dX5_transfer_280 : decode cX5_transfer 280 = .ok (.iload 7, 2) := dk_21 7 (dk_at dksX5_transfer_11 22 rfl rfl)
theorem dX5_transfer_282 : decode cX5_transfer 282 = .ok (.bipush 8, 2) := dk_16 8 (dk_at dksX5_transfer_12 0 rfl rfl)
theorem dX5_transfer_284 : decode cX5_transfer 284 = .ok (.iadd, 1) := dk_96 (dk_at dksX5_transfer_12 2 rfl rfl)
theorem dX5_transfer_285 : decode cX5_transfer 285 = .ok (.iconst 0, 1) := dk_3 (dk_at dksX5_transfer_12 3 rfl rfl)
theorem dX5_transfer_286 : decode cX5_transfer 286 = .ok (.iastore, 1) := dk_79 (dk_at dksX5_transfer_12 4 rfl rfl)
theorem dX5_transfer_287 : decode cX5_transfer 287 = .ok (.aload_n 0, 1) := dk_42 (dk_at dksX5_transfer_12 5 rfl rfl)
theorem dX5_transfer_288 : decode cX5_transfer 288 = .ok (.getfield 17, 3) := dk_180 0 17 (dk_at dksX5_transfer_12 6 rfl rfl)
theorem dX5_transfer_291 : decode cX5_transfer 291 = .ok (.iload 7, 2) := dk_21 7 (dk_at dksX5_transfer_12 9 rfl rfl)
theorem dX5_transfer_293 : decode cX5_transfer 293 = .ok (.bipush 10, 2) := dk_16 10 (dk_at dksX5_transfer_12 11 rfl rfl)
theorem dX5_transfer_295 : decode cX5_transfer 295 = .ok (.iadd, 1) := dk_96 (dk_at dksX5_transfer_12 13 rfl rfl)
theorem dX5_transfer_296 : decode cX5_transfer 296 = .ok (.iload_n 1, 1) := dk_27 (dk_at dksX5_transfer_12 14 rfl rfl)
theorem dX5_transfer_297 : decode cX5_transfer 297 = .ok (.iastore, 1) := dk_79 (dk_at dksX5_transfer_12 15 rfl rfl)
theorem dX5_transfer_298 : decode cX5_transfer 298 = .ok (.iload 6, 2) := dk_21 6 (dk_at dksX5_transfer_12 16 rfl rfl)
theorem dX5_transfer_300 : decode cX5_transfer 300 = .ok (.ireturn, 1) := dk_172 (dk_at dksX5_transfer_12 18 rfl rfl)
abbrev cX5_pass : ByteArray := prog_14_method_79_code
def yX5_pass : MethodName := ⟨RX5, "pass", "(I)I"⟩
def dkwX5_pass_3 : List UInt8 := [27, 96, 79, 42, 180, 0, 17, 6, 46, 172]
abbrev dktX5_pass_3 : List UInt8 := dkwX5_pass_3 ++ []
def dkwX5_pass_2 : List UInt8 := [167, 0, 4, 3, 5, 182, 0, 153, 153, 0, 5, 3, 172, 42, 182, 0, 160, 42, 180, 0, 17, 6, 92, 46]
abbrev dktX5_pass_2 : List UInt8 := dkwX5_pass_2 ++ dktX5_pass_3
def dkwX5_pass_1 : List UInt8 := [182, 0, 153, 154, 0, 30, 42, 42, 180, 0, 17, 6, 46, 27, 96, 17, 35, 40, 164, 0, 7, 4]
abbrev dktX5_pass_1 : List UInt8 := dkwX5_pass_1 ++ dktX5_pass_2
def dkwX5_pass_0 : List UInt8 := [42, 3, 181, 0, 32, 42, 27, 4, 17, 1, 109, 184, 0, 54, 154, 0, 7, 4, 167, 0, 4, 3, 4]
abbrev dktX5_pass_0 : List UInt8 := dkwX5_pass_0 ++ dktX5_pass_1
theorem dksX5_pass_0 : cX5_pass.data.toList.drop 0 = dktX5_pass_0 := by decide +kernel
theorem dksX5_pass_1 : cX5_pass.data.toList.drop 23 = dktX5_pass_1 := dk_seg dksX5_pass_0 23 rfl rfl
theorem dksX5_pass_2 : cX5_pass.data.toList.drop 45 = dktX5_pass_2 := dk_seg dksX5_pass_1 22 rfl rfl
theorem dksX5_pass_3 : cX5_pass.data.toList.drop 69 = dktX5_pass_3 := dk_seg dksX5_pass_2 24 rfl rfl
theorem dX5_pass_0 : decode cX5_pass 0 = .ok (.aload_n 0, 1) := dk_42 (dk_at dksX5_pass_0 0 rfl rfl)
theorem dX5_pass_1 : decode cX5_pass 1 = .ok (.iconst 0, 1) := dk_3 (dk_at dksX5_pass_0 1 rfl rfl)
theorem dX5_pass_2 : decode cX5_pass 2 = .ok (.putfield 32, 3) := dk_181 0 32 (dk_at dksX5_pass_0 2 rfl rfl)
theorem dX5_pass_5 : decode cX5_pass 5 = .ok (.aload_n 0, 1) := dk_42 (dk_at dksX5_pass_0 5 rfl rfl)
theorem dX5_pass_6 : decode cX5_pass 6 = .ok (.iload_n 1, 1) := dk_27 (dk_at dksX5_pass_0 6 rfl rfl)
theorem dX5_pass_7 : decode cX5_pass 7 = .ok (.iconst 1, 1) := dk_4 (dk_at dksX5_pass_0 7 rfl rfl)
theorem dX5_pass_8 : decode cX5_pass 8 = .ok (.sipush 365, 3) := dk_17 1 109 (dk_at dksX5_pass_0 8 rfl rfl)
theorem dX5_pass_11 : decode cX5_pass 11 = .ok (.invokestatic 54, 3) := dk_184 0 54 (dk_at dksX5_pass_0 11 rfl rfl)
theorem dX5_pass_14 : decode cX5_pass 14 = .ok (.ifCond .ne 7, 3) := dk_154 0 7 (dk_at dksX5_pass_0 14 rfl rfl)
theorem dX5_pass_17 : decode cX5_pass 17 = .ok (.iconst 1, 1) := dk_4 (dk_at dksX5_pass_0 17 rfl rfl)
theorem dX5_pass_18 : decode cX5_pass 18 = .ok (.goto 4, 3) := dk_167 0 4 (dk_at dksX5_pass_0 18 rfl rfl)
theorem dX5_pass_21 : decode cX5_pass 21 = .ok (.iconst 0, 1) := dk_3 (dk_at dksX5_pass_0 21 rfl rfl)
theorem dX5_pass_22 : decode cX5_pass 22 = .ok (.iconst 1, 1) := dk_4 (dk_at dksX5_pass_0 22 rfl rfl)
theorem dX5_pass_23 : decode cX5_pass 23 = .ok (.invokevirtual 153, 3) := dk_182 0 153 (dk_at dksX5_pass_1 0 rfl rfl)
theorem dX5_pass_26 : decode cX5_pass 26 = .ok (.ifCond .ne 30, 3) := dk_154 0 30 (dk_at dksX5_pass_1 3 rfl rfl)
theorem dX5_pass_29 : decode cX5_pass 29 = .ok (.aload_n 0, 1) := dk_42 (dk_at dksX5_pass_1 6 rfl rfl)
theorem dX5_pass_30 : decode cX5_pass 30 = .ok (.aload_n 0, 1) := dk_42 (dk_at dksX5_pass_1 7 rfl rfl)
theorem dX5_pass_31 : decode cX5_pass 31 = .ok (.getfield 17, 3) := dk_180 0 17 (dk_at dksX5_pass_1 8 rfl rfl)
theorem dX5_pass_34 : decode cX5_pass 34 = .ok (.iconst 3, 1) := dk_6 (dk_at dksX5_pass_1 11 rfl rfl)
theorem dX5_pass_35 : decode cX5_pass 35 = .ok (.iaload, 1) := dk_46 (dk_at dksX5_pass_1 12 rfl rfl)
theorem dX5_pass_36 : decode cX5_pass 36 = .ok (.iload_n 1, 1) := dk_27 (dk_at dksX5_pass_1 13 rfl rfl)
theorem dX5_pass_37 : decode cX5_pass 37 = .ok (.iadd, 1) := dk_96 (dk_at dksX5_pass_1 14 rfl rfl)
theorem dX5_pass_38 : decode cX5_pass 38 = .ok (.sipush 9000, 3) := dk_17 35 40 (dk_at dksX5_pass_1 15 rfl rfl)
theorem dX5_pass_41 : decode cX5_pass 41 = .ok (.if_icmp .le 7, 3) := dk_164 0 7 (dk_at dksX5_pass_1 18 rfl rfl)
theorem dX5_pass_44 : decode cX5_pass 44 = .ok (.iconst 1, 1) := dk_4 (dk_at dksX5_pass_1 21 rfl rfl)
theorem dX5_pass_45 : decode cX5_pass 45 = .ok (.goto 4, 3) := dk_167 0 4 (dk_at dksX5_pass_2 0 rfl rfl)
theorem dX5_pass_48 : decode cX5_pass 48 = .ok (.iconst 0, 1) := dk_3 (dk_at dksX5_pass_2 3 rfl rfl)
theorem dX5_pass_49 : decode cX5_pass 49 = .ok (.iconst 2, 1) := dk_5 (dk_at dksX5_pass_2 4 rfl rfl)
theorem dX5_pass_50 : decode cX5_pass 50 = .ok (.invokevirtual 153, 3) := dk_182 0 153 (dk_at dksX5_pass_2 5 rfl rfl)
theorem dX5_pass_53 : decode cX5_pass 53 = .ok (.ifCond .eq 5, 3) := dk_153 0 5 (dk_at dksX5_pass_2 8 rfl rfl)
theorem dX5_pass_56 : decode cX5_pass 56 = .ok (.iconst 0, 1) := dk_3 (dk_at dksX5_pass_2 11 rfl rfl)
theorem dX5_pass_57 : decode cX5_pass 57 = .ok (.ireturn, 1) := dk_172 (dk_at dksX5_pass_2 12 rfl rfl)
theorem dX5_pass_58 : decode cX5_pass 58 = .ok (.aload_n 0, 1) := dk_42 (dk_at dksX5_pass_2 13 rfl rfl)
theorem dX5_pass_59 : decode cX5_pass 59 = .ok (.invokevirtual 160, 3) := dk_182 0 160 (dk_at dksX5_pass_2 14 rfl rfl)
theorem dX5_pass_62 : decode cX5_pass 62 = .ok (.aload_n 0, 1) := dk_42 (dk_at dksX5_pass_2 17 rfl rfl)
theorem dX5_pass_63 : decode cX5_pass 63 = .ok (.getfield 17, 3) := dk_180 0 17 (dk_at dksX5_pass_2 18 rfl rfl)
theorem dX5_pass_66 : decode cX5_pass 66 = .ok (.iconst 3, 1) := dk_6 (dk_at dksX5_pass_2 21 rfl rfl)
theorem dX5_pass_67 : decode cX5_pass 67 = .ok (.dup2, 1) := dk_92 (dk_at dksX5_pass_2 22 rfl rfl)
theorem dX5_pass_68 : decode cX5_pass 68 = .ok (.iaload, 1) := dk_46 (dk_at dksX5_pass_2 23 rfl rfl)
theorem dX5_pass_69 : decode cX5_pass 69 = .ok (.iload_n 1, 1) := dk_27 (dk_at dksX5_pass_3 0 rfl rfl)
theorem dX5_pass_70 : decode cX5_pass 70 = .ok (.iadd, 1) := dk_96 (dk_at dksX5_pass_3 1 rfl rfl)
theorem dX5_pass_71 : decode cX5_pass 71 = .ok (.iastore, 1) := dk_79 (dk_at dksX5_pass_3 2 rfl rfl)
theorem dX5_pass_72 : decode cX5_pass 72 = .ok (.aload_n 0, 1) := dk_42 (dk_at dksX5_pass_3 3 rfl rfl)
theorem dX5_pass_73 : decode cX5_pass 73 = .ok (.getfield 17, 3) := dk_180 0 17 (dk_at dksX5_pass_3 4 rfl rfl)
theorem dX5_pass_76 : decode cX5_pass 76 = .ok (.iconst 3, 1) := dk_6 (dk_at dksX5_pass_3 7 rfl rfl)
theorem dX5_pass_77 : decode cX5_pass 77 = .ok (.iaload, 1) := dk_46 (dk_at dksX5_pass_3 8 rfl rfl)
theorem dX5_pass_78 : decode cX5_pass 78 = .ok (.ireturn, 1) := dk_172 (dk_at dksX5_pass_3 9 rfl rfl)
abbrev cX5_undo : ByteArray := prog_14_method_80_code
def yX5_undo : MethodName := ⟨RX5, "undo", "()I"⟩
def dkwX5_undo_1 : List UInt8 := [42, 180, 0, 25, 42, 180, 0, 242, 50, 42, 180, 0, 17, 184, 0, 163, 42, 180, 0, 242, 172]
abbrev dktX5_undo_1 : List UInt8 := dkwX5_undo_1 ++ []
def dkwX5_undo_0 : List UInt8 := [42, 3, 181, 0, 32, 42, 180, 0, 242, 154, 0, 5, 2, 172, 42, 89, 180, 0, 242, 4, 100, 181, 0, 242]
abbrev dktX5_undo_0 : List UInt8 := dkwX5_undo_0 ++ dktX5_undo_1
theorem dksX5_undo_0 : cX5_undo.data.toList.drop 0 = dktX5_undo_0 := by decide +kernel
theorem dksX5_undo_1 : cX5_undo.data.toList.drop 24 = dktX5_undo_1 := dk_seg dksX5_undo_0 24 rfl rfl
theorem dX5_undo_0 : decode cX5_undo 0 = .ok (.aload_n 0, 1) := dk_42 (dk_at dksX5_undo_0 0 rfl rfl)
theorem dX5_undo_1 : decode cX5_undo 1 = .ok (.iconst 0, 1) := dk_3 (dk_at dksX5_undo_0 1 rfl rfl)
theorem dX5_undo_2 : decode cX5_undo 2 = .ok (.putfield 32, 3) := dk_181 0 32 (dk_at dksX5_undo_0 2 rfl rfl)
theorem dX5_undo_5 : decode cX5_undo 5 = .ok (.aload_n 0, 1) := dk_42 (dk_at dksX5_undo_0 5 rfl rfl)
theorem dX5_undo_6 : decode cX5_undo 6 = .ok (.getfield 242, 3) := dk_180 0 242 (dk_at dksX5_undo_0 6 rfl rfl)
theorem dX5_undo_9 : decode cX5_undo 9 = .ok (.ifCond .ne 5, 3) := dk_154 0 5 (dk_at dksX5_undo_0 9 rfl rfl)
theorem dX5_undo_12 : decode cX5_undo 12 = .ok (.iconst (-1), 1) := dk_2 (dk_at dksX5_undo_0 12 rfl rfl)
theorem dX5_undo_13 : decode cX5_undo 13 = .ok (.ireturn, 1) := dk_172 (dk_at dksX5_undo_0 13 rfl rfl)
theorem dX5_undo_14 : decode cX5_undo 14 = .ok (.aload_n 0, 1) := dk_42 (dk_at dksX5_undo_0 14 rfl rfl)
theorem dX5_undo_15 : decode cX5_undo 15 = .ok (.dup, 1) := dk_89 (dk_at dksX5_undo_0 15 rfl rfl)
theorem dX5_undo_16 : decode cX5_undo 16 = .ok (.getfield 242, 3) := dk_180 0 242 (dk_at dksX5_undo_0 16 rfl rfl)
theorem dX5_undo_19 : decode cX5_undo 19 = .ok (.iconst 1, 1) := dk_4 (dk_at dksX5_undo_0 19 rfl rfl)
theorem dX5_undo_20 : decode cX5_undo 20 = .ok (.isub, 1) := dk_100 (dk_at dksX5_undo_0 20 rfl rfl)
theorem dX5_undo_21 : decode cX5_undo 21 = .ok (.putfield 242, 3) := dk_181 0 242 (dk_at dksX5_undo_0 21 rfl rfl)
theorem dX5_undo_24 : decode cX5_undo 24 = .ok (.aload_n 0, 1) := dk_42 (dk_at dksX5_undo_1 0 rfl rfl)
theorem dX5_undo_25 : decode cX5_undo 25 = .ok (.getfield 25, 3) := dk_180 0 25 (dk_at dksX5_undo_1 1 rfl rfl)
theorem dX5_undo_28 : decode cX5_undo 28 = .ok (.aload_n 0, 1) := dk_42 (dk_at dksX5_undo_1 4 rfl rfl)
theorem dX5_undo_29 : decode cX5_undo 29 = .ok (.getfield 242, 3) := dk_180 0 242 (dk_at dksX5_undo_1 5 rfl rfl)
theorem dX5_undo_32 : decode cX5_undo 32 = .ok (.aaload, 1) := dk_50 (dk_at dksX5_undo_1 8 rfl rfl)
theorem dX5_undo_33 : decode cX5_undo 33 = .ok (.aload_n 0, 1) := dk_42 (dk_at dksX5_undo_1 9 rfl rfl)
theorem dX5_undo_34 : decode cX5_undo 34 = .ok (.getfield 17, 3) := dk_180 0 17 (dk_at dksX5_undo_1 10 rfl rfl)
theorem dX5_undo_37 : decode cX5_undo 37 = .ok (.invokestatic 163, 3) := dk_184 0 163 (dk_at dksX5_undo_1 13 rfl rfl)
theorem dX5_undo_40 : decode cX5_undo 40 = .ok (.aload_n 0, 1) := dk_42 (dk_at dksX5_undo_1 16 rfl rfl)
theorem dX5_undo_41 : decode cX5_undo 41 = .ok (.getfield 242, 3) := dk_180 0 242 (dk_at dksX5_undo_1 17 rfl rfl)
theorem dX5_undo_44 : decode cX5_undo 44 = .ok (.ireturn, 1) := dk_172 (dk_at dksX5_undo_1 20 rfl rfl)
abbrev cX5_checksum : ByteArray := prog_14_method_81_code
def yX5_checksum : MethodName := ⟨RX5, "checksum", "()J"⟩
def dkwX5_checksum_7 : List UInt8 := [173]
abbrev dktX5_checksum_7 : List UInt8 := dkwX5_checksum_7 ++ []
def dkwX5_checksum_6 : List UInt8 := [46, 133, 97, 64, 20, 0, 248, 31, 105, 42, 29, 182, 0, 222, 133, 97, 64, 132, 3, 1, 167, 255, 175, 31]
abbrev dktX5_checksum_6 : List UInt8 := dkwX5_checksum_6 ++ dktX5_checksum_7
def dkwX5_checksum_5 : List UInt8 := [184, 0, 188, 7, 96, 46, 133, 97, 64, 20, 0, 248, 31, 105, 42, 180, 0, 17, 29, 184, 0, 188, 6, 96]
abbrev dktX5_checksum_5 : List UInt8 := dkwX5_checksum_5 ++ dktX5_checksum_6
def dkwX5_checksum_4 : List UInt8 := [105, 42, 180, 0, 17, 29, 184, 0, 188, 46, 133, 97, 64, 20, 0, 248, 31, 105, 42, 180, 0, 17, 29]
abbrev dktX5_checksum_4 : List UInt8 := dkwX5_checksum_4 ++ dktX5_checksum_5
def dkwX5_checksum_3 : List UInt8 := [97, 64, 132, 3, 1, 167, 255, 197, 3, 62, 29, 42, 180, 0, 17, 4, 46, 162, 0, 77, 20, 0, 248, 31]
abbrev dktX5_checksum_3 : List UInt8 := dkwX5_checksum_3 ++ dktX5_checksum_4
def dkwX5_checksum_2 : List UInt8 := [20, 0, 248, 31, 105, 42, 29, 182, 0, 195, 133, 97, 64, 20, 0, 248, 31, 105, 42, 29, 182, 0, 201, 133]
abbrev dktX5_checksum_2 : List UInt8 := dkwX5_checksum_2 ++ dktX5_checksum_3
def dkwX5_checksum_1 : List UInt8 := [162, 0, 55, 20, 0, 248, 31, 105, 42, 180, 0, 17, 29, 184, 0, 126, 16, 10, 96, 46, 133, 97, 64]
abbrev dktX5_checksum_1 : List UInt8 := dkwX5_checksum_1 ++ dktX5_checksum_2
def dkwX5_checksum_0 : List UInt8 := [42, 3, 181, 0, 32, 42, 180, 0, 17, 6, 46, 133, 64, 3, 62, 29, 42, 180, 0, 17, 3, 46]
abbrev dktX5_checksum_0 : List UInt8 := dkwX5_checksum_0 ++ dktX5_checksum_1
theorem dksX5_checksum_0 : cX5_checksum.data.toList.drop 0 = dktX5_checksum_0 := by decide +kernel
theorem dksX5_checksum_1 : cX5_checksum.data.toList.drop 22 = dktX5_checksum_1 := dk_seg dksX5_checksum_0 22 rfl rfl
theorem dksX5_checksum_2 : cX5_checksum.data.toList.drop 45 = dktX5_checksum_2 := dk_seg dksX5_checksum_1 23 rfl rfl
theorem dksX5_checksum_3 : cX5_checksum.data.toList.drop 69 = dktX5_checksum_3 := dk_seg dksX5_checksum_2 24 rfl rfl
theorem dksX5_checksum_4 : cX5_checksum.data.toList.drop 93 = dktX5_checksum_4 := dk_seg dksX5_checksum_3 24 rfl rfl
theorem dksX5_checksum_5 : cX5_checksum.data.toList.drop 116 = dktX5_checksum_5 := dk_seg dksX5_checksum_4 23 rfl rfl
theorem dksX5_checksum_6 : cX5_checksum.data.toList.drop 140 = dktX5_checksum_6 := dk_seg dksX5_checksum_5 24 rfl rfl
theorem dksX5_checksum_7 : cX5_checksum.data.toList.drop 164 = dktX5_checksum_7 := dk_seg dksX5_checksum_6 24 rfl rfl
theorem dX5_checksum_0 : decode cX5_checksum 0 = .ok (.aload_n 0, 1) := dk_42 (dk_at dksX5_checksum_0 0 rfl rfl)
theorem dX5_checksum_1 : decode cX5_checksum 1 = .ok (.iconst 0, 1) := dk_3 (dk_at dksX5_checksum_0 1 rfl rfl)
theorem dX5_checksum_2 : decode cX5_checksum 2 = .ok (.putfield 32, 3) := dk_181 0 32 (dk_at dksX5_checksum_0 2 rfl rfl)
theorem dX5_checksum_5 : decode cX5_checksum 5 = .ok (.aload_n 0, 1) := dk_42 (dk_at dksX5_checksum_0 5 rfl rfl)
theorem dX5_checksum_6 : decode cX5_checksum 6 = .ok (.getfield 17, 3) := dk_180 0 17 (dk_at dksX5_checksum_0 6 rfl rfl)
theorem dX5_checksum_9 : decode cX5_checksum 9 = .ok (.iconst 3, 1) := dk_6 (dk_at dksX5_checksum_0 9 rfl rfl)
theorem dX5_checksum_10 : decode cX5_checksum 10 = .ok (.iaload, 1) := dk_46 (dk_at dksX5_checksum_0 10 rfl rfl)
theorem dX5_checksum_11 : decode cX5_checksum 11 = .ok (.i2l, 1) := dk_133 (dk_at dksX5_checksum_0 11 rfl rfl)
theorem dX5_checksum_12 : decode cX5_checksum 12 = .ok (.lstore_n 1, 1) := dk_64 (dk_at dksX5_checksum_0 12 rfl rfl)
theorem dX5_checksum_13 : decode cX5_checksum 13 = .ok (.iconst 0, 1) := dk_3 (dk_at dksX5_checksum_0 13 rfl rfl)
theorem dX5_checksum_14 : decode cX5_checksum 14 = .ok (.istore_n 3, 1) := dk_62 (dk_at dksX5_checksum_0 14 rfl rfl)
theorem dX5_checksum_15 : decode cX5_checksum 15 = .ok (.iload_n 3, 1) := dk_29 (dk_at dksX5_checksum_0 15 rfl rfl)
theorem dX5_checksum_16 : decode cX5_checksum 16 = .ok (.aload_n 0, 1) := dk_42 (dk_at dksX5_checksum_0 16 rfl rfl)
theorem dX5_checksum_17 : decode cX5_checksum 17 = .ok (.getfield 17, 3) := dk_180 0 17 (dk_at dksX5_checksum_0 17 rfl rfl)
theorem dX5_checksum_20 : decode cX5_checksum 20 = .ok (.iconst 0, 1) := dk_3 (dk_at dksX5_checksum_0 20 rfl rfl)
theorem dX5_checksum_21 : decode cX5_checksum 21 = .ok (.iaload, 1) := dk_46 (dk_at dksX5_checksum_0 21 rfl rfl)
theorem dX5_checksum_22 : decode cX5_checksum 22 = .ok (.if_icmp .ge 55, 3) := dk_162 0 55 (dk_at dksX5_checksum_1 0 rfl rfl)
theorem dX5_checksum_25 : decode cX5_checksum 25 = .ok (.ldc2_w 248, 3) := dk_20 0 248 (dk_at dksX5_checksum_1 3 rfl rfl)
theorem dX5_checksum_28 : decode cX5_checksum 28 = .ok (.lload_n 1, 1) := dk_31 (dk_at dksX5_checksum_1 6 rfl rfl)
theorem dX5_checksum_29 : decode cX5_checksum 29 = .ok (.lmul, 1) := dk_105 (dk_at dksX5_checksum_1 7 rfl rfl)
theorem dX5_checksum_30 : decode cX5_checksum 30 = .ok (.aload_n 0, 1) := dk_42 (dk_at dksX5_checksum_1 8 rfl rfl)
theorem dX5_checksum_31 : decode cX5_checksum 31 = .ok (.getfield 17, 3) := dk_180 0 17 (dk_at dksX5_checksum_1 9 rfl rfl)
theorem dX5_checksum_34 : decode cX5_checksum 34 = .ok (.iload_n 3, 1) := dk_29 (dk_at dksX5_checksum_1 12 rfl rfl)
theorem dX5_checksum_35 : decode cX5_checksum 35 = .ok (.invokestatic 126, 3) := dk_184 0 126 (dk_at dksX5_checksum_1 13 rfl rfl)
theorem dX5_checksum_38 : decode cX5_checksum 38 = .ok (.bipush 10, 2) := dk_16 10 (dk_at dksX5_checksum_1 16 rfl rfl)
theorem dX5_checksum_40 : decode cX5_checksum 40 = .ok (.iadd, 1) := dk_96 (dk_at dksX5_checksum_1 18 rfl rfl)
theorem dX5_checksum_41 : decode cX5_checksum 41 = .ok (.iaload, 1) := dk_46 (dk_at dksX5_checksum_1 19 rfl rfl)
theorem dX5_checksum_42 : decode cX5_checksum 42 = .ok (.i2l, 1) := dk_133 (dk_at dksX5_checksum_1 20 rfl rfl)
theorem dX5_checksum_43 : decode cX5_checksum 43 = .ok (.ladd, 1) := dk_97 (dk_at dksX5_checksum_1 21 rfl rfl)
theorem dX5_checksum_44 : decode cX5_checksum 44 = .ok (.lstore_n 1, 1) := dk_64 (dk_at dksX5_checksum_1 22 rfl rfl)
theorem dX5_checksum_45 : decode cX5_checksum 45 = .ok (.ldc2_w 248, 3) := dk_20 0 248 (dk_at dksX5_checksum_2 0 rfl rfl)
theorem dX5_checksum_48 : decode cX5_checksum 48 = .ok (.lload_n 1, 1) := dk_31 (dk_at dksX5_checksum_2 3 rfl rfl)
theorem dX5_checksum_49 : decode cX5_checksum 49 = .ok (.lmul, 1) := dk_105 (dk_at dksX5_checksum_2 4 rfl rfl)
theorem dX5_checksum_50 : decode cX5_checksum 50 = .ok (.aload_n 0, 1) := dk_42 (dk_at dksX5_checksum_2 5 rfl rfl)
theorem dX5_checksum_51 : decode cX5_checksum 51 = .ok (.iload_n 3, 1) := dk_29 (dk_at dksX5_checksum_2 6 rfl rfl)
theorem dX5_checksum_52 : decode cX5_checksum 52 = .ok (.invokevirtual 195, 3) := dk_182 0 195 (dk_at dksX5_checksum_2 7 rfl rfl)
theorem dX5_checksum_55 : decode cX5_checksum 55 = .ok (.i2l, 1) := dk_133 (dk_at dksX5_checksum_2 10 rfl rfl)
theorem dX5_checksum_56 : decode cX5_checksum 56 = .ok (.ladd, 1) := dk_97 (dk_at dksX5_checksum_2 11 rfl rfl)
theorem dX5_checksum_57 : decode cX5_checksum 57 = .ok (.lstore_n 1, 1) := dk_64 (dk_at dksX5_checksum_2 12 rfl rfl)
theorem dX5_checksum_58 : decode cX5_checksum 58 = .ok (.ldc2_w 248, 3) := dk_20 0 248 (dk_at dksX5_checksum_2 13 rfl rfl)
theorem dX5_checksum_61 : decode cX5_checksum 61 = .ok (.lload_n 1, 1) := dk_31 (dk_at dksX5_checksum_2 16 rfl rfl)
theorem dX5_checksum_62 : decode cX5_checksum 62 = .ok (.lmul, 1) := dk_105 (dk_at dksX5_checksum_2 17 rfl rfl)
theorem dX5_checksum_63 : decode cX5_checksum 63 = .ok (.aload_n 0, 1) := dk_42 (dk_at dksX5_checksum_2 18 rfl rfl)
theorem dX5_checksum_64 : decode cX5_checksum 64 = .ok (.iload_n 3, 1) := dk_29 (dk_at dksX5_checksum_2 19 rfl rfl)
theorem dX5_checksum_65 : decode cX5_checksum 65 = .ok (.invokevirtual 201, 3) := dk_182 0 201 (dk_at dksX5_checksum_2 20 rfl rfl)
theorem dX5_checksum_68 : decode cX5_checksum 68 = .ok (.i2l, 1) := dk_133 (dk_at dksX5_checksum_2 23 rfl rfl)
theorem dX5_checksum_69 : decode cX5_checksum 69 = .ok (.ladd, 1) := dk_97 (dk_at dksX5_checksum_3 0 rfl rfl)
theorem dX5_checksum_70 : decode cX5_checksum 70 = .ok (.lstore_n 1, 1) := dk_64 (dk_at dksX5_checksum_3 1 rfl rfl)
theorem dX5_checksum_71 : decode cX5_checksum 71 = .ok (.iinc 3 1, 3) := dk_132 3 1 (dk_at dksX5_checksum_3 2 rfl rfl)
theorem dX5_checksum_74 : decode cX5_checksum 74 = .ok (.goto (-59), 3) := dk_167 255 197 (dk_at dksX5_checksum_3 5 rfl rfl)
theorem dX5_checksum_77 : decode cX5_checksum 77 = .ok (.iconst 0, 1) := dk_3 (dk_at dksX5_checksum_3 8 rfl rfl)
theorem dX5_checksum_78 : decode cX5_checksum 78 = .ok (.istore_n 3, 1) := dk_62 (dk_at dksX5_checksum_3 9 rfl rfl)
theorem dX5_checksum_79 : decode cX5_checksum 79 = .ok (.iload_n 3, 1) := dk_29 (dk_at dksX5_checksum_3 10 rfl rfl)
theorem dX5_checksum_80 : decode cX5_checksum 80 = .ok (.aload_n 0, 1) := dk_42 (dk_at dksX5_checksum_3 11 rfl rfl)
theorem dX5_checksum_81 : decode cX5_checksum 81 = .ok (.getfield 17, 3) := dk_180 0 17 (dk_at dksX5_checksum_3 12 rfl rfl)
theorem dX5_checksum_84 : decode cX5_checksum 84 = .ok (.iconst 1, 1) := dk_4 (dk_at dksX5_checksum_3 15 rfl rfl)
theorem dX5_checksum_85 : decode cX5_checksum 85 = .ok (.iaload, 1) := dk_46 (dk_at dksX5_checksum_3 16 rfl rfl)
theorem dX5_checksum_86 : decode cX5_checksum 86 = .ok (.if_icmp .ge 77, 3) := dk_162 0 77 (dk_at dksX5_checksum_3 17 rfl rfl)
theorem dX5_checksum_89 : decode cX5_checksum 89 = .ok (.ldc2_w 248, 3) := dk_20 0 248 (dk_at dksX5_checksum_3 20 rfl rfl)
theorem dX5_checksum_92 : decode cX5_checksum 92 = .ok (.lload_n 1, 1) := dk_31 (dk_at dksX5_checksum_3 23 rfl rfl)
theorem dX5_checksum_93 : decode cX5_checksum 93 = .ok (.lmul, 1) := dk_105 (dk_at dksX5_checksum_4 0 rfl rfl)
theorem dX5_checksum_94 : decode cX5_checksum 94 = .ok (.aload_n 0, 1) := dk_42 (dk_at dksX5_checksum_4 1 rfl rfl)
theorem dX5_checksum_95 : decode cX5_checksum 95 = .ok (.getfield 17, 3) := dk_180 0 17 (dk_at dksX5_checksum_4 2 rfl rfl)
theorem dX5_checksum_98 : decode cX5_checksum 98 = .ok (.iload_n 3, 1) := dk_29 (dk_at dksX5_checksum_4 5 rfl rfl)
theorem dX5_checksum_99 : decode cX5_checksum 99 = .ok (.invokestatic 188, 3) := dk_184 0 188 (dk_at dksX5_checksum_4 6 rfl rfl)
theorem dX5_checksum_102 : decode cX5_checksum 102 = .ok (.iaload, 1) := dk_46 (dk_at dksX5_checksum_4 9 rfl rfl)
theorem dX5_checksum_103 : decode cX5_checksum 103 = .ok (.i2l, 1) := dk_133 (dk_at dksX5_checksum_4 10 rfl rfl)
theorem dX5_checksum_104 : decode cX5_checksum 104 = .ok (.ladd, 1) := dk_97 (dk_at dksX5_checksum_4 11 rfl rfl)
theorem dX5_checksum_105 : decode cX5_checksum 105 = .ok (.lstore_n 1, 1) := dk_64 (dk_at dksX5_checksum_4 12 rfl rfl)
theorem dX5_checksum_106 : decode cX5_checksum 106 = .ok (.ldc2_w 248, 3) := dk_20 0 248 (dk_at dksX5_checksum_4 13 rfl rfl)
theorem dX5_checksum_109 : decode cX5_checksum 109 = .ok (.lload_n 1, 1) := dk_31 (dk_at dksX5_checksum_4 16 rfl rfl)
theorem dX5_checksum_110 : decode cX5_checksum 110 = .ok (.lmul, 1) := dk_105 (dk_at dksX5_checksum_4 17 rfl rfl)
theorem dX5_checksum_111 : decode cX5_checksum 111 = .ok (.aload_n 0, 1) := dk_42 (dk_at dksX5_checksum_4 18 rfl rfl)
theorem dX5_checksum_112 : decode cX5_checksum 112 = .ok (.getfield 17, 3) := dk_180 0 17 (dk_at dksX5_checksum_4 19 rfl rfl)
theorem dX5_checksum_115 : decode cX5_checksum 115 = .ok (.iload_n 3, 1) := dk_29 (dk_at dksX5_checksum_4 22 rfl rfl)
theorem dX5_checksum_116 : decode cX5_checksum 116 = .ok (.invokestatic 188, 3) := dk_184 0 188 (dk_at dksX5_checksum_5 0 rfl rfl)
theorem dX5_checksum_119 : decode cX5_checksum 119 = .ok (.iconst 4, 1) := dk_7 (dk_at dksX5_checksum_5 3 rfl rfl)
theorem dX5_checksum_120 : decode cX5_checksum 120 = .ok (.iadd, 1) := dk_96 (dk_at dksX5_checksum_5 4 rfl rfl)
theorem dX5_checksum_121 : decode cX5_checksum 121 = .ok (.iaload, 1) := dk_46 (dk_at dksX5_checksum_5 5 rfl rfl)
theorem dX5_checksum_122 : decode cX5_checksum 122 = .ok (.i2l, 1) := dk_133 (dk_at dksX5_checksum_5 6 rfl rfl)
theorem dX5_checksum_123 : decode cX5_checksum 123 = .ok (.ladd, 1) := dk_97 (dk_at dksX5_checksum_5 7 rfl rfl)
theorem dX5_checksum_124 : decode cX5_checksum 124 = .ok (.lstore_n 1, 1) := dk_64 (dk_at dksX5_checksum_5 8 rfl rfl)
theorem dX5_checksum_125 : decode cX5_checksum 125 = .ok (.ldc2_w 248, 3) := dk_20 0 248 (dk_at dksX5_checksum_5 9 rfl rfl)
theorem dX5_checksum_128 : decode cX5_checksum 128 = .ok (.lload_n 1, 1) := dk_31 (dk_at dksX5_checksum_5 12 rfl rfl)
theorem dX5_checksum_129 : decode cX5_checksum 129 = .ok (.lmul, 1) := dk_105 (dk_at dksX5_checksum_5 13 rfl rfl)
theorem dX5_checksum_130 : decode cX5_checksum 130 = .ok (.aload_n 0, 1) := dk_42 (dk_at dksX5_checksum_5 14 rfl rfl)
theorem dX5_checksum_131 : decode cX5_checksum 131 = .ok (.getfield 17, 3) := dk_180 0 17 (dk_at dksX5_checksum_5 15 rfl rfl)
theorem dX5_checksum_134 : decode cX5_checksum 134 = .ok (.iload_n 3, 1) := dk_29 (dk_at dksX5_checksum_5 18 rfl rfl)
theorem dX5_checksum_135 : decode cX5_checksum 135 = .ok (.invokestatic 188, 3) := dk_184 0 188 (dk_at dksX5_checksum_5 19 rfl rfl)
theorem dX5_checksum_138 : decode cX5_checksum 138 = .ok (.iconst 3, 1) := dk_6 (dk_at dksX5_checksum_5 22 rfl rfl)
theorem dX5_checksum_139 : decode cX5_checksum 139 = .ok (.iadd, 1) := dk_96 (dk_at dksX5_checksum_5 23 rfl rfl)
theorem dX5_checksum_140 : decode cX5_checksum 140 = .ok (.iaload, 1) := dk_46 (dk_at dksX5_checksum_6 0 rfl rfl)
theorem dX5_checksum_141 : decode cX5_checksum 141 = .ok (.i2l, 1) := dk_133 (dk_at dksX5_checksum_6 1 rfl rfl)
theorem dX5_checksum_142 : decode cX5_checksum 142 = .ok (.ladd, 1) := dk_97 (dk_at dksX5_checksum_6 2 rfl rfl)
theorem dX5_checksum_143 : decode cX5_checksum 143 = .ok (.lstore_n 1, 1) := dk_64 (dk_at dksX5_checksum_6 3 rfl rfl)
theorem dX5_checksum_144 : decode cX5_checksum 144 = .ok (.ldc2_w 248, 3) := dk_20 0 248 (dk_at dksX5_checksum_6 4 rfl rfl)
theorem dX5_checksum_147 : decode cX5_checksum 147 = .ok (.lload_n 1, 1) := dk_31 (dk_at dksX5_checksum_6 7 rfl rfl)
theorem dX5_checksum_148 : decode cX5_checksum 148 = .ok (.lmul, 1) := dk_105 (dk_at dksX5_checksum_6 8 rfl rfl)
theorem dX5_checksum_149 : decode cX5_checksum 149 = .ok (.aload_n 0, 1) := dk_42 (dk_at dksX5_checksum_6 9 rfl rfl)
theorem dX5_checksum_150 : decode cX5_checksum 150 = .ok (.iload_n 3, 1) := dk_29 (dk_at dksX5_checksum_6 10 rfl rfl)
theorem dX5_checksum_151 : decode cX5_checksum 151 = .ok (.invokevirtual 222, 3) := dk_182 0 222 (dk_at dksX5_checksum_6 11 rfl rfl)
theorem dX5_checksum_154 : decode cX5_checksum 154 = .ok (.i2l, 1) := dk_133 (dk_at dksX5_checksum_6 14 rfl rfl)
theorem dX5_checksum_155 : decode cX5_checksum 155 = .ok (.ladd, 1) := dk_97 (dk_at dksX5_checksum_6 15 rfl rfl)
theorem dX5_checksum_156 : decode cX5_checksum 156 = .ok (.lstore_n 1, 1) := dk_64 (dk_at dksX5_checksum_6 16 rfl rfl)
theorem dX5_checksum_157 : decode cX5_checksum 157 = .ok (.iinc 3 1, 3) := dk_132 3 1 (dk_at dksX5_checksum_6 17 rfl rfl)
theorem dX5_checksum_160 : decode cX5_checksum 160 = .ok (.goto (-81), 3) := dk_167 255 175 (dk_at dksX5_checksum_6 20 rfl rfl)
theorem dX5_checksum_163 : decode cX5_checksum 163 = .ok (.lload_n 1, 1) := dk_31 (dk_at dksX5_checksum_6 23 rfl rfl)
theorem dX5_checksum_164 : decode cX5_checksum 164 = .ok (.lreturn, 1) := dk_173 (dk_at dksX5_checksum_7 0 rfl rfl)
theorem q76 : (Jvm.Cond.initialized "DocumentaryCreditDeskModel") ∈ lw_all := lw_g (lw_at lw_m1 9 rfl) rfl
theorem q1050 : (Jvm.Cond.selects "DocumentaryCreditDeskModel" ({ cls := "java/lang/Object", name := "getClass", desc := "()Ljava/lang/Class;" } : Jvm.MethodName) ({ cls := "java/lang/Object", name := "getClass", desc := "()Ljava/lang/Class;" } : Jvm.MethodName)) ∈ lw_all := lw_g (lw_at lw_m5 23 rfl) rfl
theorem q1655 : (Jvm.Cond.instantiable "DocumentaryCreditDeskModel" (16 : Nat)) ∈ lw_all := lw_g (lw_at lw_m7 148 rfl) rfl
theorem q1657 : (Jvm.Cond.instanceMethod ({ cls := "DocumentaryCreditDeskModel", name := "<init>", desc := "()V" } : Jvm.MethodName)) ∈ lw_all := lw_g (lw_at lw_m7 150 rfl) rfl
theorem q1658 : (Jvm.Cond.code ({ cls := "DocumentaryCreditDeskModel", name := "<init>", desc := "()V" } : Jvm.MethodName) prog_14_method_1_code (1 : Nat) (Option.none : Option Jvm.ClassFile.FieldType)) ∈ lw_all := lw_g (lw_at lw_m7 151 rfl) rfl
theorem q1659 : (Jvm.Cond.methodLink "DocumentaryCreditDeskModel" (3 : Nat) ({ cls := "java/lang/Object", name := "<init>", desc := "()V" } : Jvm.MethodName)) ∈ lw_all := lw_g (lw_at lw_m7 152 rfl) rfl
theorem q1660 : (Jvm.Cond.classLink "DocumentaryCreditDeskModel" (23 : Nat) "[[I") ∈ lw_all := lw_g (lw_at lw_m7 153 rfl) rfl
theorem q1662 : (Jvm.Cond.fieldLink "DocumentaryCreditDeskModel" (32 : Nat) "DocumentaryCreditDeskModel" "thrown" "I") ∈ lw_all := lw_g (lw_at lw_m7 155 rfl) rfl
theorem q1663 : (Jvm.Cond.fieldLink "DocumentaryCreditDeskModel" (9 : Nat) "DocumentaryCreditDeskModel" "buffer" "[I") ∈ lw_all := lw_g (lw_at lw_m7 156 rfl) rfl
theorem q1664 : (Jvm.Cond.fieldLink "DocumentaryCreditDeskModel" (35 : Nat) "DocumentaryCreditDeskModel" "bufferLength" "I") ∈ lw_all := lw_g (lw_at lw_m7 157 rfl) rfl
theorem q1665 : (Jvm.Cond.fieldLink "DocumentaryCreditDeskModel" (38 : Nat) "DocumentaryCreditDeskModel" "textLength" "I") ∈ lw_all := lw_g (lw_at lw_m7 158 rfl) rfl
theorem q1666 : (Jvm.Cond.fieldLink "DocumentaryCreditDeskModel" (41 : Nat) "DocumentaryCreditDeskModel" "position" "I") ∈ lw_all := lw_g (lw_at lw_m7 159 rfl) rfl
theorem q1667 : (Jvm.Cond.fieldLink "DocumentaryCreditDeskModel" (48 : Nat) "DocumentaryCreditDeskModel" "error" "I") ∈ lw_all := lw_g (lw_at lw_m7 160 rfl) rfl
theorem q1668 : (Jvm.Cond.fieldLink "DocumentaryCreditDeskModel" (51 : Nat) "DocumentaryCreditDeskModel" "errorAt" "I") ∈ lw_all := lw_g (lw_at lw_m7 161 rfl) rfl
theorem q1669 : (Jvm.Cond.fieldLink "DocumentaryCreditDeskModel" (13 : Nat) "DocumentaryCreditDeskModel" "errorOffset" "I") ∈ lw_all := lw_g (lw_at lw_m7 162 rfl) rfl
theorem q1670 : (Jvm.Cond.fieldLink "DocumentaryCreditDeskModel" (17 : Nat) "DocumentaryCreditDeskModel" "data" "[I") ∈ lw_all := lw_g (lw_at lw_m7 163 rfl) rfl
theorem q1671 : (Jvm.Cond.fieldLink "DocumentaryCreditDeskModel" (20 : Nat) "DocumentaryCreditDeskModel" "draft" "[I") ∈ lw_all := lw_g (lw_at lw_m7 164 rfl) rfl
theorem q1672 : (Jvm.Cond.fieldLink "DocumentaryCreditDeskModel" (25 : Nat) "DocumentaryCreditDeskModel" "history" "[[I") ∈ lw_all := lw_g (lw_at lw_m7 165 rfl) rfl
theorem q1673 : (Jvm.Cond.fieldLink "DocumentaryCreditDeskModel" (242 : Nat) "DocumentaryCreditDeskModel" "undoDepth" "I") ∈ lw_all := lw_g (lw_at lw_m7 166 rfl) rfl
theorem q1674 : (Jvm.Cond.fieldLink "DocumentaryCreditDeskModel" (83 : Nat) "DocumentaryCreditDeskModel" "numberStart" "I") ∈ lw_all := lw_g (lw_at lw_m7 167 rfl) rfl
theorem q1675 : (Jvm.Cond.fieldLink "DocumentaryCreditDeskModel" (91 : Nat) "DocumentaryCreditDeskModel" "nesting" "I") ∈ lw_all := lw_g (lw_at lw_m7 168 rfl) rfl
theorem q1676 : (Jvm.Cond.fieldLink "DocumentaryCreditDeskModel" (123 : Nat) "DocumentaryCreditDeskModel" "seen" "I") ∈ lw_all := lw_g (lw_at lw_m7 169 rfl) rfl
theorem q1677 : (Jvm.Cond.fieldLink "DocumentaryCreditDeskModel" (28 : Nat) "DocumentaryCreditDeskModel" "stack" "[J") ∈ lw_all := lw_g (lw_at lw_m7 170 rfl) rfl
theorem q1678 : (Jvm.Cond.lays "DocumentaryCreditDeskModel" "DocumentaryCreditDeskModel" "thrown" "I") ∈ lw_all := lw_g (lw_at lw_m7 171 rfl) rfl
theorem q1679 : (Jvm.Cond.soleField "DocumentaryCreditDeskModel" "thrown") ∈ lw_all := lw_g (lw_at lw_m7 172 rfl) rfl
theorem q1680 : (Jvm.Cond.laysFinal "DocumentaryCreditDeskModel" "DocumentaryCreditDeskModel" "buffer" "[I") ∈ lw_all := lw_g (lw_at lw_m7 173 rfl) rfl
theorem q1681 : (Jvm.Cond.soleField "DocumentaryCreditDeskModel" "buffer") ∈ lw_all := lw_g (lw_at lw_m7 174 rfl) rfl
theorem q1682 : (Jvm.Cond.lays "DocumentaryCreditDeskModel" "DocumentaryCreditDeskModel" "bufferLength" "I") ∈ lw_all := lw_g (lw_at lw_m7 175 rfl) rfl
theorem q1683 : (Jvm.Cond.soleField "DocumentaryCreditDeskModel" "bufferLength") ∈ lw_all := lw_g (lw_at lw_m7 176 rfl) rfl
theorem q1684 : (Jvm.Cond.lays "DocumentaryCreditDeskModel" "DocumentaryCreditDeskModel" "textLength" "I") ∈ lw_all := lw_g (lw_at lw_m7 177 rfl) rfl
theorem q1685 : (Jvm.Cond.soleField "DocumentaryCreditDeskModel" "textLength") ∈ lw_all := lw_g (lw_at lw_m7 178 rfl) rfl
theorem q1686 : (Jvm.Cond.lays "DocumentaryCreditDeskModel" "DocumentaryCreditDeskModel" "position" "I") ∈ lw_all := lw_g (lw_at lw_m7 179 rfl) rfl
theorem q1687 : (Jvm.Cond.soleField "DocumentaryCreditDeskModel" "position") ∈ lw_all := lw_g (lw_at lw_m7 180 rfl) rfl
theorem q1688 : (Jvm.Cond.lays "DocumentaryCreditDeskModel" "DocumentaryCreditDeskModel" "error" "I") ∈ lw_all := lw_g (lw_at lw_m7 181 rfl) rfl
theorem q1689 : (Jvm.Cond.soleField "DocumentaryCreditDeskModel" "error") ∈ lw_all := lw_g (lw_at lw_m7 182 rfl) rfl
theorem q1690 : (Jvm.Cond.lays "DocumentaryCreditDeskModel" "DocumentaryCreditDeskModel" "errorAt" "I") ∈ lw_all := lw_g (lw_at lw_m7 183 rfl) rfl
theorem q1691 : (Jvm.Cond.soleField "DocumentaryCreditDeskModel" "errorAt") ∈ lw_all := lw_g (lw_at lw_m7 184 rfl) rfl
theorem q1692 : (Jvm.Cond.lays "DocumentaryCreditDeskModel" "DocumentaryCreditDeskModel" "errorOffset" "I") ∈ lw_all := lw_g (lw_at lw_m7 185 rfl) rfl
theorem q1693 : (Jvm.Cond.soleField "DocumentaryCreditDeskModel" "errorOffset") ∈ lw_all := lw_g (lw_at lw_m7 186 rfl) rfl
theorem q1694 : (Jvm.Cond.laysFinal "DocumentaryCreditDeskModel" "DocumentaryCreditDeskModel" "data" "[I") ∈ lw_all := lw_g (lw_at lw_m7 187 rfl) rfl
theorem q1695 : (Jvm.Cond.soleField "DocumentaryCreditDeskModel" "data") ∈ lw_all := lw_g (lw_at lw_m7 188 rfl) rfl
theorem q1696 : (Jvm.Cond.laysFinal "DocumentaryCreditDeskModel" "DocumentaryCreditDeskModel" "draft" "[I") ∈ lw_all := lw_g (lw_at lw_m7 189 rfl) rfl
theorem q1697 : (Jvm.Cond.soleField "DocumentaryCreditDeskModel" "draft") ∈ lw_all := lw_g (lw_at lw_m7 190 rfl) rfl
theorem q1698 : (Jvm.Cond.laysFinal "DocumentaryCreditDeskModel" "DocumentaryCreditDeskModel" "history" "[[I") ∈ lw_all := lw_g (lw_at lw_m7 191 rfl) rfl
theorem q1699 : (Jvm.Cond.soleField "DocumentaryCreditDeskModel" "history") ∈ lw_all := lw_g (lw_at lw_m7 192 rfl) rfl
theorem q1700 : (Jvm.Cond.lays "DocumentaryCreditDeskModel" "DocumentaryCreditDeskModel" "undoDepth" "I") ∈ lw_all := lw_g (lw_at lw_m7 193 rfl) rfl
theorem q1701 : (Jvm.Cond.soleField "DocumentaryCreditDeskModel" "undoDepth") ∈ lw_all := lw_g (lw_at lw_m7 194 rfl) rfl
theorem q1702 : (Jvm.Cond.lays "DocumentaryCreditDeskModel" "DocumentaryCreditDeskModel" "numberStart" "I") ∈ lw_all := lw_g (lw_at lw_m7 195 rfl) rfl
theorem q1703 : (Jvm.Cond.soleField "DocumentaryCreditDeskModel" "numberStart") ∈ lw_all := lw_g (lw_at lw_m7 196 rfl) rfl
theorem q1704 : (Jvm.Cond.lays "DocumentaryCreditDeskModel" "DocumentaryCreditDeskModel" "nesting" "I") ∈ lw_all := lw_g (lw_at lw_m7 197 rfl) rfl
theorem q1705 : (Jvm.Cond.soleField "DocumentaryCreditDeskModel" "nesting") ∈ lw_all := lw_g (lw_at lw_m7 198 rfl) rfl
theorem q1706 : (Jvm.Cond.lays "DocumentaryCreditDeskModel" "DocumentaryCreditDeskModel" "seen" "I") ∈ lw_all := lw_g (lw_at lw_m7 199 rfl) rfl
theorem q1707 : (Jvm.Cond.soleField "DocumentaryCreditDeskModel" "seen") ∈ lw_all := lw_g (lw_at lw_m7 200 rfl) rfl
theorem q1708 : (Jvm.Cond.laysFinal "DocumentaryCreditDeskModel" "DocumentaryCreditDeskModel" "stack" "[J") ∈ lw_all := lw_g (lw_at lw_m7 201 rfl) rfl
theorem q1709 : (Jvm.Cond.soleField "DocumentaryCreditDeskModel" "stack") ∈ lw_all := lw_g (lw_at lw_m7 202 rfl) rfl
theorem q1710 : (Jvm.Cond.superclass "DocumentaryCreditDeskModel" "java/lang/Object") ∈ lw_all := lw_g (lw_at lw_m7 203 rfl) rfl
theorem q1713 : (Jvm.Cond.instanceMethod ({ cls := "DocumentaryCreditDeskModel", name := "thrown", desc := "()I" } : Jvm.MethodName)) ∈ lw_all := lw_g (lw_at lw_m7 206 rfl) rfl
theorem q1714 : (Jvm.Cond.selects "DocumentaryCreditDeskModel" ({ cls := "DocumentaryCreditDeskModel", name := "thrown", desc := "()I" } : Jvm.MethodName) ({ cls := "DocumentaryCreditDeskModel", name := "thrown", desc := "()I" } : Jvm.MethodName)) ∈ lw_all := lw_g (lw_at lw_m7 207 rfl) rfl
theorem q1715 : (Jvm.Cond.code ({ cls := "DocumentaryCreditDeskModel", name := "thrown", desc := "()I" } : Jvm.MethodName) prog_14_method_2_code (1 : Nat) (Option.some Jvm.ClassFile.FieldType.int)) ∈ lw_all := lw_g (lw_at lw_m7 208 rfl) rfl
theorem q1717 : (Jvm.Cond.instanceMethod ({ cls := "DocumentaryCreditDeskModel", name := "append", desc := "(IIIII)I" } : Jvm.MethodName)) ∈ lw_all := lw_g (lw_at lw_m7 210 rfl) rfl
theorem q1718 : (Jvm.Cond.selects "DocumentaryCreditDeskModel" ({ cls := "DocumentaryCreditDeskModel", name := "append", desc := "(IIIII)I" } : Jvm.MethodName) ({ cls := "DocumentaryCreditDeskModel", name := "append", desc := "(IIIII)I" } : Jvm.MethodName)) ∈ lw_all := lw_g (lw_at lw_m7 211 rfl) rfl
theorem q1719 : (Jvm.Cond.code ({ cls := "DocumentaryCreditDeskModel", name := "append", desc := "(IIIII)I" } : Jvm.MethodName) prog_14_method_9_code (8 : Nat) (Option.some Jvm.ClassFile.FieldType.int)) ∈ lw_all := lw_g (lw_at lw_m7 212 rfl) rfl
theorem q1721 : (Jvm.Cond.instanceMethod ({ cls := "DocumentaryCreditDeskModel", name := "load", desc := "(I)I" } : Jvm.MethodName)) ∈ lw_all := lw_g (lw_at lw_m7 214 rfl) rfl
theorem q1722 : (Jvm.Cond.selects "DocumentaryCreditDeskModel" ({ cls := "DocumentaryCreditDeskModel", name := "load", desc := "(I)I" } : Jvm.MethodName) ({ cls := "DocumentaryCreditDeskModel", name := "load", desc := "(I)I" } : Jvm.MethodName)) ∈ lw_all := lw_g (lw_at lw_m7 215 rfl) rfl
theorem q1723 : (Jvm.Cond.code ({ cls := "DocumentaryCreditDeskModel", name := "load", desc := "(I)I" } : Jvm.MethodName) prog_14_method_27_code (3 : Nat) (Option.some Jvm.ClassFile.FieldType.int)) ∈ lw_all := lw_g (lw_at lw_m7 216 rfl) rfl
theorem q1724 : (Jvm.Cond.methodLink "DocumentaryCreditDeskModel" (54 : Nat) ({ cls := "DocumentaryCreditDeskModel", name := "in", desc := "(III)Z" } : Jvm.MethodName)) ∈ lw_all := lw_g (lw_at lw_m7 217 rfl) rfl
theorem q1725 : (Jvm.Cond.static ({ cls := "DocumentaryCreditDeskModel", name := "in", desc := "(III)Z" } : Jvm.MethodName)) ∈ lw_all := lw_g (lw_at lw_m7 218 rfl) rfl
theorem q1726 : (Jvm.Cond.code ({ cls := "DocumentaryCreditDeskModel", name := "in", desc := "(III)Z" } : Jvm.MethodName) prog_14_method_4_code (3 : Nat) (Option.some Jvm.ClassFile.FieldType.boolean)) ∈ lw_all := lw_g (lw_at lw_m7 219 rfl) rfl
theorem q1727 : (Jvm.Cond.methodLink "DocumentaryCreditDeskModel" (153 : Nat) ({ cls := "DocumentaryCreditDeskModel", name := "fails", desc := "(ZI)Z" } : Jvm.MethodName)) ∈ lw_all := lw_g (lw_at lw_m7 220 rfl) rfl
theorem q1728 : (Jvm.Cond.privateMethod ({ cls := "DocumentaryCreditDeskModel", name := "fails", desc := "(ZI)Z" } : Jvm.MethodName)) ∈ lw_tbl := lw_at lw_m7 221 rfl
theorem q1729 : (Jvm.Cond.instanceMethod ({ cls := "DocumentaryCreditDeskModel", name := "fails", desc := "(ZI)Z" } : Jvm.MethodName)) ∈ lw_all := lw_g (lw_at lw_m7 222 rfl) rfl
theorem q1730 : (Jvm.Cond.code ({ cls := "DocumentaryCreditDeskModel", name := "fails", desc := "(ZI)Z" } : Jvm.MethodName) prog_14_method_3_code (3 : Nat) (Option.some Jvm.ClassFile.FieldType.boolean)) ∈ lw_all := lw_g (lw_at lw_m7 223 rfl) rfl
theorem q1731 : (Jvm.Cond.methodLink "DocumentaryCreditDeskModel" (58 : Nat) ({ cls := "DocumentaryCreditDeskModel", name := "isGood", desc := "()Z" } : Jvm.MethodName)) ∈ lw_all := lw_g (lw_at lw_m7 224 rfl) rfl
theorem q1732 : (Jvm.Cond.privateMethod ({ cls := "DocumentaryCreditDeskModel", name := "isGood", desc := "()Z" } : Jvm.MethodName)) ∈ lw_tbl := lw_at lw_m7 225 rfl
theorem q1733 : (Jvm.Cond.instanceMethod ({ cls := "DocumentaryCreditDeskModel", name := "isGood", desc := "()Z" } : Jvm.MethodName)) ∈ lw_all := lw_g (lw_at lw_m7 226 rfl) rfl
theorem q1734 : (Jvm.Cond.code ({ cls := "DocumentaryCreditDeskModel", name := "isGood", desc := "()Z" } : Jvm.MethodName) prog_14_method_12_code (1 : Nat) (Option.some Jvm.ClassFile.FieldType.boolean)) ∈ lw_all := lw_g (lw_at lw_m7 227 rfl) rfl
theorem q1735 : (Jvm.Cond.methodLink "DocumentaryCreditDeskModel" (62 : Nat) ({ cls := "DocumentaryCreditDeskModel", name := "next", desc := "()I" } : Jvm.MethodName)) ∈ lw_all := lw_g (lw_at lw_m7 228 rfl) rfl
theorem q1736 : (Jvm.Cond.privateMethod ({ cls := "DocumentaryCreditDeskModel", name := "next", desc := "()I" } : Jvm.MethodName)) ∈ lw_tbl := lw_at lw_m7 229 rfl
theorem q1737 : (Jvm.Cond.instanceMethod ({ cls := "DocumentaryCreditDeskModel", name := "next", desc := "()I" } : Jvm.MethodName)) ∈ lw_all := lw_g (lw_at lw_m7 230 rfl) rfl
theorem q1738 : (Jvm.Cond.code ({ cls := "DocumentaryCreditDeskModel", name := "next", desc := "()I" } : Jvm.MethodName) prog_14_method_11_code (1 : Nat) (Option.some Jvm.ClassFile.FieldType.int)) ∈ lw_all := lw_g (lw_at lw_m7 231 rfl) rfl
theorem q1739 : (Jvm.Cond.methodLink "DocumentaryCreditDeskModel" (44 : Nat) ({ cls := "DocumentaryCreditDeskModel", name := "byteAt", desc := "(I)I" } : Jvm.MethodName)) ∈ lw_all := lw_g (lw_at lw_m7 232 rfl) rfl
theorem q1740 : (Jvm.Cond.privateMethod ({ cls := "DocumentaryCreditDeskModel", name := "byteAt", desc := "(I)I" } : Jvm.MethodName)) ∈ lw_tbl := lw_at lw_m7 233 rfl
theorem q1741 : (Jvm.Cond.instanceMethod ({ cls := "DocumentaryCreditDeskModel", name := "byteAt", desc := "(I)I" } : Jvm.MethodName)) ∈ lw_all := lw_g (lw_at lw_m7 234 rfl) rfl
theorem q1742 : (Jvm.Cond.code ({ cls := "DocumentaryCreditDeskModel", name := "byteAt", desc := "(I)I" } : Jvm.MethodName) prog_14_method_10_code (2 : Nat) (Option.some Jvm.ClassFile.FieldType.int)) ∈ lw_all := lw_g (lw_at lw_m7 235 rfl) rfl
theorem q1743 : (Jvm.Cond.methodLink "DocumentaryCreditDeskModel" (157 : Nat) ({ cls := "DocumentaryCreditDeskModel", name := "statement", desc := "()V" } : Jvm.MethodName)) ∈ lw_all := lw_g (lw_at lw_m7 236 rfl) rfl
theorem q1744 : (Jvm.Cond.privateMethod ({ cls := "DocumentaryCreditDeskModel", name := "statement", desc := "()V" } : Jvm.MethodName)) ∈ lw_tbl := lw_at lw_m7 237 rfl
theorem q1745 : (Jvm.Cond.instanceMethod ({ cls := "DocumentaryCreditDeskModel", name := "statement", desc := "()V" } : Jvm.MethodName)) ∈ lw_all := lw_g (lw_at lw_m7 238 rfl) rfl
theorem q1746 : (Jvm.Cond.code ({ cls := "DocumentaryCreditDeskModel", name := "statement", desc := "()V" } : Jvm.MethodName) prog_14_method_26_code (2 : Nat) (Option.none : Option Jvm.ClassFile.FieldType)) ∈ lw_all := lw_g (lw_at lw_m7 239 rfl) rfl
theorem q1747 : (Jvm.Cond.stringRef "DocumentaryCreditDeskModel" (139 : Nat) "holiday") ∈ lw_tbl := lw_at lw_m8 0 rfl
theorem q1748 : (Jvm.Cond.methodLink "DocumentaryCreditDeskModel" (103 : Nat) ({ cls := "DocumentaryCreditDeskModel", name := "takeWord", desc := "(Ljava/lang/String;)Z" } : Jvm.MethodName)) ∈ lw_all := lw_g (lw_at lw_m8 1 rfl) rfl
theorem q1749 : (Jvm.Cond.privateMethod ({ cls := "DocumentaryCreditDeskModel", name := "takeWord", desc := "(Ljava/lang/String;)Z" } : Jvm.MethodName)) ∈ lw_tbl := lw_at lw_m8 2 rfl
theorem q1750 : (Jvm.Cond.instanceMethod ({ cls := "DocumentaryCreditDeskModel", name := "takeWord", desc := "(Ljava/lang/String;)Z" } : Jvm.MethodName)) ∈ lw_all := lw_g (lw_at lw_m8 3 rfl) rfl
theorem q1751 : (Jvm.Cond.code ({ cls := "DocumentaryCreditDeskModel", name := "takeWord", desc := "(Ljava/lang/String;)Z" } : Jvm.MethodName) prog_14_method_15_code (3 : Nat) (Option.some Jvm.ClassFile.FieldType.boolean)) ∈ lw_all := lw_g (lw_at lw_m8 4 rfl) rfl
theorem q1752 : (Jvm.Cond.methodLink "DocumentaryCreditDeskModel" (66 : Nat) ({ cls := "java/lang/String", name := "length", desc := "()I" } : Jvm.MethodName)) ∈ lw_all := lw_g (lw_at lw_m8 5 rfl) rfl
theorem q1753 : (Jvm.Cond.methodLink "DocumentaryCreditDeskModel" (71 : Nat) ({ cls := "java/lang/String", name := "charAt", desc := "(I)C" } : Jvm.MethodName)) ∈ lw_all := lw_g (lw_at lw_m8 6 rfl) rfl
theorem q1764 : (Jvm.Cond.methodLink "DocumentaryCreditDeskModel" (141 : Nat) ({ cls := "DocumentaryCreditDeskModel", name := "readHoliday", desc := "()V" } : Jvm.MethodName)) ∈ lw_all := lw_g (lw_at lw_m8 17 rfl) rfl
theorem q1765 : (Jvm.Cond.privateMethod ({ cls := "DocumentaryCreditDeskModel", name := "readHoliday", desc := "()V" } : Jvm.MethodName)) ∈ lw_tbl := lw_at lw_m8 18 rfl
theorem q1766 : (Jvm.Cond.instanceMethod ({ cls := "DocumentaryCreditDeskModel", name := "readHoliday", desc := "()V" } : Jvm.MethodName)) ∈ lw_all := lw_g (lw_at lw_m8 19 rfl) rfl
theorem q1767 : (Jvm.Cond.code ({ cls := "DocumentaryCreditDeskModel", name := "readHoliday", desc := "()V" } : Jvm.MethodName) prog_14_method_23_code (3 : Nat) (Option.none : Option Jvm.ClassFile.FieldType)) ∈ lw_all := lw_g (lw_at lw_m8 20 rfl) rfl
theorem q1768 : (Jvm.Cond.methodLink "DocumentaryCreditDeskModel" (111 : Nat) ({ cls := "DocumentaryCreditDeskModel", name := "number", desc := "(II)I" } : Jvm.MethodName)) ∈ lw_all := lw_g (lw_at lw_m8 21 rfl) rfl
theorem q1769 : (Jvm.Cond.privateMethod ({ cls := "DocumentaryCreditDeskModel", name := "number", desc := "(II)I" } : Jvm.MethodName)) ∈ lw_tbl := lw_at lw_m8 22 rfl
theorem q1770 : (Jvm.Cond.instanceMethod ({ cls := "DocumentaryCreditDeskModel", name := "number", desc := "(II)I" } : Jvm.MethodName)) ∈ lw_all := lw_g (lw_at lw_m8 23 rfl) rfl
theorem q1771 : (Jvm.Cond.code ({ cls := "DocumentaryCreditDeskModel", name := "number", desc := "(II)I" } : Jvm.MethodName) prog_14_method_17_code (4 : Nat) (Option.some Jvm.ClassFile.FieldType.int)) ∈ lw_all := lw_g (lw_at lw_m8 24 rfl) rfl
theorem q1772 : (Jvm.Cond.methodLink "DocumentaryCreditDeskModel" (79 : Nat) ({ cls := "DocumentaryCreditDeskModel", name := "isDigit", desc := "(I)Z" } : Jvm.MethodName)) ∈ lw_all := lw_g (lw_at lw_m8 25 rfl) rfl
theorem q1773 : (Jvm.Cond.static ({ cls := "DocumentaryCreditDeskModel", name := "isDigit", desc := "(I)Z" } : Jvm.MethodName)) ∈ lw_all := lw_g (lw_at lw_m8 26 rfl) rfl
theorem q1774 : (Jvm.Cond.code ({ cls := "DocumentaryCreditDeskModel", name := "isDigit", desc := "(I)Z" } : Jvm.MethodName) prog_14_method_14_code (1 : Nat) (Option.some Jvm.ClassFile.FieldType.boolean)) ∈ lw_all := lw_g (lw_at lw_m8 27 rfl) rfl
theorem q1775 : (Jvm.Cond.methodLink "DocumentaryCreditDeskModel" (75 : Nat) ({ cls := "DocumentaryCreditDeskModel", name := "report", desc := "(II)V" } : Jvm.MethodName)) ∈ lw_all := lw_g (lw_at lw_m8 28 rfl) rfl
theorem q1776 : (Jvm.Cond.privateMethod ({ cls := "DocumentaryCreditDeskModel", name := "report", desc := "(II)V" } : Jvm.MethodName)) ∈ lw_tbl := lw_at lw_m8 29 rfl
theorem q1777 : (Jvm.Cond.instanceMethod ({ cls := "DocumentaryCreditDeskModel", name := "report", desc := "(II)V" } : Jvm.MethodName)) ∈ lw_all := lw_g (lw_at lw_m8 30 rfl) rfl
theorem q1778 : (Jvm.Cond.code ({ cls := "DocumentaryCreditDeskModel", name := "report", desc := "(II)V" } : Jvm.MethodName) prog_14_method_13_code (3 : Nat) (Option.none : Option Jvm.ClassFile.FieldType)) ∈ lw_all := lw_g (lw_at lw_m8 31 rfl) rfl
theorem q1779 : (Jvm.Cond.constant "DocumentaryCreditDeskModel" (86 : Nat) (1000000 : Int32)) ∈ lw_all := lw_g (lw_at lw_m8 32 rfl) rfl
theorem q1780 : (Jvm.Cond.methodLink "DocumentaryCreditDeskModel" (87 : Nat) ({ cls := "DocumentaryCreditDeskModel", name := "min", desc := "(II)I" } : Jvm.MethodName)) ∈ lw_all := lw_g (lw_at lw_m8 33 rfl) rfl
theorem q1781 : (Jvm.Cond.static ({ cls := "DocumentaryCreditDeskModel", name := "min", desc := "(II)I" } : Jvm.MethodName)) ∈ lw_all := lw_g (lw_at lw_m8 34 rfl) rfl
theorem q1782 : (Jvm.Cond.code ({ cls := "DocumentaryCreditDeskModel", name := "min", desc := "(II)I" } : Jvm.MethodName) prog_14_method_5_code (2 : Nat) (Option.some Jvm.ClassFile.FieldType.int)) ∈ lw_all := lw_g (lw_at lw_m8 35 rfl) rfl
theorem q1783 : (Jvm.Cond.stringRef "DocumentaryCreditDeskModel" (144 : Nat) "credit") ∈ lw_tbl := lw_at lw_m8 36 rfl
theorem q1784 : (Jvm.Cond.methodLink "DocumentaryCreditDeskModel" (145 : Nat) ({ cls := "DocumentaryCreditDeskModel", name := "readCredit", desc := "(I)V" } : Jvm.MethodName)) ∈ lw_all := lw_g (lw_at lw_m8 37 rfl) rfl
theorem q1785 : (Jvm.Cond.privateMethod ({ cls := "DocumentaryCreditDeskModel", name := "readCredit", desc := "(I)V" } : Jvm.MethodName)) ∈ lw_tbl := lw_at lw_m8 38 rfl
theorem q1786 : (Jvm.Cond.instanceMethod ({ cls := "DocumentaryCreditDeskModel", name := "readCredit", desc := "(I)V" } : Jvm.MethodName)) ∈ lw_all := lw_g (lw_at lw_m8 39 rfl) rfl
theorem q1787 : (Jvm.Cond.code ({ cls := "DocumentaryCreditDeskModel", name := "readCredit", desc := "(I)V" } : Jvm.MethodName) prog_14_method_25_code (3 : Nat) (Option.none : Option Jvm.ClassFile.FieldType)) ∈ lw_all := lw_g (lw_at lw_m8 40 rfl) rfl
theorem q1788 : (Jvm.Cond.methodLink "DocumentaryCreditDeskModel" (126 : Nat) ({ cls := "DocumentaryCreditDeskModel", name := "credit", desc := "(I)I" } : Jvm.MethodName)) ∈ lw_all := lw_g (lw_at lw_m8 41 rfl) rfl
theorem q1789 : (Jvm.Cond.static ({ cls := "DocumentaryCreditDeskModel", name := "credit", desc := "(I)I" } : Jvm.MethodName)) ∈ lw_all := lw_g (lw_at lw_m8 42 rfl) rfl
theorem q1790 : (Jvm.Cond.code ({ cls := "DocumentaryCreditDeskModel", name := "credit", desc := "(I)I" } : Jvm.MethodName) prog_14_method_7_code (1 : Nat) (Option.some Jvm.ClassFile.FieldType.int)) ∈ lw_all := lw_g (lw_at lw_m8 43 rfl) rfl
theorem q1791 : (Jvm.Cond.constant "DocumentaryCreditDeskModel" (129 : Nat) (999999 : Int32)) ∈ lw_all := lw_g (lw_at lw_m8 44 rfl) rfl
theorem q1792 : (Jvm.Cond.stringRef "DocumentaryCreditDeskModel" (130 : Nat) "partial") ∈ lw_tbl := lw_at lw_m8 45 rfl
theorem q1793 : (Jvm.Cond.stringRef "DocumentaryCreditDeskModel" (132 : Nat) "transferable") ∈ lw_tbl := lw_at lw_m8 46 rfl
theorem q1794 : (Jvm.Cond.stringRef "DocumentaryCreditDeskModel" (134 : Nat) "needs") ∈ lw_tbl := lw_at lw_m8 47 rfl
theorem q1795 : (Jvm.Cond.methodLink "DocumentaryCreditDeskModel" (136 : Nat) ({ cls := "DocumentaryCreditDeskModel", name := "readNeeds", desc := "(I)V" } : Jvm.MethodName)) ∈ lw_all := lw_g (lw_at lw_m8 48 rfl) rfl
theorem q1796 : (Jvm.Cond.privateMethod ({ cls := "DocumentaryCreditDeskModel", name := "readNeeds", desc := "(I)V" } : Jvm.MethodName)) ∈ lw_tbl := lw_at lw_m8 49 rfl
theorem q1797 : (Jvm.Cond.instanceMethod ({ cls := "DocumentaryCreditDeskModel", name := "readNeeds", desc := "(I)V" } : Jvm.MethodName)) ∈ lw_all := lw_g (lw_at lw_m8 50 rfl) rfl
theorem q1798 : (Jvm.Cond.code ({ cls := "DocumentaryCreditDeskModel", name := "readNeeds", desc := "(I)V" } : Jvm.MethodName) prog_14_method_24_code (3 : Nat) (Option.none : Option Jvm.ClassFile.FieldType)) ∈ lw_all := lw_g (lw_at lw_m8 51 rfl) rfl
theorem q1799 : (Jvm.Cond.stringRef "DocumentaryCreditDeskModel" (148 : Nat) "fee") ∈ lw_tbl := lw_at lw_m8 52 rfl
theorem q1800 : (Jvm.Cond.methodLink "DocumentaryCreditDeskModel" (150 : Nat) ({ cls := "DocumentaryCreditDeskModel", name := "once", desc := "(II)V" } : Jvm.MethodName)) ∈ lw_all := lw_g (lw_at lw_m8 53 rfl) rfl
theorem q1801 : (Jvm.Cond.privateMethod ({ cls := "DocumentaryCreditDeskModel", name := "once", desc := "(II)V" } : Jvm.MethodName)) ∈ lw_tbl := lw_at lw_m8 54 rfl
theorem q1802 : (Jvm.Cond.instanceMethod ({ cls := "DocumentaryCreditDeskModel", name := "once", desc := "(II)V" } : Jvm.MethodName)) ∈ lw_all := lw_g (lw_at lw_m8 55 rfl) rfl
theorem q1803 : (Jvm.Cond.code ({ cls := "DocumentaryCreditDeskModel", name := "once", desc := "(II)V" } : Jvm.MethodName) prog_14_method_22_code (3 : Nat) (Option.none : Option Jvm.ClassFile.FieldType)) ∈ lw_all := lw_g (lw_at lw_m8 56 rfl) rfl
theorem q1804 : (Jvm.Cond.methodLink "DocumentaryCreditDeskModel" (94 : Nat) ({ cls := "DocumentaryCreditDeskModel", name := "sum", desc := "()V" } : Jvm.MethodName)) ∈ lw_all := lw_g (lw_at lw_m8 57 rfl) rfl
theorem q1805 : (Jvm.Cond.privateMethod ({ cls := "DocumentaryCreditDeskModel", name := "sum", desc := "()V" } : Jvm.MethodName)) ∈ lw_tbl := lw_at lw_m8 58 rfl
theorem q1806 : (Jvm.Cond.instanceMethod ({ cls := "DocumentaryCreditDeskModel", name := "sum", desc := "()V" } : Jvm.MethodName)) ∈ lw_all := lw_g (lw_at lw_m8 59 rfl) rfl
theorem q1807 : (Jvm.Cond.code ({ cls := "DocumentaryCreditDeskModel", name := "sum", desc := "()V" } : Jvm.MethodName) prog_14_method_21_code (2 : Nat) (Option.none : Option Jvm.ClassFile.FieldType)) ∈ lw_all := lw_g (lw_at lw_m8 60 rfl) rfl
theorem q1808 : (Jvm.Cond.methodLink "DocumentaryCreditDeskModel" (120 : Nat) ({ cls := "DocumentaryCreditDeskModel", name := "term", desc := "()V" } : Jvm.MethodName)) ∈ lw_all := lw_g (lw_at lw_m8 61 rfl) rfl
theorem q1809 : (Jvm.Cond.privateMethod ({ cls := "DocumentaryCreditDeskModel", name := "term", desc := "()V" } : Jvm.MethodName)) ∈ lw_tbl := lw_at lw_m8 62 rfl
theorem q1810 : (Jvm.Cond.instanceMethod ({ cls := "DocumentaryCreditDeskModel", name := "term", desc := "()V" } : Jvm.MethodName)) ∈ lw_all := lw_g (lw_at lw_m8 63 rfl) rfl
theorem q1811 : (Jvm.Cond.code ({ cls := "DocumentaryCreditDeskModel", name := "term", desc := "()V" } : Jvm.MethodName) prog_14_method_20_code (2 : Nat) (Option.none : Option Jvm.ClassFile.FieldType)) ∈ lw_all := lw_g (lw_at lw_m8 64 rfl) rfl
theorem q1812 : (Jvm.Cond.methodLink "DocumentaryCreditDeskModel" (117 : Nat) ({ cls := "DocumentaryCreditDeskModel", name := "factor", desc := "()V" } : Jvm.MethodName)) ∈ lw_all := lw_g (lw_at lw_m8 65 rfl) rfl
theorem q1813 : (Jvm.Cond.privateMethod ({ cls := "DocumentaryCreditDeskModel", name := "factor", desc := "()V" } : Jvm.MethodName)) ∈ lw_tbl := lw_at lw_m8 66 rfl
theorem q1814 : (Jvm.Cond.instanceMethod ({ cls := "DocumentaryCreditDeskModel", name := "factor", desc := "()V" } : Jvm.MethodName)) ∈ lw_all := lw_g (lw_at lw_m8 67 rfl) rfl
theorem q1815 : (Jvm.Cond.code ({ cls := "DocumentaryCreditDeskModel", name := "factor", desc := "()V" } : Jvm.MethodName) prog_14_method_19_code (4 : Nat) (Option.none : Option Jvm.ClassFile.FieldType)) ∈ lw_all := lw_g (lw_at lw_m8 68 rfl) rfl
theorem q1816 : (Jvm.Cond.methodLink "DocumentaryCreditDeskModel" (97 : Nat) ({ cls := "DocumentaryCreditDeskModel", name := "expect", desc := "(I)V" } : Jvm.MethodName)) ∈ lw_all := lw_g (lw_at lw_m8 69 rfl) rfl
theorem q1817 : (Jvm.Cond.privateMethod ({ cls := "DocumentaryCreditDeskModel", name := "expect", desc := "(I)V" } : Jvm.MethodName)) ∈ lw_tbl := lw_at lw_m8 70 rfl
theorem q1818 : (Jvm.Cond.instanceMethod ({ cls := "DocumentaryCreditDeskModel", name := "expect", desc := "(I)V" } : Jvm.MethodName)) ∈ lw_all := lw_g (lw_at lw_m8 71 rfl) rfl
theorem q1819 : (Jvm.Cond.code ({ cls := "DocumentaryCreditDeskModel", name := "expect", desc := "(I)V" } : Jvm.MethodName) prog_14_method_16_code (2 : Nat) (Option.none : Option Jvm.ClassFile.FieldType)) ∈ lw_all := lw_g (lw_at lw_m8 72 rfl) rfl
theorem q1820 : (Jvm.Cond.stringRef "DocumentaryCreditDeskModel" (101 : Nat) "amount") ∈ lw_tbl := lw_at lw_m8 73 rfl
theorem q1821 : (Jvm.Cond.stringRef "DocumentaryCreditDeskModel" (107 : Nat) "days") ∈ lw_tbl := lw_at lw_m8 74 rfl
theorem q1822 : (Jvm.Cond.stringRef "DocumentaryCreditDeskModel" (109 : Nat) "errors") ∈ lw_tbl := lw_at lw_m8 75 rfl
theorem q1823 : (Jvm.Cond.methodLink "DocumentaryCreditDeskModel" (114 : Nat) ({ cls := "DocumentaryCreditDeskModel", name := "emit", desc := "(I)V" } : Jvm.MethodName)) ∈ lw_all := lw_g (lw_at lw_m8 76 rfl) rfl
theorem q1824 : (Jvm.Cond.privateMethod ({ cls := "DocumentaryCreditDeskModel", name := "emit", desc := "(I)V" } : Jvm.MethodName)) ∈ lw_tbl := lw_at lw_m8 77 rfl
theorem q1825 : (Jvm.Cond.instanceMethod ({ cls := "DocumentaryCreditDeskModel", name := "emit", desc := "(I)V" } : Jvm.MethodName)) ∈ lw_all := lw_g (lw_at lw_m8 78 rfl) rfl
theorem q1826 : (Jvm.Cond.code ({ cls := "DocumentaryCreditDeskModel", name := "emit", desc := "(I)V" } : Jvm.MethodName) prog_14_method_18_code (2 : Nat) (Option.none : Option Jvm.ClassFile.FieldType)) ∈ lw_all := lw_g (lw_at lw_m8 79 rfl) rfl
theorem q1827 : (Jvm.Cond.methodLink "DocumentaryCreditDeskModel" (160 : Nat) ({ cls := "DocumentaryCreditDeskModel", name := "remember", desc := "()V" } : Jvm.MethodName)) ∈ lw_all := lw_g (lw_at lw_m8 80 rfl) rfl
theorem q1828 : (Jvm.Cond.privateMethod ({ cls := "DocumentaryCreditDeskModel", name := "remember", desc := "()V" } : Jvm.MethodName)) ∈ lw_tbl := lw_at lw_m8 81 rfl
theorem q1829 : (Jvm.Cond.instanceMethod ({ cls := "DocumentaryCreditDeskModel", name := "remember", desc := "()V" } : Jvm.MethodName)) ∈ lw_all := lw_g (lw_at lw_m8 82 rfl) rfl
theorem q1830 : (Jvm.Cond.code ({ cls := "DocumentaryCreditDeskModel", name := "remember", desc := "()V" } : Jvm.MethodName) prog_14_method_72_code (2 : Nat) (Option.none : Option Jvm.ClassFile.FieldType)) ∈ lw_all := lw_g (lw_at lw_m8 83 rfl) rfl
theorem q1831 : (Jvm.Cond.methodLink "DocumentaryCreditDeskModel" (163 : Nat) ({ cls := "DocumentaryCreditDeskModel", name := "copy", desc := "([I[I)V" } : Jvm.MethodName)) ∈ lw_all := lw_g (lw_at lw_m8 84 rfl) rfl
theorem q1832 : (Jvm.Cond.static ({ cls := "DocumentaryCreditDeskModel", name := "copy", desc := "([I[I)V" } : Jvm.MethodName)) ∈ lw_all := lw_g (lw_at lw_m8 85 rfl) rfl
theorem q1833 : (Jvm.Cond.code ({ cls := "DocumentaryCreditDeskModel", name := "copy", desc := "([I[I)V" } : Jvm.MethodName) prog_14_method_6_code (3 : Nat) (Option.none : Option Jvm.ClassFile.FieldType)) ∈ lw_all := lw_g (lw_at lw_m8 86 rfl) rfl
theorem q1835 : (Jvm.Cond.instanceMethod ({ cls := "DocumentaryCreditDeskModel", name := "errorOffset", desc := "()I" } : Jvm.MethodName)) ∈ lw_all := lw_g (lw_at lw_m8 88 rfl) rfl
theorem q1836 : (Jvm.Cond.selects "DocumentaryCreditDeskModel" ({ cls := "DocumentaryCreditDeskModel", name := "errorOffset", desc := "()I" } : Jvm.MethodName) ({ cls := "DocumentaryCreditDeskModel", name := "errorOffset", desc := "()I" } : Jvm.MethodName)) ∈ lw_all := lw_g (lw_at lw_m8 89 rfl) rfl
theorem q1837 : (Jvm.Cond.code ({ cls := "DocumentaryCreditDeskModel", name := "errorOffset", desc := "()I" } : Jvm.MethodName) prog_14_method_28_code (1 : Nat) (Option.some Jvm.ClassFile.FieldType.int)) ∈ lw_all := lw_g (lw_at lw_m8 90 rfl) rfl
theorem q1839 : (Jvm.Cond.instanceMethod ({ cls := "DocumentaryCreditDeskModel", name := "today", desc := "()I" } : Jvm.MethodName)) ∈ lw_all := lw_g (lw_at lw_m8 92 rfl) rfl
theorem q1840 : (Jvm.Cond.selects "DocumentaryCreditDeskModel" ({ cls := "DocumentaryCreditDeskModel", name := "today", desc := "()I" } : Jvm.MethodName) ({ cls := "DocumentaryCreditDeskModel", name := "today", desc := "()I" } : Jvm.MethodName)) ∈ lw_all := lw_g (lw_at lw_m8 93 rfl) rfl
theorem q1841 : (Jvm.Cond.code ({ cls := "DocumentaryCreditDeskModel", name := "today", desc := "()I" } : Jvm.MethodName) prog_14_method_33_code (1 : Nat) (Option.some Jvm.ClassFile.FieldType.int)) ∈ lw_all := lw_g (lw_at lw_m8 94 rfl) rfl
theorem q1843 : (Jvm.Cond.instanceMethod ({ cls := "DocumentaryCreditDeskModel", name := "isBusinessDay", desc := "(I)Z" } : Jvm.MethodName)) ∈ lw_all := lw_g (lw_at lw_m8 96 rfl) rfl
theorem q1844 : (Jvm.Cond.selects "DocumentaryCreditDeskModel" ({ cls := "DocumentaryCreditDeskModel", name := "isBusinessDay", desc := "(I)Z" } : Jvm.MethodName) ({ cls := "DocumentaryCreditDeskModel", name := "isBusinessDay", desc := "(I)Z" } : Jvm.MethodName)) ∈ lw_all := lw_g (lw_at lw_m8 97 rfl) rfl
theorem q1845 : (Jvm.Cond.code ({ cls := "DocumentaryCreditDeskModel", name := "isBusinessDay", desc := "(I)Z" } : Jvm.MethodName) prog_14_method_34_code (2 : Nat) (Option.some Jvm.ClassFile.FieldType.boolean)) ∈ lw_all := lw_g (lw_at lw_m8 98 rfl) rfl
theorem q1846 : (Jvm.Cond.methodLink "DocumentaryCreditDeskModel" (173 : Nat) ({ cls := "DocumentaryCreditDeskModel", name := "isDay", desc := "(I)Z" } : Jvm.MethodName)) ∈ lw_all := lw_g (lw_at lw_m8 99 rfl) rfl
theorem q1847 : (Jvm.Cond.static ({ cls := "DocumentaryCreditDeskModel", name := "isDay", desc := "(I)Z" } : Jvm.MethodName)) ∈ lw_all := lw_g (lw_at lw_m8 100 rfl) rfl
theorem q1848 : (Jvm.Cond.code ({ cls := "DocumentaryCreditDeskModel", name := "isDay", desc := "(I)Z" } : Jvm.MethodName) prog_14_method_32_code (1 : Nat) (Option.some Jvm.ClassFile.FieldType.boolean)) ∈ lw_all := lw_g (lw_at lw_m8 101 rfl) rfl
theorem q1849 : (Jvm.Cond.methodLink "DocumentaryCreditDeskModel" (167 : Nat) ({ cls := "DocumentaryCreditDeskModel", name := "isBusiness", desc := "(I)Z" } : Jvm.MethodName)) ∈ lw_all := lw_g (lw_at lw_m8 102 rfl) rfl
theorem q1850 : (Jvm.Cond.privateMethod ({ cls := "DocumentaryCreditDeskModel", name := "isBusiness", desc := "(I)Z" } : Jvm.MethodName)) ∈ lw_tbl := lw_at lw_m8 103 rfl
theorem q1851 : (Jvm.Cond.instanceMethod ({ cls := "DocumentaryCreditDeskModel", name := "isBusiness", desc := "(I)Z" } : Jvm.MethodName)) ∈ lw_all := lw_g (lw_at lw_m8 104 rfl) rfl
theorem q1852 : (Jvm.Cond.code ({ cls := "DocumentaryCreditDeskModel", name := "isBusiness", desc := "(I)Z" } : Jvm.MethodName) prog_14_method_29_code (3 : Nat) (Option.some Jvm.ClassFile.FieldType.boolean)) ∈ lw_all := lw_g (lw_at lw_m8 105 rfl) rfl
theorem q1854 : (Jvm.Cond.instanceMethod ({ cls := "DocumentaryCreditDeskModel", name := "extended", desc := "(I)I" } : Jvm.MethodName)) ∈ lw_all := lw_g (lw_at lw_m8 107 rfl) rfl
theorem q1855 : (Jvm.Cond.selects "DocumentaryCreditDeskModel" ({ cls := "DocumentaryCreditDeskModel", name := "extended", desc := "(I)I" } : Jvm.MethodName) ({ cls := "DocumentaryCreditDeskModel", name := "extended", desc := "(I)I" } : Jvm.MethodName)) ∈ lw_all := lw_g (lw_at lw_m8 108 rfl) rfl
theorem q1856 : (Jvm.Cond.code ({ cls := "DocumentaryCreditDeskModel", name := "extended", desc := "(I)I" } : Jvm.MethodName) prog_14_method_35_code (2 : Nat) (Option.some Jvm.ClassFile.FieldType.int)) ∈ lw_all := lw_g (lw_at lw_m8 109 rfl) rfl
theorem q1857 : (Jvm.Cond.methodLink "DocumentaryCreditDeskModel" (170 : Nat) ({ cls := "DocumentaryCreditDeskModel", name := "extend", desc := "(I)I" } : Jvm.MethodName)) ∈ lw_all := lw_g (lw_at lw_m8 110 rfl) rfl
theorem q1858 : (Jvm.Cond.privateMethod ({ cls := "DocumentaryCreditDeskModel", name := "extend", desc := "(I)I" } : Jvm.MethodName)) ∈ lw_tbl := lw_at lw_m8 111 rfl
theorem q1859 : (Jvm.Cond.instanceMethod ({ cls := "DocumentaryCreditDeskModel", name := "extend", desc := "(I)I" } : Jvm.MethodName)) ∈ lw_all := lw_g (lw_at lw_m8 112 rfl) rfl
theorem q1860 : (Jvm.Cond.code ({ cls := "DocumentaryCreditDeskModel", name := "extend", desc := "(I)I" } : Jvm.MethodName) prog_14_method_30_code (3 : Nat) (Option.some Jvm.ClassFile.FieldType.int)) ∈ lw_all := lw_g (lw_at lw_m8 113 rfl) rfl
theorem q1862 : (Jvm.Cond.instanceMethod ({ cls := "DocumentaryCreditDeskModel", name := "addBusinessDays", desc := "(II)I" } : Jvm.MethodName)) ∈ lw_all := lw_g (lw_at lw_m8 115 rfl) rfl
theorem q1863 : (Jvm.Cond.selects "DocumentaryCreditDeskModel" ({ cls := "DocumentaryCreditDeskModel", name := "addBusinessDays", desc := "(II)I" } : Jvm.MethodName) ({ cls := "DocumentaryCreditDeskModel", name := "addBusinessDays", desc := "(II)I" } : Jvm.MethodName)) ∈ lw_all := lw_g (lw_at lw_m8 116 rfl) rfl
theorem q1864 : (Jvm.Cond.code ({ cls := "DocumentaryCreditDeskModel", name := "addBusinessDays", desc := "(II)I" } : Jvm.MethodName) prog_14_method_36_code (3 : Nat) (Option.some Jvm.ClassFile.FieldType.int)) ∈ lw_all := lw_g (lw_at lw_m8 117 rfl) rfl
theorem q1865 : (Jvm.Cond.methodLink "DocumentaryCreditDeskModel" (176 : Nat) ({ cls := "DocumentaryCreditDeskModel", name := "add", desc := "(II)I" } : Jvm.MethodName)) ∈ lw_all := lw_g (lw_at lw_m8 118 rfl) rfl
theorem q1866 : (Jvm.Cond.privateMethod ({ cls := "DocumentaryCreditDeskModel", name := "add", desc := "(II)I" } : Jvm.MethodName)) ∈ lw_tbl := lw_at lw_m8 119 rfl
theorem q1867 : (Jvm.Cond.instanceMethod ({ cls := "DocumentaryCreditDeskModel", name := "add", desc := "(II)I" } : Jvm.MethodName)) ∈ lw_all := lw_g (lw_at lw_m8 120 rfl) rfl
theorem q1868 : (Jvm.Cond.code ({ cls := "DocumentaryCreditDeskModel", name := "add", desc := "(II)I" } : Jvm.MethodName) prog_14_method_31_code (5 : Nat) (Option.some Jvm.ClassFile.FieldType.int)) ∈ lw_all := lw_g (lw_at lw_m8 121 rfl) rfl
theorem q1870 : (Jvm.Cond.instanceMethod ({ cls := "DocumentaryCreditDeskModel", name := "businessDays", desc := "(II)I" } : Jvm.MethodName)) ∈ lw_all := lw_g (lw_at lw_m8 123 rfl) rfl
theorem q1871 : (Jvm.Cond.selects "DocumentaryCreditDeskModel" ({ cls := "DocumentaryCreditDeskModel", name := "businessDays", desc := "(II)I" } : Jvm.MethodName) ({ cls := "DocumentaryCreditDeskModel", name := "businessDays", desc := "(II)I" } : Jvm.MethodName)) ∈ lw_all := lw_g (lw_at lw_m8 124 rfl) rfl
theorem q1872 : (Jvm.Cond.code ({ cls := "DocumentaryCreditDeskModel", name := "businessDays", desc := "(II)I" } : Jvm.MethodName) prog_14_method_37_code (5 : Nat) (Option.some Jvm.ClassFile.FieldType.int)) ∈ lw_all := lw_g (lw_at lw_m8 125 rfl) rfl
theorem q1874 : (Jvm.Cond.instanceMethod ({ cls := "DocumentaryCreditDeskModel", name := "creditCount", desc := "()I" } : Jvm.MethodName)) ∈ lw_all := lw_g (lw_at lw_m8 127 rfl) rfl
theorem q1875 : (Jvm.Cond.selects "DocumentaryCreditDeskModel" ({ cls := "DocumentaryCreditDeskModel", name := "creditCount", desc := "()I" } : Jvm.MethodName) ({ cls := "DocumentaryCreditDeskModel", name := "creditCount", desc := "()I" } : Jvm.MethodName)) ∈ lw_all := lw_g (lw_at lw_m8 128 rfl) rfl
theorem q1876 : (Jvm.Cond.code ({ cls := "DocumentaryCreditDeskModel", name := "creditCount", desc := "()I" } : Jvm.MethodName) prog_14_method_40_code (1 : Nat) (Option.some Jvm.ClassFile.FieldType.int)) ∈ lw_all := lw_g (lw_at lw_m8 129 rfl) rfl
theorem q1878 : (Jvm.Cond.instanceMethod ({ cls := "DocumentaryCreditDeskModel", name := "presentationCount", desc := "()I" } : Jvm.MethodName)) ∈ lw_all := lw_g (lw_at lw_m8 131 rfl) rfl
theorem q1879 : (Jvm.Cond.selects "DocumentaryCreditDeskModel" ({ cls := "DocumentaryCreditDeskModel", name := "presentationCount", desc := "()I" } : Jvm.MethodName) ({ cls := "DocumentaryCreditDeskModel", name := "presentationCount", desc := "()I" } : Jvm.MethodName)) ∈ lw_all := lw_g (lw_at lw_m8 132 rfl) rfl
theorem q1880 : (Jvm.Cond.code ({ cls := "DocumentaryCreditDeskModel", name := "presentationCount", desc := "()I" } : Jvm.MethodName) prog_14_method_41_code (1 : Nat) (Option.some Jvm.ClassFile.FieldType.int)) ∈ lw_all := lw_g (lw_at lw_m8 133 rfl) rfl
theorem q1882 : (Jvm.Cond.instanceMethod ({ cls := "DocumentaryCreditDeskModel", name := "parent", desc := "(I)I" } : Jvm.MethodName)) ∈ lw_all := lw_g (lw_at lw_m8 135 rfl) rfl
theorem q1883 : (Jvm.Cond.selects "DocumentaryCreditDeskModel" ({ cls := "DocumentaryCreditDeskModel", name := "parent", desc := "(I)I" } : Jvm.MethodName) ({ cls := "DocumentaryCreditDeskModel", name := "parent", desc := "(I)I" } : Jvm.MethodName)) ∈ lw_all := lw_g (lw_at lw_m8 136 rfl) rfl
theorem q1884 : (Jvm.Cond.code ({ cls := "DocumentaryCreditDeskModel", name := "parent", desc := "(I)I" } : Jvm.MethodName) prog_14_method_42_code (2 : Nat) (Option.some Jvm.ClassFile.FieldType.int)) ∈ lw_all := lw_g (lw_at lw_m8 137 rfl) rfl
theorem q1885 : (Jvm.Cond.methodLink "DocumentaryCreditDeskModel" (179 : Nat) ({ cls := "DocumentaryCreditDeskModel", name := "noCredit", desc := "(I)Z" } : Jvm.MethodName)) ∈ lw_all := lw_g (lw_at lw_m8 138 rfl) rfl
theorem q1886 : (Jvm.Cond.privateMethod ({ cls := "DocumentaryCreditDeskModel", name := "noCredit", desc := "(I)Z" } : Jvm.MethodName)) ∈ lw_tbl := lw_at lw_m8 139 rfl
theorem q1887 : (Jvm.Cond.instanceMethod ({ cls := "DocumentaryCreditDeskModel", name := "noCredit", desc := "(I)Z" } : Jvm.MethodName)) ∈ lw_all := lw_g (lw_at lw_m8 140 rfl) rfl
theorem q1888 : (Jvm.Cond.code ({ cls := "DocumentaryCreditDeskModel", name := "noCredit", desc := "(I)Z" } : Jvm.MethodName) prog_14_method_38_code (2 : Nat) (Option.some Jvm.ClassFile.FieldType.boolean)) ∈ lw_all := lw_g (lw_at lw_m8 141 rfl) rfl
theorem q1890 : (Jvm.Cond.instanceMethod ({ cls := "DocumentaryCreditDeskModel", name := "bound", desc := "(IZ)I" } : Jvm.MethodName)) ∈ lw_all := lw_g (lw_at lw_m8 143 rfl) rfl
theorem q1891 : (Jvm.Cond.selects "DocumentaryCreditDeskModel" ({ cls := "DocumentaryCreditDeskModel", name := "bound", desc := "(IZ)I" } : Jvm.MethodName) ({ cls := "DocumentaryCreditDeskModel", name := "bound", desc := "(IZ)I" } : Jvm.MethodName)) ∈ lw_all := lw_g (lw_at lw_m8 144 rfl) rfl
theorem q1892 : (Jvm.Cond.code ({ cls := "DocumentaryCreditDeskModel", name := "bound", desc := "(IZ)I" } : Jvm.MethodName) prog_14_method_45_code (3 : Nat) (Option.some Jvm.ClassFile.FieldType.int)) ∈ lw_all := lw_g (lw_at lw_m8 145 rfl) rfl
theorem q1893 : (Jvm.Cond.methodLink "DocumentaryCreditDeskModel" (182 : Nat) ({ cls := "DocumentaryCreditDeskModel", name := "most", desc := "(I)I" } : Jvm.MethodName)) ∈ lw_all := lw_g (lw_at lw_m8 146 rfl) rfl
theorem q1894 : (Jvm.Cond.privateMethod ({ cls := "DocumentaryCreditDeskModel", name := "most", desc := "(I)I" } : Jvm.MethodName)) ∈ lw_tbl := lw_at lw_m8 147 rfl
theorem q1895 : (Jvm.Cond.instanceMethod ({ cls := "DocumentaryCreditDeskModel", name := "most", desc := "(I)I" } : Jvm.MethodName)) ∈ lw_all := lw_g (lw_at lw_m8 148 rfl) rfl
theorem q1896 : (Jvm.Cond.code ({ cls := "DocumentaryCreditDeskModel", name := "most", desc := "(I)I" } : Jvm.MethodName) prog_14_method_43_code (2 : Nat) (Option.some Jvm.ClassFile.FieldType.int)) ∈ lw_all := lw_g (lw_at lw_m8 149 rfl) rfl
theorem q1897 : (Jvm.Cond.methodLink "DocumentaryCreditDeskModel" (185 : Nat) ({ cls := "DocumentaryCreditDeskModel", name := "least", desc := "(I)I" } : Jvm.MethodName)) ∈ lw_all := lw_g (lw_at lw_m8 150 rfl) rfl
theorem q1898 : (Jvm.Cond.privateMethod ({ cls := "DocumentaryCreditDeskModel", name := "least", desc := "(I)I" } : Jvm.MethodName)) ∈ lw_tbl := lw_at lw_m8 151 rfl
theorem q1899 : (Jvm.Cond.instanceMethod ({ cls := "DocumentaryCreditDeskModel", name := "least", desc := "(I)I" } : Jvm.MethodName)) ∈ lw_all := lw_g (lw_at lw_m8 152 rfl) rfl
theorem q1900 : (Jvm.Cond.code ({ cls := "DocumentaryCreditDeskModel", name := "least", desc := "(I)I" } : Jvm.MethodName) prog_14_method_44_code (2 : Nat) (Option.some Jvm.ClassFile.FieldType.int)) ∈ lw_all := lw_g (lw_at lw_m8 153 rfl) rfl
theorem q1902 : (Jvm.Cond.instanceMethod ({ cls := "DocumentaryCreditDeskModel", name := "expiry", desc := "(I)I" } : Jvm.MethodName)) ∈ lw_all := lw_g (lw_at lw_m8 155 rfl) rfl
theorem q1903 : (Jvm.Cond.selects "DocumentaryCreditDeskModel" ({ cls := "DocumentaryCreditDeskModel", name := "expiry", desc := "(I)I" } : Jvm.MethodName) ({ cls := "DocumentaryCreditDeskModel", name := "expiry", desc := "(I)I" } : Jvm.MethodName)) ∈ lw_all := lw_g (lw_at lw_m8 156 rfl) rfl
theorem q1904 : (Jvm.Cond.code ({ cls := "DocumentaryCreditDeskModel", name := "expiry", desc := "(I)I" } : Jvm.MethodName) prog_14_method_46_code (2 : Nat) (Option.some Jvm.ClassFile.FieldType.int)) ∈ lw_all := lw_g (lw_at lw_m8 157 rfl) rfl
theorem q1906 : (Jvm.Cond.instanceMethod ({ cls := "DocumentaryCreditDeskModel", name := "drawn", desc := "(I)I" } : Jvm.MethodName)) ∈ lw_all := lw_g (lw_at lw_m8 159 rfl) rfl
theorem q1907 : (Jvm.Cond.selects "DocumentaryCreditDeskModel" ({ cls := "DocumentaryCreditDeskModel", name := "drawn", desc := "(I)I" } : Jvm.MethodName) ({ cls := "DocumentaryCreditDeskModel", name := "drawn", desc := "(I)I" } : Jvm.MethodName)) ∈ lw_all := lw_g (lw_at lw_m8 160 rfl) rfl
theorem q1908 : (Jvm.Cond.code ({ cls := "DocumentaryCreditDeskModel", name := "drawn", desc := "(I)I" } : Jvm.MethodName) prog_14_method_51_code (2 : Nat) (Option.some Jvm.ClassFile.FieldType.int)) ∈ lw_all := lw_g (lw_at lw_m8 161 rfl) rfl
theorem q1909 : (Jvm.Cond.methodLink "DocumentaryCreditDeskModel" (195 : Nat) ({ cls := "DocumentaryCreditDeskModel", name := "drawnOf", desc := "(I)I" } : Jvm.MethodName)) ∈ lw_all := lw_g (lw_at lw_m8 162 rfl) rfl
theorem q1910 : (Jvm.Cond.privateMethod ({ cls := "DocumentaryCreditDeskModel", name := "drawnOf", desc := "(I)I" } : Jvm.MethodName)) ∈ lw_tbl := lw_at lw_m8 163 rfl
theorem q1911 : (Jvm.Cond.instanceMethod ({ cls := "DocumentaryCreditDeskModel", name := "drawnOf", desc := "(I)I" } : Jvm.MethodName)) ∈ lw_all := lw_g (lw_at lw_m8 164 rfl) rfl
theorem q1912 : (Jvm.Cond.code ({ cls := "DocumentaryCreditDeskModel", name := "drawnOf", desc := "(I)I" } : Jvm.MethodName) prog_14_method_48_code (4 : Nat) (Option.some Jvm.ClassFile.FieldType.int)) ∈ lw_all := lw_g (lw_at lw_m8 165 rfl) rfl
theorem q1913 : (Jvm.Cond.methodLink "DocumentaryCreditDeskModel" (191 : Nat) ({ cls := "DocumentaryCreditDeskModel", name := "stands", desc := "(II)Z" } : Jvm.MethodName)) ∈ lw_all := lw_g (lw_at lw_m8 166 rfl) rfl
theorem q1914 : (Jvm.Cond.privateMethod ({ cls := "DocumentaryCreditDeskModel", name := "stands", desc := "(II)Z" } : Jvm.MethodName)) ∈ lw_tbl := lw_at lw_m8 167 rfl
theorem q1915 : (Jvm.Cond.instanceMethod ({ cls := "DocumentaryCreditDeskModel", name := "stands", desc := "(II)Z" } : Jvm.MethodName)) ∈ lw_all := lw_g (lw_at lw_m8 168 rfl) rfl
theorem q1916 : (Jvm.Cond.code ({ cls := "DocumentaryCreditDeskModel", name := "stands", desc := "(II)Z" } : Jvm.MethodName) prog_14_method_47_code (3 : Nat) (Option.some Jvm.ClassFile.FieldType.boolean)) ∈ lw_all := lw_g (lw_at lw_m8 169 rfl) rfl
theorem q1917 : (Jvm.Cond.methodLink "DocumentaryCreditDeskModel" (188 : Nat) ({ cls := "DocumentaryCreditDeskModel", name := "presentation", desc := "(I)I" } : Jvm.MethodName)) ∈ lw_all := lw_g (lw_at lw_m8 170 rfl) rfl
theorem q1918 : (Jvm.Cond.static ({ cls := "DocumentaryCreditDeskModel", name := "presentation", desc := "(I)I" } : Jvm.MethodName)) ∈ lw_all := lw_g (lw_at lw_m8 171 rfl) rfl
theorem q1919 : (Jvm.Cond.code ({ cls := "DocumentaryCreditDeskModel", name := "presentation", desc := "(I)I" } : Jvm.MethodName) prog_14_method_8_code (1 : Nat) (Option.some Jvm.ClassFile.FieldType.int)) ∈ lw_all := lw_g (lw_at lw_m8 172 rfl) rfl
theorem q1921 : (Jvm.Cond.instanceMethod ({ cls := "DocumentaryCreditDeskModel", name := "transferred", desc := "(I)I" } : Jvm.MethodName)) ∈ lw_all := lw_g (lw_at lw_m8 174 rfl) rfl
theorem q1922 : (Jvm.Cond.selects "DocumentaryCreditDeskModel" ({ cls := "DocumentaryCreditDeskModel", name := "transferred", desc := "(I)I" } : Jvm.MethodName) ({ cls := "DocumentaryCreditDeskModel", name := "transferred", desc := "(I)I" } : Jvm.MethodName)) ∈ lw_all := lw_g (lw_at lw_m8 175 rfl) rfl
theorem q1923 : (Jvm.Cond.code ({ cls := "DocumentaryCreditDeskModel", name := "transferred", desc := "(I)I" } : Jvm.MethodName) prog_14_method_52_code (2 : Nat) (Option.some Jvm.ClassFile.FieldType.int)) ∈ lw_all := lw_g (lw_at lw_m8 176 rfl) rfl
theorem q1924 : (Jvm.Cond.methodLink "DocumentaryCreditDeskModel" (198 : Nat) ({ cls := "DocumentaryCreditDeskModel", name := "transferredOf", desc := "(I)I" } : Jvm.MethodName)) ∈ lw_all := lw_g (lw_at lw_m8 177 rfl) rfl
theorem q1925 : (Jvm.Cond.privateMethod ({ cls := "DocumentaryCreditDeskModel", name := "transferredOf", desc := "(I)I" } : Jvm.MethodName)) ∈ lw_tbl := lw_at lw_m8 178 rfl
theorem q1926 : (Jvm.Cond.instanceMethod ({ cls := "DocumentaryCreditDeskModel", name := "transferredOf", desc := "(I)I" } : Jvm.MethodName)) ∈ lw_all := lw_g (lw_at lw_m8 179 rfl) rfl
theorem q1927 : (Jvm.Cond.code ({ cls := "DocumentaryCreditDeskModel", name := "transferredOf", desc := "(I)I" } : Jvm.MethodName) prog_14_method_49_code (4 : Nat) (Option.some Jvm.ClassFile.FieldType.int)) ∈ lw_all := lw_g (lw_at lw_m8 180 rfl) rfl
theorem q1929 : (Jvm.Cond.instanceMethod ({ cls := "DocumentaryCreditDeskModel", name := "available", desc := "(I)I" } : Jvm.MethodName)) ∈ lw_all := lw_g (lw_at lw_m8 182 rfl) rfl
theorem q1930 : (Jvm.Cond.selects "DocumentaryCreditDeskModel" ({ cls := "DocumentaryCreditDeskModel", name := "available", desc := "(I)I" } : Jvm.MethodName) ({ cls := "DocumentaryCreditDeskModel", name := "available", desc := "(I)I" } : Jvm.MethodName)) ∈ lw_all := lw_g (lw_at lw_m8 183 rfl) rfl
theorem q1931 : (Jvm.Cond.code ({ cls := "DocumentaryCreditDeskModel", name := "available", desc := "(I)I" } : Jvm.MethodName) prog_14_method_53_code (2 : Nat) (Option.some Jvm.ClassFile.FieldType.int)) ∈ lw_all := lw_g (lw_at lw_m8 184 rfl) rfl
theorem q1932 : (Jvm.Cond.methodLink "DocumentaryCreditDeskModel" (201 : Nat) ({ cls := "DocumentaryCreditDeskModel", name := "availableOf", desc := "(I)I" } : Jvm.MethodName)) ∈ lw_all := lw_g (lw_at lw_m8 185 rfl) rfl
theorem q1933 : (Jvm.Cond.privateMethod ({ cls := "DocumentaryCreditDeskModel", name := "availableOf", desc := "(I)I" } : Jvm.MethodName)) ∈ lw_tbl := lw_at lw_m8 186 rfl
theorem q1934 : (Jvm.Cond.instanceMethod ({ cls := "DocumentaryCreditDeskModel", name := "availableOf", desc := "(I)I" } : Jvm.MethodName)) ∈ lw_all := lw_g (lw_at lw_m8 187 rfl) rfl
theorem q1935 : (Jvm.Cond.code ({ cls := "DocumentaryCreditDeskModel", name := "availableOf", desc := "(I)I" } : Jvm.MethodName) prog_14_method_50_code (2 : Nat) (Option.some Jvm.ClassFile.FieldType.int)) ∈ lw_all := lw_g (lw_at lw_m8 188 rfl) rfl
theorem q1937 : (Jvm.Cond.instanceMethod ({ cls := "DocumentaryCreditDeskModel", name := "check", desc := "(IIIII)I" } : Jvm.MethodName)) ∈ lw_all := lw_g (lw_at lw_m8 190 rfl) rfl
theorem q1938 : (Jvm.Cond.selects "DocumentaryCreditDeskModel" ({ cls := "DocumentaryCreditDeskModel", name := "check", desc := "(IIIII)I" } : Jvm.MethodName) ({ cls := "DocumentaryCreditDeskModel", name := "check", desc := "(IIIII)I" } : Jvm.MethodName)) ∈ lw_all := lw_g (lw_at lw_m8 191 rfl) rfl
theorem q1939 : (Jvm.Cond.code ({ cls := "DocumentaryCreditDeskModel", name := "check", desc := "(IIIII)I" } : Jvm.MethodName) prog_14_method_57_code (6 : Nat) (Option.some Jvm.ClassFile.FieldType.int)) ∈ lw_all := lw_g (lw_at lw_m8 192 rfl) rfl
theorem q1940 : (Jvm.Cond.methodLink "DocumentaryCreditDeskModel" (208 : Nat) ({ cls := "DocumentaryCreditDeskModel", name := "isWrong", desc := "(IIII)Z" } : Jvm.MethodName)) ∈ lw_all := lw_g (lw_at lw_m8 193 rfl) rfl
theorem q1941 : (Jvm.Cond.privateMethod ({ cls := "DocumentaryCreditDeskModel", name := "isWrong", desc := "(IIII)Z" } : Jvm.MethodName)) ∈ lw_tbl := lw_at lw_m8 194 rfl
theorem q1942 : (Jvm.Cond.instanceMethod ({ cls := "DocumentaryCreditDeskModel", name := "isWrong", desc := "(IIII)Z" } : Jvm.MethodName)) ∈ lw_all := lw_g (lw_at lw_m8 195 rfl) rfl
theorem q1943 : (Jvm.Cond.code ({ cls := "DocumentaryCreditDeskModel", name := "isWrong", desc := "(IIII)Z" } : Jvm.MethodName) prog_14_method_56_code (5 : Nat) (Option.some Jvm.ClassFile.FieldType.boolean)) ∈ lw_all := lw_g (lw_at lw_m8 196 rfl) rfl
theorem q1944 : (Jvm.Cond.constant "DocumentaryCreditDeskModel" (207 : Nat) (1999999 : Int32)) ∈ lw_all := lw_g (lw_at lw_m8 197 rfl) rfl
theorem q1945 : (Jvm.Cond.methodLink "DocumentaryCreditDeskModel" (212 : Nat) ({ cls := "DocumentaryCreditDeskModel", name := "faultsOf", desc := "(IIIII)I" } : Jvm.MethodName)) ∈ lw_all := lw_g (lw_at lw_m8 198 rfl) rfl
theorem q1946 : (Jvm.Cond.privateMethod ({ cls := "DocumentaryCreditDeskModel", name := "faultsOf", desc := "(IIIII)I" } : Jvm.MethodName)) ∈ lw_tbl := lw_at lw_m8 199 rfl
theorem q1947 : (Jvm.Cond.instanceMethod ({ cls := "DocumentaryCreditDeskModel", name := "faultsOf", desc := "(IIIII)I" } : Jvm.MethodName)) ∈ lw_all := lw_g (lw_at lw_m8 200 rfl) rfl
theorem q1948 : (Jvm.Cond.code ({ cls := "DocumentaryCreditDeskModel", name := "faultsOf", desc := "(IIIII)I" } : Jvm.MethodName) prog_14_method_55_code (11 : Nat) (Option.some Jvm.ClassFile.FieldType.int)) ∈ lw_all := lw_g (lw_at lw_m8 201 rfl) rfl
theorem q1949 : (Jvm.Cond.methodLink "DocumentaryCreditDeskModel" (204 : Nat) ({ cls := "DocumentaryCreditDeskModel", name := "lastDayOf", desc := "(II)I" } : Jvm.MethodName)) ∈ lw_all := lw_g (lw_at lw_m8 202 rfl) rfl
theorem q1950 : (Jvm.Cond.privateMethod ({ cls := "DocumentaryCreditDeskModel", name := "lastDayOf", desc := "(II)I" } : Jvm.MethodName)) ∈ lw_tbl := lw_at lw_m8 203 rfl
theorem q1951 : (Jvm.Cond.instanceMethod ({ cls := "DocumentaryCreditDeskModel", name := "lastDayOf", desc := "(II)I" } : Jvm.MethodName)) ∈ lw_all := lw_g (lw_at lw_m8 204 rfl) rfl
theorem q1952 : (Jvm.Cond.code ({ cls := "DocumentaryCreditDeskModel", name := "lastDayOf", desc := "(II)I" } : Jvm.MethodName) prog_14_method_54_code (3 : Nat) (Option.some Jvm.ClassFile.FieldType.int)) ∈ lw_all := lw_g (lw_at lw_m8 205 rfl) rfl
theorem q1954 : (Jvm.Cond.instanceMethod ({ cls := "DocumentaryCreditDeskModel", name := "lastDay", desc := "(II)I" } : Jvm.MethodName)) ∈ lw_all := lw_g (lw_at lw_m8 207 rfl) rfl
theorem q1955 : (Jvm.Cond.selects "DocumentaryCreditDeskModel" ({ cls := "DocumentaryCreditDeskModel", name := "lastDay", desc := "(II)I" } : Jvm.MethodName) ({ cls := "DocumentaryCreditDeskModel", name := "lastDay", desc := "(II)I" } : Jvm.MethodName)) ∈ lw_all := lw_g (lw_at lw_m8 208 rfl) rfl
theorem q1956 : (Jvm.Cond.code ({ cls := "DocumentaryCreditDeskModel", name := "lastDay", desc := "(II)I" } : Jvm.MethodName) prog_14_method_58_code (3 : Nat) (Option.some Jvm.ClassFile.FieldType.int)) ∈ lw_all := lw_g (lw_at lw_m8 209 rfl) rfl
theorem q1958 : (Jvm.Cond.instanceMethod ({ cls := "DocumentaryCreditDeskModel", name := "creditOf", desc := "(I)I" } : Jvm.MethodName)) ∈ lw_all := lw_g (lw_at lw_m8 211 rfl) rfl
theorem q1959 : (Jvm.Cond.selects "DocumentaryCreditDeskModel" ({ cls := "DocumentaryCreditDeskModel", name := "creditOf", desc := "(I)I" } : Jvm.MethodName) ({ cls := "DocumentaryCreditDeskModel", name := "creditOf", desc := "(I)I" } : Jvm.MethodName)) ∈ lw_all := lw_g (lw_at lw_m8 212 rfl) rfl
theorem q1960 : (Jvm.Cond.code ({ cls := "DocumentaryCreditDeskModel", name := "creditOf", desc := "(I)I" } : Jvm.MethodName) prog_14_method_59_code (2 : Nat) (Option.some Jvm.ClassFile.FieldType.int)) ∈ lw_all := lw_g (lw_at lw_m8 213 rfl) rfl
theorem q1961 : (Jvm.Cond.methodLink "DocumentaryCreditDeskModel" (216 : Nat) ({ cls := "DocumentaryCreditDeskModel", name := "noPresentation", desc := "(I)Z" } : Jvm.MethodName)) ∈ lw_all := lw_g (lw_at lw_m8 214 rfl) rfl
theorem q1962 : (Jvm.Cond.privateMethod ({ cls := "DocumentaryCreditDeskModel", name := "noPresentation", desc := "(I)Z" } : Jvm.MethodName)) ∈ lw_tbl := lw_at lw_m8 215 rfl
theorem q1963 : (Jvm.Cond.instanceMethod ({ cls := "DocumentaryCreditDeskModel", name := "noPresentation", desc := "(I)Z" } : Jvm.MethodName)) ∈ lw_all := lw_g (lw_at lw_m8 216 rfl) rfl
theorem q1964 : (Jvm.Cond.code ({ cls := "DocumentaryCreditDeskModel", name := "noPresentation", desc := "(I)Z" } : Jvm.MethodName) prog_14_method_39_code (2 : Nat) (Option.some Jvm.ClassFile.FieldType.boolean)) ∈ lw_all := lw_g (lw_at lw_m8 217 rfl) rfl
theorem q1966 : (Jvm.Cond.instanceMethod ({ cls := "DocumentaryCreditDeskModel", name := "state", desc := "(I)I" } : Jvm.MethodName)) ∈ lw_all := lw_g (lw_at lw_m8 219 rfl) rfl
theorem q1967 : (Jvm.Cond.selects "DocumentaryCreditDeskModel" ({ cls := "DocumentaryCreditDeskModel", name := "state", desc := "(I)I" } : Jvm.MethodName) ({ cls := "DocumentaryCreditDeskModel", name := "state", desc := "(I)I" } : Jvm.MethodName)) ∈ lw_all := lw_g (lw_at lw_m8 220 rfl) rfl
theorem q1968 : (Jvm.Cond.code ({ cls := "DocumentaryCreditDeskModel", name := "state", desc := "(I)I" } : Jvm.MethodName) prog_14_method_60_code (2 : Nat) (Option.some Jvm.ClassFile.FieldType.int)) ∈ lw_all := lw_g (lw_at lw_m8 221 rfl) rfl
theorem q1970 : (Jvm.Cond.instanceMethod ({ cls := "DocumentaryCreditDeskModel", name := "discrepancies", desc := "(I)I" } : Jvm.MethodName)) ∈ lw_all := lw_g (lw_at lw_m8 223 rfl) rfl
theorem q1971 : (Jvm.Cond.selects "DocumentaryCreditDeskModel" ({ cls := "DocumentaryCreditDeskModel", name := "discrepancies", desc := "(I)I" } : Jvm.MethodName) ({ cls := "DocumentaryCreditDeskModel", name := "discrepancies", desc := "(I)I" } : Jvm.MethodName)) ∈ lw_all := lw_g (lw_at lw_m8 224 rfl) rfl
theorem q1972 : (Jvm.Cond.code ({ cls := "DocumentaryCreditDeskModel", name := "discrepancies", desc := "(I)I" } : Jvm.MethodName) prog_14_method_61_code (2 : Nat) (Option.some Jvm.ClassFile.FieldType.int)) ∈ lw_all := lw_g (lw_at lw_m8 225 rfl) rfl
theorem q1974 : (Jvm.Cond.instanceMethod ({ cls := "DocumentaryCreditDeskModel", name := "deadline", desc := "(I)I" } : Jvm.MethodName)) ∈ lw_all := lw_g (lw_at lw_m8 227 rfl) rfl
theorem q1975 : (Jvm.Cond.selects "DocumentaryCreditDeskModel" ({ cls := "DocumentaryCreditDeskModel", name := "deadline", desc := "(I)I" } : Jvm.MethodName) ({ cls := "DocumentaryCreditDeskModel", name := "deadline", desc := "(I)I" } : Jvm.MethodName)) ∈ lw_all := lw_g (lw_at lw_m8 228 rfl) rfl
theorem q1976 : (Jvm.Cond.code ({ cls := "DocumentaryCreditDeskModel", name := "deadline", desc := "(I)I" } : Jvm.MethodName) prog_14_method_63_code (2 : Nat) (Option.some Jvm.ClassFile.FieldType.int)) ∈ lw_all := lw_g (lw_at lw_m8 229 rfl) rfl
theorem q1977 : (Jvm.Cond.methodLink "DocumentaryCreditDeskModel" (219 : Nat) ({ cls := "DocumentaryCreditDeskModel", name := "deadlineOf", desc := "(I)I" } : Jvm.MethodName)) ∈ lw_all := lw_g (lw_at lw_m8 230 rfl) rfl
theorem q1978 : (Jvm.Cond.privateMethod ({ cls := "DocumentaryCreditDeskModel", name := "deadlineOf", desc := "(I)I" } : Jvm.MethodName)) ∈ lw_tbl := lw_at lw_m8 231 rfl
theorem q1979 : (Jvm.Cond.instanceMethod ({ cls := "DocumentaryCreditDeskModel", name := "deadlineOf", desc := "(I)I" } : Jvm.MethodName)) ∈ lw_all := lw_g (lw_at lw_m8 232 rfl) rfl
theorem q1980 : (Jvm.Cond.code ({ cls := "DocumentaryCreditDeskModel", name := "deadlineOf", desc := "(I)I" } : Jvm.MethodName) prog_14_method_62_code (2 : Nat) (Option.some Jvm.ClassFile.FieldType.int)) ∈ lw_all := lw_g (lw_at lw_m8 233 rfl) rfl
theorem q1982 : (Jvm.Cond.instanceMethod ({ cls := "DocumentaryCreditDeskModel", name := "dueDay", desc := "(I)I" } : Jvm.MethodName)) ∈ lw_all := lw_g (lw_at lw_m8 235 rfl) rfl
theorem q1983 : (Jvm.Cond.selects "DocumentaryCreditDeskModel" ({ cls := "DocumentaryCreditDeskModel", name := "dueDay", desc := "(I)I" } : Jvm.MethodName) ({ cls := "DocumentaryCreditDeskModel", name := "dueDay", desc := "(I)I" } : Jvm.MethodName)) ∈ lw_all := lw_g (lw_at lw_m8 236 rfl) rfl
theorem q1984 : (Jvm.Cond.code ({ cls := "DocumentaryCreditDeskModel", name := "dueDay", desc := "(I)I" } : Jvm.MethodName) prog_14_method_65_code (2 : Nat) (Option.some Jvm.ClassFile.FieldType.int)) ∈ lw_all := lw_g (lw_at lw_m8 237 rfl) rfl
theorem q1985 : (Jvm.Cond.methodLink "DocumentaryCreditDeskModel" (222 : Nat) ({ cls := "DocumentaryCreditDeskModel", name := "dueOf", desc := "(I)I" } : Jvm.MethodName)) ∈ lw_all := lw_g (lw_at lw_m8 238 rfl) rfl
theorem q1986 : (Jvm.Cond.privateMethod ({ cls := "DocumentaryCreditDeskModel", name := "dueOf", desc := "(I)I" } : Jvm.MethodName)) ∈ lw_tbl := lw_at lw_m8 239 rfl
theorem q1987 : (Jvm.Cond.instanceMethod ({ cls := "DocumentaryCreditDeskModel", name := "dueOf", desc := "(I)I" } : Jvm.MethodName)) ∈ lw_all := lw_g (lw_at lw_m9 0 rfl) rfl
theorem q1988 : (Jvm.Cond.code ({ cls := "DocumentaryCreditDeskModel", name := "dueOf", desc := "(I)I" } : Jvm.MethodName) prog_14_method_64_code (3 : Nat) (Option.some Jvm.ClassFile.FieldType.int)) ∈ lw_all := lw_g (lw_at lw_m9 1 rfl) rfl
theorem q1990 : (Jvm.Cond.instanceMethod ({ cls := "DocumentaryCreditDeskModel", name := "dueBetween", desc := "(II)J" } : Jvm.MethodName)) ∈ lw_all := lw_g (lw_at lw_m9 3 rfl) rfl
theorem q1991 : (Jvm.Cond.selects "DocumentaryCreditDeskModel" ({ cls := "DocumentaryCreditDeskModel", name := "dueBetween", desc := "(II)J" } : Jvm.MethodName) ({ cls := "DocumentaryCreditDeskModel", name := "dueBetween", desc := "(II)J" } : Jvm.MethodName)) ∈ lw_all := lw_g (lw_at lw_m9 4 rfl) rfl
theorem q1992 : (Jvm.Cond.code ({ cls := "DocumentaryCreditDeskModel", name := "dueBetween", desc := "(II)J" } : Jvm.MethodName) prog_14_method_66_code (7 : Nat) (Option.some Jvm.ClassFile.FieldType.long)) ∈ lw_all := lw_g (lw_at lw_m9 5 rfl) rfl
theorem q1994 : (Jvm.Cond.instanceMethod ({ cls := "DocumentaryCreditDeskModel", name := "fee", desc := "(I)I" } : Jvm.MethodName)) ∈ lw_all := lw_g (lw_at lw_m9 7 rfl) rfl
theorem q1995 : (Jvm.Cond.selects "DocumentaryCreditDeskModel" ({ cls := "DocumentaryCreditDeskModel", name := "fee", desc := "(I)I" } : Jvm.MethodName) ({ cls := "DocumentaryCreditDeskModel", name := "fee", desc := "(I)I" } : Jvm.MethodName)) ∈ lw_all := lw_g (lw_at lw_m9 8 rfl) rfl
theorem q1996 : (Jvm.Cond.code ({ cls := "DocumentaryCreditDeskModel", name := "fee", desc := "(I)I" } : Jvm.MethodName) prog_14_method_70_code (5 : Nat) (Option.some Jvm.ClassFile.FieldType.int)) ∈ lw_all := lw_g (lw_at lw_m9 9 rfl) rfl
theorem q1997 : (Jvm.Cond.methodLink "DocumentaryCreditDeskModel" (233 : Nat) ({ cls := "DocumentaryCreditDeskModel", name := "variable", desc := "(II)I" } : Jvm.MethodName)) ∈ lw_all := lw_g (lw_at lw_m9 10 rfl) rfl
theorem q1998 : (Jvm.Cond.privateMethod ({ cls := "DocumentaryCreditDeskModel", name := "variable", desc := "(II)I" } : Jvm.MethodName)) ∈ lw_tbl := lw_at lw_m9 11 rfl
theorem q1999 : (Jvm.Cond.instanceMethod ({ cls := "DocumentaryCreditDeskModel", name := "variable", desc := "(II)I" } : Jvm.MethodName)) ∈ lw_all := lw_g (lw_at lw_m9 12 rfl) rfl
theorem q2000 : (Jvm.Cond.code ({ cls := "DocumentaryCreditDeskModel", name := "variable", desc := "(II)I" } : Jvm.MethodName) prog_14_method_69_code (6 : Nat) (Option.some Jvm.ClassFile.FieldType.int)) ∈ lw_all := lw_g (lw_at lw_m9 13 rfl) rfl
theorem q2001 : (Jvm.Cond.methodLink "DocumentaryCreditDeskModel" (236 : Nat) ({ cls := "DocumentaryCreditDeskModel", name := "operate", desc := "(IJJ)J" } : Jvm.MethodName)) ∈ lw_all := lw_g (lw_at lw_m9 14 rfl) rfl
theorem q2002 : (Jvm.Cond.static ({ cls := "DocumentaryCreditDeskModel", name := "operate", desc := "(IJJ)J" } : Jvm.MethodName)) ∈ lw_all := lw_g (lw_at lw_m9 15 rfl) rfl
theorem q2003 : (Jvm.Cond.code ({ cls := "DocumentaryCreditDeskModel", name := "operate", desc := "(IJJ)J" } : Jvm.MethodName) prog_14_method_68_code (5 : Nat) (Option.some Jvm.ClassFile.FieldType.long)) ∈ lw_all := lw_g (lw_at lw_m9 16 rfl) rfl
theorem q2004 : (Jvm.Cond.methodLink "DocumentaryCreditDeskModel" (229 : Nat) ({ cls := "DocumentaryCreditDeskModel", name := "limited", desc := "(J)J" } : Jvm.MethodName)) ∈ lw_all := lw_g (lw_at lw_m9 17 rfl) rfl
theorem q2005 : (Jvm.Cond.static ({ cls := "DocumentaryCreditDeskModel", name := "limited", desc := "(J)J" } : Jvm.MethodName)) ∈ lw_all := lw_g (lw_at lw_m9 18 rfl) rfl
theorem q2006 : (Jvm.Cond.code ({ cls := "DocumentaryCreditDeskModel", name := "limited", desc := "(J)J" } : Jvm.MethodName) prog_14_method_67_code (2 : Nat) (Option.some Jvm.ClassFile.FieldType.long)) ∈ lw_all := lw_g (lw_at lw_m9 19 rfl) rfl
theorem q2007 : (Jvm.Cond.constantLong "DocumentaryCreditDeskModel" (225 : Nat) (100000000 : Int64)) ∈ lw_all := lw_g (lw_at lw_m9 20 rfl) rfl
theorem q2008 : (Jvm.Cond.constantLong "DocumentaryCreditDeskModel" (227 : Nat) (-100000000 : Int64)) ∈ lw_all := lw_g (lw_at lw_m9 21 rfl) rfl
theorem q2009 : (Jvm.Cond.constantLong "DocumentaryCreditDeskModel" (240 : Nat) (999999 : Int64)) ∈ lw_all := lw_g (lw_at lw_m9 22 rfl) rfl
theorem q2011 : (Jvm.Cond.instanceMethod ({ cls := "DocumentaryCreditDeskModel", name := "bestFit", desc := "(I)I" } : Jvm.MethodName)) ∈ lw_all := lw_g (lw_at lw_m9 24 rfl) rfl
theorem q2012 : (Jvm.Cond.selects "DocumentaryCreditDeskModel" ({ cls := "DocumentaryCreditDeskModel", name := "bestFit", desc := "(I)I" } : Jvm.MethodName) ({ cls := "DocumentaryCreditDeskModel", name := "bestFit", desc := "(I)I" } : Jvm.MethodName)) ∈ lw_all := lw_g (lw_at lw_m9 25 rfl) rfl
theorem q2013 : (Jvm.Cond.code ({ cls := "DocumentaryCreditDeskModel", name := "bestFit", desc := "(I)I" } : Jvm.MethodName) prog_14_method_71_code (10 : Nat) (Option.some Jvm.ClassFile.FieldType.int)) ∈ lw_all := lw_g (lw_at lw_m9 26 rfl) rfl
theorem q2015 : (Jvm.Cond.instanceMethod ({ cls := "DocumentaryCreditDeskModel", name := "present", desc := "(IIIII)I" } : Jvm.MethodName)) ∈ lw_all := lw_g (lw_at lw_m9 28 rfl) rfl
theorem q2016 : (Jvm.Cond.selects "DocumentaryCreditDeskModel" ({ cls := "DocumentaryCreditDeskModel", name := "present", desc := "(IIIII)I" } : Jvm.MethodName) ({ cls := "DocumentaryCreditDeskModel", name := "present", desc := "(IIIII)I" } : Jvm.MethodName)) ∈ lw_all := lw_g (lw_at lw_m9 29 rfl) rfl
theorem q2017 : (Jvm.Cond.code ({ cls := "DocumentaryCreditDeskModel", name := "present", desc := "(IIIII)I" } : Jvm.MethodName) prog_14_method_73_code (9 : Nat) (Option.some Jvm.ClassFile.FieldType.int)) ∈ lw_all := lw_g (lw_at lw_m9 30 rfl) rfl
theorem q2019 : (Jvm.Cond.instanceMethod ({ cls := "DocumentaryCreditDeskModel", name := "examine", desc := "(I)I" } : Jvm.MethodName)) ∈ lw_all := lw_g (lw_at lw_m9 32 rfl) rfl
theorem q2020 : (Jvm.Cond.selects "DocumentaryCreditDeskModel" ({ cls := "DocumentaryCreditDeskModel", name := "examine", desc := "(I)I" } : Jvm.MethodName) ({ cls := "DocumentaryCreditDeskModel", name := "examine", desc := "(I)I" } : Jvm.MethodName)) ∈ lw_all := lw_g (lw_at lw_m9 33 rfl) rfl
theorem q2021 : (Jvm.Cond.code ({ cls := "DocumentaryCreditDeskModel", name := "examine", desc := "(I)I" } : Jvm.MethodName) prog_14_method_75_code (4 : Nat) (Option.some Jvm.ClassFile.FieldType.int)) ∈ lw_all := lw_g (lw_at lw_m9 34 rfl) rfl
theorem q2022 : (Jvm.Cond.methodLink "DocumentaryCreditDeskModel" (245 : Nat) ({ cls := "DocumentaryCreditDeskModel", name := "honour", desc := "(I)V" } : Jvm.MethodName)) ∈ lw_all := lw_g (lw_at lw_m9 35 rfl) rfl
theorem q2023 : (Jvm.Cond.privateMethod ({ cls := "DocumentaryCreditDeskModel", name := "honour", desc := "(I)V" } : Jvm.MethodName)) ∈ lw_tbl := lw_at lw_m9 36 rfl
theorem q2024 : (Jvm.Cond.instanceMethod ({ cls := "DocumentaryCreditDeskModel", name := "honour", desc := "(I)V" } : Jvm.MethodName)) ∈ lw_all := lw_g (lw_at lw_m9 37 rfl) rfl
theorem q2025 : (Jvm.Cond.code ({ cls := "DocumentaryCreditDeskModel", name := "honour", desc := "(I)V" } : Jvm.MethodName) prog_14_method_74_code (2 : Nat) (Option.none : Option Jvm.ClassFile.FieldType)) ∈ lw_all := lw_g (lw_at lw_m9 38 rfl) rfl
theorem q2027 : (Jvm.Cond.instanceMethod ({ cls := "DocumentaryCreditDeskModel", name := "waive", desc := "(I)I" } : Jvm.MethodName)) ∈ lw_all := lw_g (lw_at lw_m9 40 rfl) rfl
theorem q2028 : (Jvm.Cond.selects "DocumentaryCreditDeskModel" ({ cls := "DocumentaryCreditDeskModel", name := "waive", desc := "(I)I" } : Jvm.MethodName) ({ cls := "DocumentaryCreditDeskModel", name := "waive", desc := "(I)I" } : Jvm.MethodName)) ∈ lw_all := lw_g (lw_at lw_m9 41 rfl) rfl
theorem q2029 : (Jvm.Cond.code ({ cls := "DocumentaryCreditDeskModel", name := "waive", desc := "(I)I" } : Jvm.MethodName) prog_14_method_76_code (3 : Nat) (Option.some Jvm.ClassFile.FieldType.int)) ∈ lw_all := lw_g (lw_at lw_m9 42 rfl) rfl
theorem q2031 : (Jvm.Cond.instanceMethod ({ cls := "DocumentaryCreditDeskModel", name := "refuse", desc := "(I)I" } : Jvm.MethodName)) ∈ lw_all := lw_g (lw_at lw_m9 44 rfl) rfl
theorem q2032 : (Jvm.Cond.selects "DocumentaryCreditDeskModel" ({ cls := "DocumentaryCreditDeskModel", name := "refuse", desc := "(I)I" } : Jvm.MethodName) ({ cls := "DocumentaryCreditDeskModel", name := "refuse", desc := "(I)I" } : Jvm.MethodName)) ∈ lw_all := lw_g (lw_at lw_m9 45 rfl) rfl
theorem q2033 : (Jvm.Cond.code ({ cls := "DocumentaryCreditDeskModel", name := "refuse", desc := "(I)I" } : Jvm.MethodName) prog_14_method_77_code (3 : Nat) (Option.some Jvm.ClassFile.FieldType.int)) ∈ lw_all := lw_g (lw_at lw_m9 46 rfl) rfl
theorem q2035 : (Jvm.Cond.instanceMethod ({ cls := "DocumentaryCreditDeskModel", name := "transfer", desc := "(III)I" } : Jvm.MethodName)) ∈ lw_all := lw_g (lw_at lw_m9 48 rfl) rfl
theorem q2036 : (Jvm.Cond.selects "DocumentaryCreditDeskModel" ({ cls := "DocumentaryCreditDeskModel", name := "transfer", desc := "(III)I" } : Jvm.MethodName) ({ cls := "DocumentaryCreditDeskModel", name := "transfer", desc := "(III)I" } : Jvm.MethodName)) ∈ lw_all := lw_g (lw_at lw_m9 49 rfl) rfl
theorem q2037 : (Jvm.Cond.code ({ cls := "DocumentaryCreditDeskModel", name := "transfer", desc := "(III)I" } : Jvm.MethodName) prog_14_method_78_code (9 : Nat) (Option.some Jvm.ClassFile.FieldType.int)) ∈ lw_all := lw_g (lw_at lw_m9 50 rfl) rfl
theorem q2039 : (Jvm.Cond.instanceMethod ({ cls := "DocumentaryCreditDeskModel", name := "pass", desc := "(I)I" } : Jvm.MethodName)) ∈ lw_all := lw_g (lw_at lw_m9 52 rfl) rfl
theorem q2040 : (Jvm.Cond.selects "DocumentaryCreditDeskModel" ({ cls := "DocumentaryCreditDeskModel", name := "pass", desc := "(I)I" } : Jvm.MethodName) ({ cls := "DocumentaryCreditDeskModel", name := "pass", desc := "(I)I" } : Jvm.MethodName)) ∈ lw_all := lw_g (lw_at lw_m9 53 rfl) rfl
theorem q2041 : (Jvm.Cond.code ({ cls := "DocumentaryCreditDeskModel", name := "pass", desc := "(I)I" } : Jvm.MethodName) prog_14_method_79_code (2 : Nat) (Option.some Jvm.ClassFile.FieldType.int)) ∈ lw_all := lw_g (lw_at lw_m9 54 rfl) rfl
theorem q2043 : (Jvm.Cond.instanceMethod ({ cls := "DocumentaryCreditDeskModel", name := "undo", desc := "()I" } : Jvm.MethodName)) ∈ lw_all := lw_g (lw_at lw_m9 56 rfl) rfl
theorem q2044 : (Jvm.Cond.selects "DocumentaryCreditDeskModel" ({ cls := "DocumentaryCreditDeskModel", name := "undo", desc := "()I" } : Jvm.MethodName) ({ cls := "DocumentaryCreditDeskModel", name := "undo", desc := "()I" } : Jvm.MethodName)) ∈ lw_all := lw_g (lw_at lw_m9 57 rfl) rfl
theorem q2045 : (Jvm.Cond.code ({ cls := "DocumentaryCreditDeskModel", name := "undo", desc := "()I" } : Jvm.MethodName) prog_14_method_80_code (1 : Nat) (Option.some Jvm.ClassFile.FieldType.int)) ∈ lw_all := lw_g (lw_at lw_m9 58 rfl) rfl
theorem q2047 : (Jvm.Cond.instanceMethod ({ cls := "DocumentaryCreditDeskModel", name := "checksum", desc := "()J" } : Jvm.MethodName)) ∈ lw_all := lw_g (lw_at lw_m9 60 rfl) rfl
theorem q2048 : (Jvm.Cond.selects "DocumentaryCreditDeskModel" ({ cls := "DocumentaryCreditDeskModel", name := "checksum", desc := "()J" } : Jvm.MethodName) ({ cls := "DocumentaryCreditDeskModel", name := "checksum", desc := "()J" } : Jvm.MethodName)) ∈ lw_all := lw_g (lw_at lw_m9 61 rfl) rfl
theorem q2049 : (Jvm.Cond.code ({ cls := "DocumentaryCreditDeskModel", name := "checksum", desc := "()J" } : Jvm.MethodName) prog_14_method_81_code (4 : Nat) (Option.some Jvm.ClassFile.FieldType.long)) ∈ lw_all := lw_g (lw_at lw_m9 62 rfl) rfl
theorem q2050 : (Jvm.Cond.constantLong "DocumentaryCreditDeskModel" (248 : Nat) (31 : Int64)) ∈ lw_all := lw_g (lw_at lw_m9 63 rfl) rfl
theorem q2068 : (Jvm.Cond.castable "DocumentaryCreditDeskModel" "java/lang/Object") ∈ lw_tbl := lw_at lw_m9 81 rfl
theorem in_X5 : ∀ w ∈ wsX50, w ∈ lw_all := lw_in wsX50 [1678, 1680, 1682, 1684, 1686, 1688, 1690, 1692, 1694, 1696, 1698, 1700, 1702, 1704, 1706, 1708] (by decide +kernel) (by decide +kernel)
