-- ===== PART A: goes FIRST, ahead of the names: the tables' words, and 'selects' of the private methods out of them =====
/-- a private method of a class that the tables say can be made, by its rows of tables_1 -/
def lw_okq (q : MethodName × Nat) : Prop := (q.1.cls ≠ "java/lang/invoke/MethodHandle" ∧ q.1.cls ≠ "java/lang/invoke/VarHandle") ∧ Cond.instantiable q.1.cls q.2 ∈ tables_1 ∧ Cond.privateMethod q.1 ∈ tables_1 ∧ Cond.instanceMethod q.1 ∈ tables_1
set_option maxRecDepth 100000
theorem lw_t1 {w : Cond} (h : w ∈ tables_1_1) : w ∈ tables_1 := List.mem_append_left _ h
theorem lw_t2 {w : Cond} (h : w ∈ tables_1_2) : w ∈ tables_1 := List.mem_append_right _ (List.mem_append_left _ h)
theorem lw_t3 {w : Cond} (h : w ∈ tables_1_3) : w ∈ tables_1 := List.mem_append_right _ (List.mem_append_right _ (List.mem_append_left _ h))
theorem lw_t4 {w : Cond} (h : w ∈ tables_1_4) : w ∈ tables_1 := List.mem_append_right _ (List.mem_append_right _ (List.mem_append_right _ (List.mem_append_left _ h)))
theorem lw_t5 {w : Cond} (h : w ∈ tables_1_5) : w ∈ tables_1 := List.mem_append_right _ (List.mem_append_right _ (List.mem_append_right _ (List.mem_append_right _ (List.mem_append_left _ h))))
theorem lw_t6 {w : Cond} (h : w ∈ tables_1_6) : w ∈ tables_1 := List.mem_append_right _ (List.mem_append_right _ (List.mem_append_right _ (List.mem_append_right _ (List.mem_append_right _ (List.mem_append_left _ h)))))
theorem lw_t7 {w : Cond} (h : w ∈ tables_1_7) : w ∈ tables_1 := List.mem_append_right _ (List.mem_append_right _ (List.mem_append_right _ (List.mem_append_right _ (List.mem_append_right _ (List.mem_append_right _ (List.mem_append_left _ h))))))
theorem lw_t8 {w : Cond} (h : w ∈ tables_1_8) : w ∈ tables_1 := List.mem_append_right _ (List.mem_append_right _ (List.mem_append_right _ (List.mem_append_right _ (List.mem_append_right _ (List.mem_append_right _ (List.mem_append_right _ (List.mem_append_left _ h)))))))
theorem lw_t9 {w : Cond} (h : w ∈ tables_1_9) : w ∈ tables_1 := List.mem_append_right _ (List.mem_append_right _ (List.mem_append_right _ (List.mem_append_right _ (List.mem_append_right _ (List.mem_append_right _ (List.mem_append_right _ (List.mem_append_right _ h)))))))
theorem lw_p0 : lw_okq (⟨"DocumentaryCreditDesk", "put", "(I)V"⟩, 5) := ⟨⟨by decide +kernel, by decide +kernel⟩, lw_t1 (List.mem_of_getElem? (i := 40) rfl), lw_t1 (List.mem_of_getElem? (i := 173) rfl), lw_t1 (List.mem_of_getElem? (i := 174) rfl)⟩
theorem lw_p1 : lw_okq (⟨"java/lang/Throwable", "fillInStackTrace", "(I)Ljava/lang/Throwable;"⟩, 6) := ⟨⟨by decide +kernel, by decide +kernel⟩, lw_t2 (List.mem_of_getElem? (i := 120) rfl), lw_t2 (List.mem_of_getElem? (i := 118) rfl), lw_t2 (List.mem_of_getElem? (i := 119) rfl)⟩
theorem lw_p2 : lw_okq (⟨"DocumentaryCreditDesk$Parser", "peek", "()I"⟩, 8) := ⟨⟨by decide +kernel, by decide +kernel⟩, lw_t2 (List.mem_of_getElem? (i := 146) rfl), lw_t2 (List.mem_of_getElem? (i := 185) rfl), lw_t2 (List.mem_of_getElem? (i := 186) rfl)⟩
theorem lw_p3 : lw_okq (⟨"DocumentaryCreditDesk$Parser", "statement", "()V"⟩, 8) := ⟨⟨by decide +kernel, by decide +kernel⟩, lw_t2 (List.mem_of_getElem? (i := 146) rfl), lw_t2 (List.mem_of_getElem? (i := 189) rfl), lw_t2 (List.mem_of_getElem? (i := 190) rfl)⟩
theorem lw_p4 : lw_okq (⟨"DocumentaryCreditDesk$Parser", "word", "()Ljava/lang/String;"⟩, 8) := ⟨⟨by decide +kernel, by decide +kernel⟩, lw_t2 (List.mem_of_getElem? (i := 146) rfl), lw_t2 (List.mem_of_getElem? (i := 193) rfl), lw_t2 (List.mem_of_getElem? (i := 194) rfl)⟩
theorem lw_p5 : lw_okq (⟨"DocumentaryCreditDesk$Parser", "isLetterAt", "(I)Z"⟩, 8) := ⟨⟨by decide +kernel, by decide +kernel⟩, lw_t2 (List.mem_of_getElem? (i := 146) rfl), lw_t2 (List.mem_of_getElem? (i := 228) rfl), lw_t2 (List.mem_of_getElem? (i := 229) rfl)⟩
theorem lw_p6 : lw_okq (⟨"DocumentaryCreditDesk$Parser", "holidays", "()V"⟩, 8) := ⟨⟨by decide +kernel, by decide +kernel⟩, lw_t2 (List.mem_of_getElem? (i := 146) rfl), lw_t4 (List.mem_of_getElem? (i := 72) rfl), lw_t4 (List.mem_of_getElem? (i := 73) rfl)⟩
theorem lw_p7 : lw_okq (⟨"DocumentaryCreditDesk$Parser", "number", "(II)I"⟩, 8) := ⟨⟨by decide +kernel, by decide +kernel⟩, lw_t2 (List.mem_of_getElem? (i := 146) rfl), lw_t4 (List.mem_of_getElem? (i := 76) rfl), lw_t4 (List.mem_of_getElem? (i := 77) rfl)⟩
theorem lw_p8 : lw_okq (⟨"DocumentaryCreditDesk$Parser", "isDigitNext", "()Z"⟩, 8) := ⟨⟨by decide +kernel, by decide +kernel⟩, lw_t2 (List.mem_of_getElem? (i := 146) rfl), lw_t4 (List.mem_of_getElem? (i := 80) rfl), lw_t4 (List.mem_of_getElem? (i := 81) rfl)⟩
theorem lw_p9 : lw_okq (⟨"DocumentaryCreditDesk$Parser", "requireSyntax", "(ZI)V"⟩, 8) := ⟨⟨by decide +kernel, by decide +kernel⟩, lw_t2 (List.mem_of_getElem? (i := 146) rfl), lw_t4 (List.mem_of_getElem? (i := 86) rfl), lw_t4 (List.mem_of_getElem? (i := 87) rfl)⟩
theorem lw_p10 : lw_okq (⟨"DocumentaryCreditDesk$Parser", "requireLimit", "(ZII)V"⟩, 8) := ⟨⟨by decide +kernel, by decide +kernel⟩, lw_t2 (List.mem_of_getElem? (i := 146) rfl), lw_t4 (List.mem_of_getElem? (i := 119) rfl), lw_t4 (List.mem_of_getElem? (i := 120) rfl)⟩
theorem lw_p11 : lw_okq (⟨"DocumentaryCreditDesk$Parser", "credit", "()V"⟩, 8) := ⟨⟨by decide +kernel, by decide +kernel⟩, lw_t2 (List.mem_of_getElem? (i := 146) rfl), lw_t4 (List.mem_of_getElem? (i := 154) rfl), lw_t4 (List.mem_of_getElem? (i := 155) rfl)⟩
theorem lw_p12 : lw_okq (⟨"DocumentaryCreditDesk$Parser", "accept", "(Ljava/lang/String;)Z"⟩, 8) := ⟨⟨by decide +kernel, by decide +kernel⟩, lw_t2 (List.mem_of_getElem? (i := 146) rfl), lw_t4 (List.mem_of_getElem? (i := 160) rfl), lw_t4 (List.mem_of_getElem? (i := 161) rfl)⟩
theorem lw_p13 : lw_okq (⟨"DocumentaryCreditDesk$Parser", "documents", "()I"⟩, 8) := ⟨⟨by decide +kernel, by decide +kernel⟩, lw_t2 (List.mem_of_getElem? (i := 146) rfl), lw_t4 (List.mem_of_getElem? (i := 166) rfl), lw_t4 (List.mem_of_getElem? (i := 167) rfl)⟩
theorem lw_p14 : lw_okq (⟨"java/util/ArrayList", "add", "(Ljava/lang/Object;[Ljava/lang/Object;I)V"⟩, 3) := ⟨⟨by decide +kernel, by decide +kernel⟩, lw_t1 (List.mem_of_getElem? (i := 97) rfl), lw_t4 (List.mem_of_getElem? (i := 235) rfl), lw_t4 (List.mem_of_getElem? (i := 236) rfl)⟩
theorem lw_p15 : lw_okq (⟨"java/util/ArrayList", "grow", "()[Ljava/lang/Object;"⟩, 3) := ⟨⟨by decide +kernel, by decide +kernel⟩, lw_t1 (List.mem_of_getElem? (i := 97) rfl), lw_t4 (List.mem_of_getElem? (i := 239) rfl), lw_t5 (List.mem_of_getElem? (i := 0) rfl)⟩
def lw_privs_1 : List (MethodName × Nat) := [(⟨"DocumentaryCreditDesk", "put", "(I)V"⟩, 5), (⟨"java/lang/Throwable", "fillInStackTrace", "(I)Ljava/lang/Throwable;"⟩, 6), (⟨"DocumentaryCreditDesk$Parser", "peek", "()I"⟩, 8), (⟨"DocumentaryCreditDesk$Parser", "statement", "()V"⟩, 8), (⟨"DocumentaryCreditDesk$Parser", "word", "()Ljava/lang/String;"⟩, 8), (⟨"DocumentaryCreditDesk$Parser", "isLetterAt", "(I)Z"⟩, 8), (⟨"DocumentaryCreditDesk$Parser", "holidays", "()V"⟩, 8), (⟨"DocumentaryCreditDesk$Parser", "number", "(II)I"⟩, 8), (⟨"DocumentaryCreditDesk$Parser", "isDigitNext", "()Z"⟩, 8), (⟨"DocumentaryCreditDesk$Parser", "requireSyntax", "(ZI)V"⟩, 8), (⟨"DocumentaryCreditDesk$Parser", "requireLimit", "(ZII)V"⟩, 8), (⟨"DocumentaryCreditDesk$Parser", "credit", "()V"⟩, 8), (⟨"DocumentaryCreditDesk$Parser", "accept", "(Ljava/lang/String;)Z"⟩, 8), (⟨"DocumentaryCreditDesk$Parser", "documents", "()I"⟩, 8), (⟨"java/util/ArrayList", "add", "(Ljava/lang/Object;[Ljava/lang/Object;I)V"⟩, 3), (⟨"java/util/ArrayList", "grow", "()[Ljava/lang/Object;"⟩, 3)]
theorem lw_r1 : ∀ q ∈ lw_privs_1, lw_okq q := List.forall_mem_cons.mpr ⟨lw_p0, List.forall_mem_cons.mpr ⟨lw_p1, List.forall_mem_cons.mpr ⟨lw_p2, List.forall_mem_cons.mpr ⟨lw_p3, List.forall_mem_cons.mpr ⟨lw_p4, List.forall_mem_cons.mpr ⟨lw_p5, List.forall_mem_cons.mpr ⟨lw_p6, List.forall_mem_cons.mpr ⟨lw_p7, List.forall_mem_cons.mpr ⟨lw_p8, List.forall_mem_cons.mpr ⟨lw_p9, List.forall_mem_cons.mpr ⟨lw_p10, List.forall_mem_cons.mpr ⟨lw_p11, List.forall_mem_cons.mpr ⟨lw_p12, List.forall_mem_cons.mpr ⟨lw_p13, List.forall_mem_cons.mpr ⟨lw_p14, List.forall_mem_cons.mpr ⟨lw_p15, fun _ h => absurd h List.not_mem_nil⟩⟩⟩⟩⟩⟩⟩⟩⟩⟩⟩⟩⟩⟩⟩⟩
theorem lw_p16 : lw_okq (⟨"java/util/ArrayList", "grow", "(I)[Ljava/lang/Object;"⟩, 3) := ⟨⟨by decide +kernel, by decide +kernel⟩, lw_t1 (List.mem_of_getElem? (i := 97) rfl), lw_t5 (List.mem_of_getElem? (i := 3) rfl), lw_t5 (List.mem_of_getElem? (i := 4) rfl)⟩
theorem lw_p17 : lw_okq (⟨"DocumentaryCreditDesk$Parser", "sum", "()LDocumentaryCreditDesk$Fee;"⟩, 8) := ⟨⟨by decide +kernel, by decide +kernel⟩, lw_t2 (List.mem_of_getElem? (i := 146) rfl), lw_t5 (List.mem_of_getElem? (i := 44) rfl), lw_t5 (List.mem_of_getElem? (i := 45) rfl)⟩
theorem lw_p18 : lw_okq (⟨"DocumentaryCreditDesk$Parser", "term", "()LDocumentaryCreditDesk$Fee;"⟩, 8) := ⟨⟨by decide +kernel, by decide +kernel⟩, lw_t2 (List.mem_of_getElem? (i := 146) rfl), lw_t5 (List.mem_of_getElem? (i := 48) rfl), lw_t5 (List.mem_of_getElem? (i := 49) rfl)⟩
theorem lw_p19 : lw_okq (⟨"DocumentaryCreditDesk$Parser", "factor", "()LDocumentaryCreditDesk$Fee;"⟩, 8) := ⟨⟨by decide +kernel, by decide +kernel⟩, lw_t2 (List.mem_of_getElem? (i := 146) rfl), lw_t5 (List.mem_of_getElem? (i := 52) rfl), lw_t5 (List.mem_of_getElem? (i := 53) rfl)⟩
theorem lw_p20 : lw_okq (⟨"DocumentaryCreditDesk$Parser", "expect", "(I)V"⟩, 8) := ⟨⟨by decide +kernel, by decide +kernel⟩, lw_t2 (List.mem_of_getElem? (i := 146) rfl), lw_t5 (List.mem_of_getElem? (i := 56) rfl), lw_t5 (List.mem_of_getElem? (i := 57) rfl)⟩
theorem lw_p21 : lw_okq (⟨"DocumentaryCreditDesk", "replace", "(LDocumentaryCreditDesk$Desk;)V"⟩, 5) := ⟨⟨by decide +kernel, by decide +kernel⟩, lw_t1 (List.mem_of_getElem? (i := 40) rfl), lw_t5 (List.mem_of_getElem? (i := 88) rfl), lw_t5 (List.mem_of_getElem? (i := 89) rfl)⟩
theorem lw_p22 : lw_okq (⟨"java/util/ArrayDeque", "grow", "(I)V"⟩, 3) := ⟨⟨by decide +kernel, by decide +kernel⟩, lw_t1 (List.mem_of_getElem? (i := 48) rfl), lw_t5 (List.mem_of_getElem? (i := 107) rfl), lw_t5 (List.mem_of_getElem? (i := 108) rfl)⟩
theorem lw_p23 : lw_okq (⟨"java/util/ArrayDeque", "newCapacity", "(II)I"⟩, 3) := ⟨⟨by decide +kernel, by decide +kernel⟩, lw_t1 (List.mem_of_getElem? (i := 48) rfl), lw_t5 (List.mem_of_getElem? (i := 112) rfl), lw_t5 (List.mem_of_getElem? (i := 113) rfl)⟩
theorem lw_p24 : lw_okq (⟨"DocumentaryCreditDesk", "creditAt", "(I)LDocumentaryCreditDesk$Credit;"⟩, 5) := ⟨⟨by decide +kernel, by decide +kernel⟩, lw_t1 (List.mem_of_getElem? (i := 40) rfl), lw_t6 (List.mem_of_getElem? (i := 55) rfl), lw_t6 (List.mem_of_getElem? (i := 56) rfl)⟩
theorem lw_p25 : lw_okq (⟨"DocumentaryCreditDesk", "requireCredit", "(I)V"⟩, 5) := ⟨⟨by decide +kernel, by decide +kernel⟩, lw_t1 (List.mem_of_getElem? (i := 40) rfl), lw_t6 (List.mem_of_getElem? (i := 59) rfl), lw_t6 (List.mem_of_getElem? (i := 60) rfl)⟩
theorem lw_p26 : lw_okq (⟨"DocumentaryCreditDesk", "presentationAt", "(I)LDocumentaryCreditDesk$Presentation;"⟩, 5) := ⟨⟨by decide +kernel, by decide +kernel⟩, lw_t1 (List.mem_of_getElem? (i := 40) rfl), lw_t6 (List.mem_of_getElem? (i := 129) rfl), lw_t6 (List.mem_of_getElem? (i := 130) rfl)⟩
theorem lw_p27 : lw_okq (⟨"DocumentaryCreditDesk", "requireDrawing", "(IIIII)V"⟩, 5) := ⟨⟨by decide +kernel, by decide +kernel⟩, lw_t1 (List.mem_of_getElem? (i := 40) rfl), lw_t6 (List.mem_of_getElem? (i := 195) rfl), lw_t6 (List.mem_of_getElem? (i := 196) rfl)⟩
theorem lw_p28 : lw_okq (⟨"DocumentaryCreditDesk$Desk", "hasPresentation", "(I)Z"⟩, 5) := ⟨⟨by decide +kernel, by decide +kernel⟩, lw_t1 (List.mem_of_getElem? (i := 70) rfl), lw_t6 (List.mem_of_getElem? (i := 216) rfl), lw_t6 (List.mem_of_getElem? (i := 217) rfl)⟩
theorem lw_p29 : lw_okq (⟨"DocumentaryCreditDesk", "change", "()LDocumentaryCreditDesk$Desk;"⟩, 5) := ⟨⟨by decide +kernel, by decide +kernel⟩, lw_t1 (List.mem_of_getElem? (i := 40) rfl), lw_t7 (List.mem_of_getElem? (i := 16) rfl), lw_t7 (List.mem_of_getElem? (i := 17) rfl)⟩
theorem lw_p30 : lw_okq (⟨"DocumentaryCreditDesk$Desk", "dueFrom", "(LDocumentaryCreditDesk$Presentation;)I"⟩, 5) := ⟨⟨by decide +kernel, by decide +kernel⟩, lw_t1 (List.mem_of_getElem? (i := 70) rfl), lw_t7 (List.mem_of_getElem? (i := 84) rfl), lw_t7 (List.mem_of_getElem? (i := 85) rfl)⟩
theorem lw_p31 : lw_okq (⟨"DocumentaryCreditDeskModel", "fails", "(ZI)Z"⟩, 16) := ⟨⟨by decide +kernel, by decide +kernel⟩, lw_t7 (List.mem_of_getElem? (i := 148) rfl), lw_t7 (List.mem_of_getElem? (i := 221) rfl), lw_t7 (List.mem_of_getElem? (i := 222) rfl)⟩
def lw_privs_2 : List (MethodName × Nat) := [(⟨"java/util/ArrayList", "grow", "(I)[Ljava/lang/Object;"⟩, 3), (⟨"DocumentaryCreditDesk$Parser", "sum", "()LDocumentaryCreditDesk$Fee;"⟩, 8), (⟨"DocumentaryCreditDesk$Parser", "term", "()LDocumentaryCreditDesk$Fee;"⟩, 8), (⟨"DocumentaryCreditDesk$Parser", "factor", "()LDocumentaryCreditDesk$Fee;"⟩, 8), (⟨"DocumentaryCreditDesk$Parser", "expect", "(I)V"⟩, 8), (⟨"DocumentaryCreditDesk", "replace", "(LDocumentaryCreditDesk$Desk;)V"⟩, 5), (⟨"java/util/ArrayDeque", "grow", "(I)V"⟩, 3), (⟨"java/util/ArrayDeque", "newCapacity", "(II)I"⟩, 3), (⟨"DocumentaryCreditDesk", "creditAt", "(I)LDocumentaryCreditDesk$Credit;"⟩, 5), (⟨"DocumentaryCreditDesk", "requireCredit", "(I)V"⟩, 5), (⟨"DocumentaryCreditDesk", "presentationAt", "(I)LDocumentaryCreditDesk$Presentation;"⟩, 5), (⟨"DocumentaryCreditDesk", "requireDrawing", "(IIIII)V"⟩, 5), (⟨"DocumentaryCreditDesk$Desk", "hasPresentation", "(I)Z"⟩, 5), (⟨"DocumentaryCreditDesk", "change", "()LDocumentaryCreditDesk$Desk;"⟩, 5), (⟨"DocumentaryCreditDesk$Desk", "dueFrom", "(LDocumentaryCreditDesk$Presentation;)I"⟩, 5), (⟨"DocumentaryCreditDeskModel", "fails", "(ZI)Z"⟩, 16)]
theorem lw_r2 : ∀ q ∈ lw_privs_2, lw_okq q := List.forall_mem_cons.mpr ⟨lw_p16, List.forall_mem_cons.mpr ⟨lw_p17, List.forall_mem_cons.mpr ⟨lw_p18, List.forall_mem_cons.mpr ⟨lw_p19, List.forall_mem_cons.mpr ⟨lw_p20, List.forall_mem_cons.mpr ⟨lw_p21, List.forall_mem_cons.mpr ⟨lw_p22, List.forall_mem_cons.mpr ⟨lw_p23, List.forall_mem_cons.mpr ⟨lw_p24, List.forall_mem_cons.mpr ⟨lw_p25, List.forall_mem_cons.mpr ⟨lw_p26, List.forall_mem_cons.mpr ⟨lw_p27, List.forall_mem_cons.mpr ⟨lw_p28, List.forall_mem_cons.mpr ⟨lw_p29, List.forall_mem_cons.mpr ⟨lw_p30, List.forall_mem_cons.mpr ⟨lw_p31, fun _ h => absurd h List.not_mem_nil⟩⟩⟩⟩⟩⟩⟩⟩⟩⟩⟩⟩⟩⟩⟩⟩
theorem lw_p32 : lw_okq (⟨"DocumentaryCreditDeskModel", "isGood", "()Z"⟩, 16) := ⟨⟨by decide +kernel, by decide +kernel⟩, lw_t7 (List.mem_of_getElem? (i := 148) rfl), lw_t7 (List.mem_of_getElem? (i := 225) rfl), lw_t7 (List.mem_of_getElem? (i := 226) rfl)⟩
theorem lw_p33 : lw_okq (⟨"DocumentaryCreditDeskModel", "next", "()I"⟩, 16) := ⟨⟨by decide +kernel, by decide +kernel⟩, lw_t7 (List.mem_of_getElem? (i := 148) rfl), lw_t7 (List.mem_of_getElem? (i := 229) rfl), lw_t7 (List.mem_of_getElem? (i := 230) rfl)⟩
theorem lw_p34 : lw_okq (⟨"DocumentaryCreditDeskModel", "byteAt", "(I)I"⟩, 16) := ⟨⟨by decide +kernel, by decide +kernel⟩, lw_t7 (List.mem_of_getElem? (i := 148) rfl), lw_t7 (List.mem_of_getElem? (i := 233) rfl), lw_t7 (List.mem_of_getElem? (i := 234) rfl)⟩
theorem lw_p35 : lw_okq (⟨"DocumentaryCreditDeskModel", "statement", "()V"⟩, 16) := ⟨⟨by decide +kernel, by decide +kernel⟩, lw_t7 (List.mem_of_getElem? (i := 148) rfl), lw_t7 (List.mem_of_getElem? (i := 237) rfl), lw_t7 (List.mem_of_getElem? (i := 238) rfl)⟩
theorem lw_p36 : lw_okq (⟨"DocumentaryCreditDeskModel", "takeWord", "(Ljava/lang/String;)Z"⟩, 16) := ⟨⟨by decide +kernel, by decide +kernel⟩, lw_t7 (List.mem_of_getElem? (i := 148) rfl), lw_t8 (List.mem_of_getElem? (i := 2) rfl), lw_t8 (List.mem_of_getElem? (i := 3) rfl)⟩
theorem lw_p37 : lw_okq (⟨"DocumentaryCreditDeskModel", "readHoliday", "()V"⟩, 16) := ⟨⟨by decide +kernel, by decide +kernel⟩, lw_t7 (List.mem_of_getElem? (i := 148) rfl), lw_t8 (List.mem_of_getElem? (i := 18) rfl), lw_t8 (List.mem_of_getElem? (i := 19) rfl)⟩
theorem lw_p38 : lw_okq (⟨"DocumentaryCreditDeskModel", "number", "(II)I"⟩, 16) := ⟨⟨by decide +kernel, by decide +kernel⟩, lw_t7 (List.mem_of_getElem? (i := 148) rfl), lw_t8 (List.mem_of_getElem? (i := 22) rfl), lw_t8 (List.mem_of_getElem? (i := 23) rfl)⟩
theorem lw_p39 : lw_okq (⟨"DocumentaryCreditDeskModel", "report", "(II)V"⟩, 16) := ⟨⟨by decide +kernel, by decide +kernel⟩, lw_t7 (List.mem_of_getElem? (i := 148) rfl), lw_t8 (List.mem_of_getElem? (i := 29) rfl), lw_t8 (List.mem_of_getElem? (i := 30) rfl)⟩
theorem lw_p40 : lw_okq (⟨"DocumentaryCreditDeskModel", "readCredit", "(I)V"⟩, 16) := ⟨⟨by decide +kernel, by decide +kernel⟩, lw_t7 (List.mem_of_getElem? (i := 148) rfl), lw_t8 (List.mem_of_getElem? (i := 38) rfl), lw_t8 (List.mem_of_getElem? (i := 39) rfl)⟩
theorem lw_p41 : lw_okq (⟨"DocumentaryCreditDeskModel", "readNeeds", "(I)V"⟩, 16) := ⟨⟨by decide +kernel, by decide +kernel⟩, lw_t7 (List.mem_of_getElem? (i := 148) rfl), lw_t8 (List.mem_of_getElem? (i := 49) rfl), lw_t8 (List.mem_of_getElem? (i := 50) rfl)⟩
theorem lw_p42 : lw_okq (⟨"DocumentaryCreditDeskModel", "once", "(II)V"⟩, 16) := ⟨⟨by decide +kernel, by decide +kernel⟩, lw_t7 (List.mem_of_getElem? (i := 148) rfl), lw_t8 (List.mem_of_getElem? (i := 54) rfl), lw_t8 (List.mem_of_getElem? (i := 55) rfl)⟩
theorem lw_p43 : lw_okq (⟨"DocumentaryCreditDeskModel", "sum", "()V"⟩, 16) := ⟨⟨by decide +kernel, by decide +kernel⟩, lw_t7 (List.mem_of_getElem? (i := 148) rfl), lw_t8 (List.mem_of_getElem? (i := 58) rfl), lw_t8 (List.mem_of_getElem? (i := 59) rfl)⟩
theorem lw_p44 : lw_okq (⟨"DocumentaryCreditDeskModel", "term", "()V"⟩, 16) := ⟨⟨by decide +kernel, by decide +kernel⟩, lw_t7 (List.mem_of_getElem? (i := 148) rfl), lw_t8 (List.mem_of_getElem? (i := 62) rfl), lw_t8 (List.mem_of_getElem? (i := 63) rfl)⟩
theorem lw_p45 : lw_okq (⟨"DocumentaryCreditDeskModel", "factor", "()V"⟩, 16) := ⟨⟨by decide +kernel, by decide +kernel⟩, lw_t7 (List.mem_of_getElem? (i := 148) rfl), lw_t8 (List.mem_of_getElem? (i := 66) rfl), lw_t8 (List.mem_of_getElem? (i := 67) rfl)⟩
theorem lw_p46 : lw_okq (⟨"DocumentaryCreditDeskModel", "expect", "(I)V"⟩, 16) := ⟨⟨by decide +kernel, by decide +kernel⟩, lw_t7 (List.mem_of_getElem? (i := 148) rfl), lw_t8 (List.mem_of_getElem? (i := 70) rfl), lw_t8 (List.mem_of_getElem? (i := 71) rfl)⟩
theorem lw_p47 : lw_okq (⟨"DocumentaryCreditDeskModel", "emit", "(I)V"⟩, 16) := ⟨⟨by decide +kernel, by decide +kernel⟩, lw_t7 (List.mem_of_getElem? (i := 148) rfl), lw_t8 (List.mem_of_getElem? (i := 77) rfl), lw_t8 (List.mem_of_getElem? (i := 78) rfl)⟩
def lw_privs_3 : List (MethodName × Nat) := [(⟨"DocumentaryCreditDeskModel", "isGood", "()Z"⟩, 16), (⟨"DocumentaryCreditDeskModel", "next", "()I"⟩, 16), (⟨"DocumentaryCreditDeskModel", "byteAt", "(I)I"⟩, 16), (⟨"DocumentaryCreditDeskModel", "statement", "()V"⟩, 16), (⟨"DocumentaryCreditDeskModel", "takeWord", "(Ljava/lang/String;)Z"⟩, 16), (⟨"DocumentaryCreditDeskModel", "readHoliday", "()V"⟩, 16), (⟨"DocumentaryCreditDeskModel", "number", "(II)I"⟩, 16), (⟨"DocumentaryCreditDeskModel", "report", "(II)V"⟩, 16), (⟨"DocumentaryCreditDeskModel", "readCredit", "(I)V"⟩, 16), (⟨"DocumentaryCreditDeskModel", "readNeeds", "(I)V"⟩, 16), (⟨"DocumentaryCreditDeskModel", "once", "(II)V"⟩, 16), (⟨"DocumentaryCreditDeskModel", "sum", "()V"⟩, 16), (⟨"DocumentaryCreditDeskModel", "term", "()V"⟩, 16), (⟨"DocumentaryCreditDeskModel", "factor", "()V"⟩, 16), (⟨"DocumentaryCreditDeskModel", "expect", "(I)V"⟩, 16), (⟨"DocumentaryCreditDeskModel", "emit", "(I)V"⟩, 16)]
theorem lw_r3 : ∀ q ∈ lw_privs_3, lw_okq q := List.forall_mem_cons.mpr ⟨lw_p32, List.forall_mem_cons.mpr ⟨lw_p33, List.forall_mem_cons.mpr ⟨lw_p34, List.forall_mem_cons.mpr ⟨lw_p35, List.forall_mem_cons.mpr ⟨lw_p36, List.forall_mem_cons.mpr ⟨lw_p37, List.forall_mem_cons.mpr ⟨lw_p38, List.forall_mem_cons.mpr ⟨lw_p39, List.forall_mem_cons.mpr ⟨lw_p40, List.forall_mem_cons.mpr ⟨lw_p41, List.forall_mem_cons.mpr ⟨lw_p42, List.forall_mem_cons.mpr ⟨lw_p43, List.forall_mem_cons.mpr ⟨lw_p44, List.forall_mem_cons.mpr ⟨lw_p45, List.forall_mem_cons.mpr ⟨lw_p46, List.forall_mem_cons.mpr ⟨lw_p47, fun _ h => absurd h List.not_mem_nil⟩⟩⟩⟩⟩⟩⟩⟩⟩⟩⟩⟩⟩⟩⟩⟩
theorem lw_p48 : lw_okq (⟨"DocumentaryCreditDeskModel", "remember", "()V"⟩, 16) := ⟨⟨by decide +kernel, by decide +kernel⟩, lw_t7 (List.mem_of_getElem? (i := 148) rfl), lw_t8 (List.mem_of_getElem? (i := 81) rfl), lw_t8 (List.mem_of_getElem? (i := 82) rfl)⟩
theorem lw_p49 : lw_okq (⟨"DocumentaryCreditDeskModel", "isBusiness", "(I)Z"⟩, 16) := ⟨⟨by decide +kernel, by decide +kernel⟩, lw_t7 (List.mem_of_getElem? (i := 148) rfl), lw_t8 (List.mem_of_getElem? (i := 103) rfl), lw_t8 (List.mem_of_getElem? (i := 104) rfl)⟩
theorem lw_p50 : lw_okq (⟨"DocumentaryCreditDeskModel", "extend", "(I)I"⟩, 16) := ⟨⟨by decide +kernel, by decide +kernel⟩, lw_t7 (List.mem_of_getElem? (i := 148) rfl), lw_t8 (List.mem_of_getElem? (i := 111) rfl), lw_t8 (List.mem_of_getElem? (i := 112) rfl)⟩
theorem lw_p51 : lw_okq (⟨"DocumentaryCreditDeskModel", "add", "(II)I"⟩, 16) := ⟨⟨by decide +kernel, by decide +kernel⟩, lw_t7 (List.mem_of_getElem? (i := 148) rfl), lw_t8 (List.mem_of_getElem? (i := 119) rfl), lw_t8 (List.mem_of_getElem? (i := 120) rfl)⟩
theorem lw_p52 : lw_okq (⟨"DocumentaryCreditDeskModel", "noCredit", "(I)Z"⟩, 16) := ⟨⟨by decide +kernel, by decide +kernel⟩, lw_t7 (List.mem_of_getElem? (i := 148) rfl), lw_t8 (List.mem_of_getElem? (i := 139) rfl), lw_t8 (List.mem_of_getElem? (i := 140) rfl)⟩
theorem lw_p53 : lw_okq (⟨"DocumentaryCreditDeskModel", "most", "(I)I"⟩, 16) := ⟨⟨by decide +kernel, by decide +kernel⟩, lw_t7 (List.mem_of_getElem? (i := 148) rfl), lw_t8 (List.mem_of_getElem? (i := 147) rfl), lw_t8 (List.mem_of_getElem? (i := 148) rfl)⟩
theorem lw_p54 : lw_okq (⟨"DocumentaryCreditDeskModel", "least", "(I)I"⟩, 16) := ⟨⟨by decide +kernel, by decide +kernel⟩, lw_t7 (List.mem_of_getElem? (i := 148) rfl), lw_t8 (List.mem_of_getElem? (i := 151) rfl), lw_t8 (List.mem_of_getElem? (i := 152) rfl)⟩
theorem lw_p55 : lw_okq (⟨"DocumentaryCreditDeskModel", "drawnOf", "(I)I"⟩, 16) := ⟨⟨by decide +kernel, by decide +kernel⟩, lw_t7 (List.mem_of_getElem? (i := 148) rfl), lw_t8 (List.mem_of_getElem? (i := 163) rfl), lw_t8 (List.mem_of_getElem? (i := 164) rfl)⟩
theorem lw_p56 : lw_okq (⟨"DocumentaryCreditDeskModel", "stands", "(II)Z"⟩, 16) := ⟨⟨by decide +kernel, by decide +kernel⟩, lw_t7 (List.mem_of_getElem? (i := 148) rfl), lw_t8 (List.mem_of_getElem? (i := 167) rfl), lw_t8 (List.mem_of_getElem? (i := 168) rfl)⟩
theorem lw_p57 : lw_okq (⟨"DocumentaryCreditDeskModel", "transferredOf", "(I)I"⟩, 16) := ⟨⟨by decide +kernel, by decide +kernel⟩, lw_t7 (List.mem_of_getElem? (i := 148) rfl), lw_t8 (List.mem_of_getElem? (i := 178) rfl), lw_t8 (List.mem_of_getElem? (i := 179) rfl)⟩
theorem lw_p58 : lw_okq (⟨"DocumentaryCreditDeskModel", "availableOf", "(I)I"⟩, 16) := ⟨⟨by decide +kernel, by decide +kernel⟩, lw_t7 (List.mem_of_getElem? (i := 148) rfl), lw_t8 (List.mem_of_getElem? (i := 186) rfl), lw_t8 (List.mem_of_getElem? (i := 187) rfl)⟩
theorem lw_p59 : lw_okq (⟨"DocumentaryCreditDeskModel", "isWrong", "(IIII)Z"⟩, 16) := ⟨⟨by decide +kernel, by decide +kernel⟩, lw_t7 (List.mem_of_getElem? (i := 148) rfl), lw_t8 (List.mem_of_getElem? (i := 194) rfl), lw_t8 (List.mem_of_getElem? (i := 195) rfl)⟩
theorem lw_p60 : lw_okq (⟨"DocumentaryCreditDeskModel", "faultsOf", "(IIIII)I"⟩, 16) := ⟨⟨by decide +kernel, by decide +kernel⟩, lw_t7 (List.mem_of_getElem? (i := 148) rfl), lw_t8 (List.mem_of_getElem? (i := 199) rfl), lw_t8 (List.mem_of_getElem? (i := 200) rfl)⟩
theorem lw_p61 : lw_okq (⟨"DocumentaryCreditDeskModel", "lastDayOf", "(II)I"⟩, 16) := ⟨⟨by decide +kernel, by decide +kernel⟩, lw_t7 (List.mem_of_getElem? (i := 148) rfl), lw_t8 (List.mem_of_getElem? (i := 203) rfl), lw_t8 (List.mem_of_getElem? (i := 204) rfl)⟩
theorem lw_p62 : lw_okq (⟨"DocumentaryCreditDeskModel", "noPresentation", "(I)Z"⟩, 16) := ⟨⟨by decide +kernel, by decide +kernel⟩, lw_t7 (List.mem_of_getElem? (i := 148) rfl), lw_t8 (List.mem_of_getElem? (i := 215) rfl), lw_t8 (List.mem_of_getElem? (i := 216) rfl)⟩
theorem lw_p63 : lw_okq (⟨"DocumentaryCreditDeskModel", "deadlineOf", "(I)I"⟩, 16) := ⟨⟨by decide +kernel, by decide +kernel⟩, lw_t7 (List.mem_of_getElem? (i := 148) rfl), lw_t8 (List.mem_of_getElem? (i := 231) rfl), lw_t8 (List.mem_of_getElem? (i := 232) rfl)⟩
def lw_privs_4 : List (MethodName × Nat) := [(⟨"DocumentaryCreditDeskModel", "remember", "()V"⟩, 16), (⟨"DocumentaryCreditDeskModel", "isBusiness", "(I)Z"⟩, 16), (⟨"DocumentaryCreditDeskModel", "extend", "(I)I"⟩, 16), (⟨"DocumentaryCreditDeskModel", "add", "(II)I"⟩, 16), (⟨"DocumentaryCreditDeskModel", "noCredit", "(I)Z"⟩, 16), (⟨"DocumentaryCreditDeskModel", "most", "(I)I"⟩, 16), (⟨"DocumentaryCreditDeskModel", "least", "(I)I"⟩, 16), (⟨"DocumentaryCreditDeskModel", "drawnOf", "(I)I"⟩, 16), (⟨"DocumentaryCreditDeskModel", "stands", "(II)Z"⟩, 16), (⟨"DocumentaryCreditDeskModel", "transferredOf", "(I)I"⟩, 16), (⟨"DocumentaryCreditDeskModel", "availableOf", "(I)I"⟩, 16), (⟨"DocumentaryCreditDeskModel", "isWrong", "(IIII)Z"⟩, 16), (⟨"DocumentaryCreditDeskModel", "faultsOf", "(IIIII)I"⟩, 16), (⟨"DocumentaryCreditDeskModel", "lastDayOf", "(II)I"⟩, 16), (⟨"DocumentaryCreditDeskModel", "noPresentation", "(I)Z"⟩, 16), (⟨"DocumentaryCreditDeskModel", "deadlineOf", "(I)I"⟩, 16)]
theorem lw_r4 : ∀ q ∈ lw_privs_4, lw_okq q := List.forall_mem_cons.mpr ⟨lw_p48, List.forall_mem_cons.mpr ⟨lw_p49, List.forall_mem_cons.mpr ⟨lw_p50, List.forall_mem_cons.mpr ⟨lw_p51, List.forall_mem_cons.mpr ⟨lw_p52, List.forall_mem_cons.mpr ⟨lw_p53, List.forall_mem_cons.mpr ⟨lw_p54, List.forall_mem_cons.mpr ⟨lw_p55, List.forall_mem_cons.mpr ⟨lw_p56, List.forall_mem_cons.mpr ⟨lw_p57, List.forall_mem_cons.mpr ⟨lw_p58, List.forall_mem_cons.mpr ⟨lw_p59, List.forall_mem_cons.mpr ⟨lw_p60, List.forall_mem_cons.mpr ⟨lw_p61, List.forall_mem_cons.mpr ⟨lw_p62, List.forall_mem_cons.mpr ⟨lw_p63, fun _ h => absurd h List.not_mem_nil⟩⟩⟩⟩⟩⟩⟩⟩⟩⟩⟩⟩⟩⟩⟩⟩
theorem lw_p64 : lw_okq (⟨"DocumentaryCreditDeskModel", "dueOf", "(I)I"⟩, 16) := ⟨⟨by decide +kernel, by decide +kernel⟩, lw_t7 (List.mem_of_getElem? (i := 148) rfl), lw_t8 (List.mem_of_getElem? (i := 239) rfl), lw_t9 (List.mem_of_getElem? (i := 0) rfl)⟩
theorem lw_p65 : lw_okq (⟨"DocumentaryCreditDeskModel", "variable", "(II)I"⟩, 16) := ⟨⟨by decide +kernel, by decide +kernel⟩, lw_t7 (List.mem_of_getElem? (i := 148) rfl), lw_t9 (List.mem_of_getElem? (i := 11) rfl), lw_t9 (List.mem_of_getElem? (i := 12) rfl)⟩
theorem lw_p66 : lw_okq (⟨"DocumentaryCreditDeskModel", "honour", "(I)V"⟩, 16) := ⟨⟨by decide +kernel, by decide +kernel⟩, lw_t7 (List.mem_of_getElem? (i := 148) rfl), lw_t9 (List.mem_of_getElem? (i := 36) rfl), lw_t9 (List.mem_of_getElem? (i := 37) rfl)⟩
def lw_privs_5 : List (MethodName × Nat) := [(⟨"DocumentaryCreditDeskModel", "dueOf", "(I)I"⟩, 16), (⟨"DocumentaryCreditDeskModel", "variable", "(II)I"⟩, 16), (⟨"DocumentaryCreditDeskModel", "honour", "(I)V"⟩, 16)]
theorem lw_r5 : ∀ q ∈ lw_privs_5, lw_okq q := List.forall_mem_cons.mpr ⟨lw_p64, List.forall_mem_cons.mpr ⟨lw_p65, List.forall_mem_cons.mpr ⟨lw_p66, fun _ h => absurd h List.not_mem_nil⟩⟩⟩
def lw_privs : List (MethodName × Nat) := lw_privs_1 ++ (lw_privs_2 ++ (lw_privs_3 ++ (lw_privs_4 ++ (lw_privs_5))))
def lw_tbl : List Cond := k2_sels lw_privs ++ tables_1
theorem lw_privs_ok : ∀ q ∈ lw_privs, lw_okq q := by
  show ∀ q ∈ lw_privs_1 ++ (lw_privs_2 ++ (lw_privs_3 ++ (lw_privs_4 ++ (lw_privs_5)))), lw_okq q
  exact List.forall_mem_append.mpr ⟨lw_r1, List.forall_mem_append.mpr ⟨lw_r2, List.forall_mem_append.mpr ⟨lw_r3, List.forall_mem_append.mpr ⟨lw_r4, lw_r5⟩⟩⟩⟩
-- ===== ONE list of words for every method: the tables' words that hold all through a run =====
def lw_all : List Cond := lw_tbl.filter goodWord
/-- a word of the tables by its place: claim/WORDS.tsv -/
theorem lw_w {w : Cond} (i : Nat) (h : lw_tbl[i]? = some w) (g : goodWord w = true) : w ∈ lw_all := List.mem_filter.mpr ⟨List.mem_of_getElem? h, g⟩
theorem lw_all_tbl {w : Cond} (h : w ∈ lw_all) : w ∈ lw_tbl := (List.mem_filter.mp h).1
theorem lw_self : GoodIn lw_all lw_all := fun w h => ⟨h, good_of_word (List.mem_filter.mp h).2⟩
/-- a class's field words, by their places -/
theorem lw_in (ws : List Cond) (ps : List Nat) (hp : ws = ps.filterMap (fun i => lw_tbl[i]?)) (hg : ws.all goodWord = true) : ∀ w ∈ ws, w ∈ lw_all := by
  intro w h
  have h1 := List.all_eq_true.mp hg w h
  rw [hp] at h
  obtain ⟨i, -, hi⟩ := List.mem_filterMap.mp h
  exact lw_w i hi h1
/-- the words of a contract for the method y with code b, L locals, answer r -/
abbrev ws_ (y : MethodName) (b : ByteArray) (L : Nat) (r : Option FieldType) : List Cond := Cond.code y b L r :: lw_all
theorem lw_meth {y : MethodName} {b : ByteArray} {L : Nat} {r : Option FieldType} (h : Cond.code y b L r ∈ lw_all) : GoodIn lw_all (ws_ y b L r) := by
  intro w hw
  rcases List.mem_cons.mp hw with e | e
  · rw [e]
    exact lw_self _ h
  · exact lw_self _ e
theorem lw_app {a c : List Cond} (ha : ∀ w ∈ a, w ∈ lw_all) (hc : GoodIn lw_all c) : GoodIn lw_all (a ++ c) := by
  intro w hw
  rcases List.mem_append.mp hw with e | e
  · exact lw_self w (ha w e)
  · exact hc w e
/-- what a call through an object asks: cwV n hts (lw_V ..) -/
theorem lw_V {own : String} {idx : Nat} {C : String} {y : MethodName} {b : ByteArray} {L : Nat} {r : Option FieldType} (h1 : Cond.methodLink own idx y ∈ lw_all) (h2 : Cond.instanceMethod y ∈ lw_all) (h3 : Cond.selects C y y ∈ lw_all) (h4 : Cond.initialized C ∈ lw_all) (h5 : Cond.code y b L r ∈ lw_all) : GoodIn lw_all (wsV own idx C y (ws_ y b L r)) := by
  refine lw_app ?_ (lw_meth h5)
  intro w hw
  simp only [List.mem_cons, List.not_mem_nil, or_false] at hw
  rcases hw with e | e | e | e
  · rw [e]; exact h1
  · rw [e]; exact h2
  · rw [e]; exact h3
  · rw [e]; exact h4
/-- what a static call asks: va_cwS n hts (lw_S ..) -/
theorem lw_S {own : String} {idx : Nat} {y : MethodName} {b : ByteArray} {L : Nat} {r : Option FieldType} (h1 : Cond.methodLink own idx y ∈ lw_all) (h2 : Cond.static y ∈ lw_all) (h3 : Cond.initialized y.cls ∈ lw_all) (h4 : Cond.code y b L r ∈ lw_all) : GoodIn lw_all (va_wsS own idx y (ws_ y b L r)) := by
  refine lw_app ?_ (lw_meth h4)
  intro w hw
  simp only [List.mem_cons, List.not_mem_nil, or_false] at hw
  rcases hw with e | e | e
  · rw [e]; exact h1
  · rw [e]; exact h2
  · rw [e]; exact h3
/-- the words of a contract for a method WITH HANDLERS (hh: its table) -/
abbrev wsW_ (y : MethodName) (b : ByteArray) (L : Nat) (r : Option FieldType) (hh : List (Nat × Nat × Nat × Nat)) : List Cond := Cond.codeWith y b L r hh :: lw_all
theorem lw_methW {y : MethodName} {b : ByteArray} {L : Nat} {r : Option FieldType} {hh : List (Nat × Nat × Nat × Nat)} (h : Cond.codeWith y b L r hh ∈ lw_all) : GoodIn lw_all (wsW_ y b L r hh) := by
  intro w hw
  rcases List.mem_cons.mp hw with e | e
  · rw [e]
    exact lw_self _ h
  · exact lw_self _ e
/-- any list of words by their places (lw_in), good -/
theorem lw_good {ws : List Cond} (h : ∀ w ∈ ws, w ∈ lw_all) : GoodIn lw_all ws := fun w hw => lw_self w (h w hw)
/-- what a call of a method with handlers asks: vx_cwVW n hts (lw_VW ..), vx_cwSW n hts (lw_SW ..) -/
theorem lw_VW {own : String} {idx : Nat} {C : String} {y : MethodName} {b : ByteArray} {L : Nat} {r : Option FieldType} {hh : List (Nat × Nat × Nat × Nat)} (h1 : Cond.methodLink own idx y ∈ lw_all) (h2 : Cond.instanceMethod y ∈ lw_all) (h3 : Cond.selects C y y ∈ lw_all) (h4 : Cond.initialized C ∈ lw_all) (h5 : Cond.codeWith y b L r hh ∈ lw_all) : GoodIn lw_all (wsV own idx C y (wsW_ y b L r hh)) := by
  refine lw_app ?_ (lw_methW h5)
  intro w hw
  simp only [List.mem_cons, List.not_mem_nil, or_false] at hw
  rcases hw with e | e | e | e
  · rw [e]; exact h1
  · rw [e]; exact h2
  · rw [e]; exact h3
  · rw [e]; exact h4
theorem lw_SW {own : String} {idx : Nat} {y : MethodName} {b : ByteArray} {L : Nat} {r : Option FieldType} {hh : List (Nat × Nat × Nat × Nat)} (h1 : Cond.methodLink own idx y ∈ lw_all) (h2 : Cond.static y ∈ lw_all) (h3 : Cond.initialized y.cls ∈ lw_all) (h4 : Cond.codeWith y b L r hh ∈ lw_all) : GoodIn lw_all (va_wsS own idx y (wsW_ y b L r hh)) := by
  refine lw_app ?_ (lw_methW h4)
  intro w hw
  simp only [List.mem_cons, List.not_mem_nil, or_false] at hw
  rcases hw with e | e | e
  · rw [e]; exact h1
  · rw [e]; exact h2
  · rw [e]; exact h3
/-- a word by its place in its run of the tables -/
theorem lw_at {r : List Cond} (hr : ∀ w ∈ r, w ∈ lw_tbl) {w : Cond} (i : Nat) (h : r[i]? = some w) : w ∈ lw_tbl := hr w (List.mem_of_getElem? h)
theorem lw_g {w : Cond} (h : w ∈ lw_tbl) (g : goodWord w = true) : w ∈ lw_all := List.mem_filter.mpr ⟨h, g⟩
theorem lw_ms : ∀ w ∈ k2_sels lw_privs, w ∈ lw_tbl := fun w h => show w ∈ k2_sels lw_privs ++ tables_1 from List.mem_append_left _ h
theorem lw_m1 : ∀ w ∈ tables_1_1, w ∈ lw_tbl := fun w h => show w ∈ k2_sels lw_privs ++ tables_1 from List.mem_append_right (k2_sels lw_privs) (show w ∈ tables_1 from List.mem_append_left _ h)
theorem lw_m2 : ∀ w ∈ tables_1_2, w ∈ lw_tbl := fun w h => show w ∈ k2_sels lw_privs ++ tables_1 from List.mem_append_right (k2_sels lw_privs) (show w ∈ tables_1 from List.mem_append_right _ (List.mem_append_left _ h))
theorem lw_m3 : ∀ w ∈ tables_1_3, w ∈ lw_tbl := fun w h => show w ∈ k2_sels lw_privs ++ tables_1 from List.mem_append_right (k2_sels lw_privs) (show w ∈ tables_1 from List.mem_append_right _ (List.mem_append_right _ (List.mem_append_left _ h)))
theorem lw_m4 : ∀ w ∈ tables_1_4, w ∈ lw_tbl := fun w h => show w ∈ k2_sels lw_privs ++ tables_1 from List.mem_append_right (k2_sels lw_privs) (show w ∈ tables_1 from List.mem_append_right _ (List.mem_append_right _ (List.mem_append_right _ (List.mem_append_left _ h))))
theorem lw_m5 : ∀ w ∈ tables_1_5, w ∈ lw_tbl := fun w h => show w ∈ k2_sels lw_privs ++ tables_1 from List.mem_append_right (k2_sels lw_privs) (show w ∈ tables_1 from List.mem_append_right _ (List.mem_append_right _ (List.mem_append_right _ (List.mem_append_right _ (List.mem_append_left _ h)))))
theorem lw_m6 : ∀ w ∈ tables_1_6, w ∈ lw_tbl := fun w h => show w ∈ k2_sels lw_privs ++ tables_1 from List.mem_append_right (k2_sels lw_privs) (show w ∈ tables_1 from List.mem_append_right _ (List.mem_append_right _ (List.mem_append_right _ (List.mem_append_right _ (List.mem_append_right _ (List.mem_append_left _ h))))))
theorem lw_m7 : ∀ w ∈ tables_1_7, w ∈ lw_tbl := fun w h => show w ∈ k2_sels lw_privs ++ tables_1 from List.mem_append_right (k2_sels lw_privs) (show w ∈ tables_1 from List.mem_append_right _ (List.mem_append_right _ (List.mem_append_right _ (List.mem_append_right _ (List.mem_append_right _ (List.mem_append_right _ (List.mem_append_left _ h)))))))
theorem lw_m8 : ∀ w ∈ tables_1_8, w ∈ lw_tbl := fun w h => show w ∈ k2_sels lw_privs ++ tables_1 from List.mem_append_right (k2_sels lw_privs) (show w ∈ tables_1 from List.mem_append_right _ (List.mem_append_right _ (List.mem_append_right _ (List.mem_append_right _ (List.mem_append_right _ (List.mem_append_right _ (List.mem_append_right _ (List.mem_append_left _ h))))))))
theorem lw_m9 : ∀ w ∈ tables_1_9, w ∈ lw_tbl := fun w h => show w ∈ k2_sels lw_privs ++ tables_1 from List.mem_append_right (k2_sels lw_privs) (show w ∈ tables_1 from List.mem_append_right _ (List.mem_append_right _ (List.mem_append_right _ (List.mem_append_right _ (List.mem_append_right _ (List.mem_append_right _ (List.mem_append_right _ (List.mem_append_right _ h))))))))
theorem qs0 : (Cond.selects "DocumentaryCreditDesk" ⟨"DocumentaryCreditDesk", "put", "(I)V"⟩ ⟨"DocumentaryCreditDesk", "put", "(I)V"⟩) ∈ lw_all := lw_g (lw_at lw_ms 0 rfl) rfl
theorem qs1 : (Cond.selects "java/lang/Throwable" ⟨"java/lang/Throwable", "fillInStackTrace", "(I)Ljava/lang/Throwable;"⟩ ⟨"java/lang/Throwable", "fillInStackTrace", "(I)Ljava/lang/Throwable;"⟩) ∈ lw_all := lw_g (lw_at lw_ms 1 rfl) rfl
theorem qs2 : (Cond.selects "DocumentaryCreditDesk$Parser" ⟨"DocumentaryCreditDesk$Parser", "peek", "()I"⟩ ⟨"DocumentaryCreditDesk$Parser", "peek", "()I"⟩) ∈ lw_all := lw_g (lw_at lw_ms 2 rfl) rfl
theorem qs3 : (Cond.selects "DocumentaryCreditDesk$Parser" ⟨"DocumentaryCreditDesk$Parser", "statement", "()V"⟩ ⟨"DocumentaryCreditDesk$Parser", "statement", "()V"⟩) ∈ lw_all := lw_g (lw_at lw_ms 3 rfl) rfl
theorem qs4 : (Cond.selects "DocumentaryCreditDesk$Parser" ⟨"DocumentaryCreditDesk$Parser", "word", "()Ljava/lang/String;"⟩ ⟨"DocumentaryCreditDesk$Parser", "word", "()Ljava/lang/String;"⟩) ∈ lw_all := lw_g (lw_at lw_ms 4 rfl) rfl
theorem qs5 : (Cond.selects "DocumentaryCreditDesk$Parser" ⟨"DocumentaryCreditDesk$Parser", "isLetterAt", "(I)Z"⟩ ⟨"DocumentaryCreditDesk$Parser", "isLetterAt", "(I)Z"⟩) ∈ lw_all := lw_g (lw_at lw_ms 5 rfl) rfl
theorem qs6 : (Cond.selects "DocumentaryCreditDesk$Parser" ⟨"DocumentaryCreditDesk$Parser", "holidays", "()V"⟩ ⟨"DocumentaryCreditDesk$Parser", "holidays", "()V"⟩) ∈ lw_all := lw_g (lw_at lw_ms 6 rfl) rfl
theorem qs7 : (Cond.selects "DocumentaryCreditDesk$Parser" ⟨"DocumentaryCreditDesk$Parser", "number", "(II)I"⟩ ⟨"DocumentaryCreditDesk$Parser", "number", "(II)I"⟩) ∈ lw_all := lw_g (lw_at lw_ms 7 rfl) rfl
theorem qs8 : (Cond.selects "DocumentaryCreditDesk$Parser" ⟨"DocumentaryCreditDesk$Parser", "isDigitNext", "()Z"⟩ ⟨"DocumentaryCreditDesk$Parser", "isDigitNext", "()Z"⟩) ∈ lw_all := lw_g (lw_at lw_ms 8 rfl) rfl
theorem qs9 : (Cond.selects "DocumentaryCreditDesk$Parser" ⟨"DocumentaryCreditDesk$Parser", "requireSyntax", "(ZI)V"⟩ ⟨"DocumentaryCreditDesk$Parser", "requireSyntax", "(ZI)V"⟩) ∈ lw_all := lw_g (lw_at lw_ms 9 rfl) rfl
theorem qs10 : (Cond.selects "DocumentaryCreditDesk$Parser" ⟨"DocumentaryCreditDesk$Parser", "requireLimit", "(ZII)V"⟩ ⟨"DocumentaryCreditDesk$Parser", "requireLimit", "(ZII)V"⟩) ∈ lw_all := lw_g (lw_at lw_ms 10 rfl) rfl
theorem qs11 : (Cond.selects "DocumentaryCreditDesk$Parser" ⟨"DocumentaryCreditDesk$Parser", "credit", "()V"⟩ ⟨"DocumentaryCreditDesk$Parser", "credit", "()V"⟩) ∈ lw_all := lw_g (lw_at lw_ms 11 rfl) rfl
theorem qs12 : (Cond.selects "DocumentaryCreditDesk$Parser" ⟨"DocumentaryCreditDesk$Parser", "accept", "(Ljava/lang/String;)Z"⟩ ⟨"DocumentaryCreditDesk$Parser", "accept", "(Ljava/lang/String;)Z"⟩) ∈ lw_all := lw_g (lw_at lw_ms 12 rfl) rfl
theorem qs13 : (Cond.selects "DocumentaryCreditDesk$Parser" ⟨"DocumentaryCreditDesk$Parser", "documents", "()I"⟩ ⟨"DocumentaryCreditDesk$Parser", "documents", "()I"⟩) ∈ lw_all := lw_g (lw_at lw_ms 13 rfl) rfl
theorem qs14 : (Cond.selects "java/util/ArrayList" ⟨"java/util/ArrayList", "add", "(Ljava/lang/Object;[Ljava/lang/Object;I)V"⟩ ⟨"java/util/ArrayList", "add", "(Ljava/lang/Object;[Ljava/lang/Object;I)V"⟩) ∈ lw_all := lw_g (lw_at lw_ms 14 rfl) rfl
theorem qs15 : (Cond.selects "java/util/ArrayList" ⟨"java/util/ArrayList", "grow", "()[Ljava/lang/Object;"⟩ ⟨"java/util/ArrayList", "grow", "()[Ljava/lang/Object;"⟩) ∈ lw_all := lw_g (lw_at lw_ms 15 rfl) rfl
theorem qs16 : (Cond.selects "java/util/ArrayList" ⟨"java/util/ArrayList", "grow", "(I)[Ljava/lang/Object;"⟩ ⟨"java/util/ArrayList", "grow", "(I)[Ljava/lang/Object;"⟩) ∈ lw_all := lw_g (lw_at lw_ms 16 rfl) rfl
theorem qs17 : (Cond.selects "DocumentaryCreditDesk$Parser" ⟨"DocumentaryCreditDesk$Parser", "sum", "()LDocumentaryCreditDesk$Fee;"⟩ ⟨"DocumentaryCreditDesk$Parser", "sum", "()LDocumentaryCreditDesk$Fee;"⟩) ∈ lw_all := lw_g (lw_at lw_ms 17 rfl) rfl
theorem qs18 : (Cond.selects "DocumentaryCreditDesk$Parser" ⟨"DocumentaryCreditDesk$Parser", "term", "()LDocumentaryCreditDesk$Fee;"⟩ ⟨"DocumentaryCreditDesk$Parser", "term", "()LDocumentaryCreditDesk$Fee;"⟩) ∈ lw_all := lw_g (lw_at lw_ms 18 rfl) rfl
theorem qs19 : (Cond.selects "DocumentaryCreditDesk$Parser" ⟨"DocumentaryCreditDesk$Parser", "factor", "()LDocumentaryCreditDesk$Fee;"⟩ ⟨"DocumentaryCreditDesk$Parser", "factor", "()LDocumentaryCreditDesk$Fee;"⟩) ∈ lw_all := lw_g (lw_at lw_ms 19 rfl) rfl
theorem qs20 : (Cond.selects "DocumentaryCreditDesk$Parser" ⟨"DocumentaryCreditDesk$Parser", "expect", "(I)V"⟩ ⟨"DocumentaryCreditDesk$Parser", "expect", "(I)V"⟩) ∈ lw_all := lw_g (lw_at lw_ms 20 rfl) rfl
theorem qs21 : (Cond.selects "DocumentaryCreditDesk" ⟨"DocumentaryCreditDesk", "replace", "(LDocumentaryCreditDesk$Desk;)V"⟩ ⟨"DocumentaryCreditDesk", "replace", "(LDocumentaryCreditDesk$Desk;)V"⟩) ∈ lw_all := lw_g (lw_at lw_ms 21 rfl) rfl
theorem qs22 : (Cond.selects "java/util/ArrayDeque" ⟨"java/util/ArrayDeque", "grow", "(I)V"⟩ ⟨"java/util/ArrayDeque", "grow", "(I)V"⟩) ∈ lw_all := lw_g (lw_at lw_ms 22 rfl) rfl
theorem qs23 : (Cond.selects "java/util/ArrayDeque" ⟨"java/util/ArrayDeque", "newCapacity", "(II)I"⟩ ⟨"java/util/ArrayDeque", "newCapacity", "(II)I"⟩) ∈ lw_all := lw_g (lw_at lw_ms 23 rfl) rfl
theorem qs24 : (Cond.selects "DocumentaryCreditDesk" ⟨"DocumentaryCreditDesk", "creditAt", "(I)LDocumentaryCreditDesk$Credit;"⟩ ⟨"DocumentaryCreditDesk", "creditAt", "(I)LDocumentaryCreditDesk$Credit;"⟩) ∈ lw_all := lw_g (lw_at lw_ms 24 rfl) rfl
theorem qs25 : (Cond.selects "DocumentaryCreditDesk" ⟨"DocumentaryCreditDesk", "requireCredit", "(I)V"⟩ ⟨"DocumentaryCreditDesk", "requireCredit", "(I)V"⟩) ∈ lw_all := lw_g (lw_at lw_ms 25 rfl) rfl
theorem qs26 : (Cond.selects "DocumentaryCreditDesk" ⟨"DocumentaryCreditDesk", "presentationAt", "(I)LDocumentaryCreditDesk$Presentation;"⟩ ⟨"DocumentaryCreditDesk", "presentationAt", "(I)LDocumentaryCreditDesk$Presentation;"⟩) ∈ lw_all := lw_g (lw_at lw_ms 26 rfl) rfl
theorem qs27 : (Cond.selects "DocumentaryCreditDesk" ⟨"DocumentaryCreditDesk", "requireDrawing", "(IIIII)V"⟩ ⟨"DocumentaryCreditDesk", "requireDrawing", "(IIIII)V"⟩) ∈ lw_all := lw_g (lw_at lw_ms 27 rfl) rfl
theorem qs28 : (Cond.selects "DocumentaryCreditDesk$Desk" ⟨"DocumentaryCreditDesk$Desk", "hasPresentation", "(I)Z"⟩ ⟨"DocumentaryCreditDesk$Desk", "hasPresentation", "(I)Z"⟩) ∈ lw_all := lw_g (lw_at lw_ms 28 rfl) rfl
theorem qs29 : (Cond.selects "DocumentaryCreditDesk" ⟨"DocumentaryCreditDesk", "change", "()LDocumentaryCreditDesk$Desk;"⟩ ⟨"DocumentaryCreditDesk", "change", "()LDocumentaryCreditDesk$Desk;"⟩) ∈ lw_all := lw_g (lw_at lw_ms 29 rfl) rfl
theorem qs30 : (Cond.selects "DocumentaryCreditDesk$Desk" ⟨"DocumentaryCreditDesk$Desk", "dueFrom", "(LDocumentaryCreditDesk$Presentation;)I"⟩ ⟨"DocumentaryCreditDesk$Desk", "dueFrom", "(LDocumentaryCreditDesk$Presentation;)I"⟩) ∈ lw_all := lw_g (lw_at lw_ms 30 rfl) rfl
theorem qs31 : (Cond.selects "DocumentaryCreditDeskModel" ⟨"DocumentaryCreditDeskModel", "fails", "(ZI)Z"⟩ ⟨"DocumentaryCreditDeskModel", "fails", "(ZI)Z"⟩) ∈ lw_all := lw_g (lw_at lw_ms 31 rfl) rfl
theorem qs32 : (Cond.selects "DocumentaryCreditDeskModel" ⟨"DocumentaryCreditDeskModel", "isGood", "()Z"⟩ ⟨"DocumentaryCreditDeskModel", "isGood", "()Z"⟩) ∈ lw_all := lw_g (lw_at lw_ms 32 rfl) rfl
theorem qs33 : (Cond.selects "DocumentaryCreditDeskModel" ⟨"DocumentaryCreditDeskModel", "next", "()I"⟩ ⟨"DocumentaryCreditDeskModel", "next", "()I"⟩) ∈ lw_all := lw_g (lw_at lw_ms 33 rfl) rfl
theorem qs34 : (Cond.selects "DocumentaryCreditDeskModel" ⟨"DocumentaryCreditDeskModel", "byteAt", "(I)I"⟩ ⟨"DocumentaryCreditDeskModel", "byteAt", "(I)I"⟩) ∈ lw_all := lw_g (lw_at lw_ms 34 rfl) rfl
theorem qs35 : (Cond.selects "DocumentaryCreditDeskModel" ⟨"DocumentaryCreditDeskModel", "statement", "()V"⟩ ⟨"DocumentaryCreditDeskModel", "statement", "()V"⟩) ∈ lw_all := lw_g (lw_at lw_ms 35 rfl) rfl
theorem qs36 : (Cond.selects "DocumentaryCreditDeskModel" ⟨"DocumentaryCreditDeskModel", "takeWord", "(Ljava/lang/String;)Z"⟩ ⟨"DocumentaryCreditDeskModel", "takeWord", "(Ljava/lang/String;)Z"⟩) ∈ lw_all := lw_g (lw_at lw_ms 36 rfl) rfl
theorem qs37 : (Cond.selects "DocumentaryCreditDeskModel" ⟨"DocumentaryCreditDeskModel", "readHoliday", "()V"⟩ ⟨"DocumentaryCreditDeskModel", "readHoliday", "()V"⟩) ∈ lw_all := lw_g (lw_at lw_ms 37 rfl) rfl
theorem qs38 : (Cond.selects "DocumentaryCreditDeskModel" ⟨"DocumentaryCreditDeskModel", "number", "(II)I"⟩ ⟨"DocumentaryCreditDeskModel", "number", "(II)I"⟩) ∈ lw_all := lw_g (lw_at lw_ms 38 rfl) rfl
theorem qs39 : (Cond.selects "DocumentaryCreditDeskModel" ⟨"DocumentaryCreditDeskModel", "report", "(II)V"⟩ ⟨"DocumentaryCreditDeskModel", "report", "(II)V"⟩) ∈ lw_all := lw_g (lw_at lw_ms 39 rfl) rfl
theorem qs40 : (Cond.selects "DocumentaryCreditDeskModel" ⟨"DocumentaryCreditDeskModel", "readCredit", "(I)V"⟩ ⟨"DocumentaryCreditDeskModel", "readCredit", "(I)V"⟩) ∈ lw_all := lw_g (lw_at lw_ms 40 rfl) rfl
theorem qs41 : (Cond.selects "DocumentaryCreditDeskModel" ⟨"DocumentaryCreditDeskModel", "readNeeds", "(I)V"⟩ ⟨"DocumentaryCreditDeskModel", "readNeeds", "(I)V"⟩) ∈ lw_all := lw_g (lw_at lw_ms 41 rfl) rfl
theorem qs42 : (Cond.selects "DocumentaryCreditDeskModel" ⟨"DocumentaryCreditDeskModel", "once", "(II)V"⟩ ⟨"DocumentaryCreditDeskModel", "once", "(II)V"⟩) ∈ lw_all := lw_g (lw_at lw_ms 42 rfl) rfl
theorem qs43 : (Cond.selects "DocumentaryCreditDeskModel" ⟨"DocumentaryCreditDeskModel", "sum", "()V"⟩ ⟨"DocumentaryCreditDeskModel", "sum", "()V"⟩) ∈ lw_all := lw_g (lw_at lw_ms 43 rfl) rfl
theorem qs44 : (Cond.selects "DocumentaryCreditDeskModel" ⟨"DocumentaryCreditDeskModel", "term", "()V"⟩ ⟨"DocumentaryCreditDeskModel", "term", "()V"⟩) ∈ lw_all := lw_g (lw_at lw_ms 44 rfl) rfl
theorem qs45 : (Cond.selects "DocumentaryCreditDeskModel" ⟨"DocumentaryCreditDeskModel", "factor", "()V"⟩ ⟨"DocumentaryCreditDeskModel", "factor", "()V"⟩) ∈ lw_all := lw_g (lw_at lw_ms 45 rfl) rfl
theorem qs46 : (Cond.selects "DocumentaryCreditDeskModel" ⟨"DocumentaryCreditDeskModel", "expect", "(I)V"⟩ ⟨"DocumentaryCreditDeskModel", "expect", "(I)V"⟩) ∈ lw_all := lw_g (lw_at lw_ms 46 rfl) rfl
theorem qs47 : (Cond.selects "DocumentaryCreditDeskModel" ⟨"DocumentaryCreditDeskModel", "emit", "(I)V"⟩ ⟨"DocumentaryCreditDeskModel", "emit", "(I)V"⟩) ∈ lw_all := lw_g (lw_at lw_ms 47 rfl) rfl
theorem qs48 : (Cond.selects "DocumentaryCreditDeskModel" ⟨"DocumentaryCreditDeskModel", "remember", "()V"⟩ ⟨"DocumentaryCreditDeskModel", "remember", "()V"⟩) ∈ lw_all := lw_g (lw_at lw_ms 48 rfl) rfl
theorem qs49 : (Cond.selects "DocumentaryCreditDeskModel" ⟨"DocumentaryCreditDeskModel", "isBusiness", "(I)Z"⟩ ⟨"DocumentaryCreditDeskModel", "isBusiness", "(I)Z"⟩) ∈ lw_all := lw_g (lw_at lw_ms 49 rfl) rfl
theorem qs50 : (Cond.selects "DocumentaryCreditDeskModel" ⟨"DocumentaryCreditDeskModel", "extend", "(I)I"⟩ ⟨"DocumentaryCreditDeskModel", "extend", "(I)I"⟩) ∈ lw_all := lw_g (lw_at lw_ms 50 rfl) rfl
theorem qs51 : (Cond.selects "DocumentaryCreditDeskModel" ⟨"DocumentaryCreditDeskModel", "add", "(II)I"⟩ ⟨"DocumentaryCreditDeskModel", "add", "(II)I"⟩) ∈ lw_all := lw_g (lw_at lw_ms 51 rfl) rfl
theorem qs52 : (Cond.selects "DocumentaryCreditDeskModel" ⟨"DocumentaryCreditDeskModel", "noCredit", "(I)Z"⟩ ⟨"DocumentaryCreditDeskModel", "noCredit", "(I)Z"⟩) ∈ lw_all := lw_g (lw_at lw_ms 52 rfl) rfl
theorem qs53 : (Cond.selects "DocumentaryCreditDeskModel" ⟨"DocumentaryCreditDeskModel", "most", "(I)I"⟩ ⟨"DocumentaryCreditDeskModel", "most", "(I)I"⟩) ∈ lw_all := lw_g (lw_at lw_ms 53 rfl) rfl
theorem qs54 : (Cond.selects "DocumentaryCreditDeskModel" ⟨"DocumentaryCreditDeskModel", "least", "(I)I"⟩ ⟨"DocumentaryCreditDeskModel", "least", "(I)I"⟩) ∈ lw_all := lw_g (lw_at lw_ms 54 rfl) rfl
theorem qs55 : (Cond.selects "DocumentaryCreditDeskModel" ⟨"DocumentaryCreditDeskModel", "drawnOf", "(I)I"⟩ ⟨"DocumentaryCreditDeskModel", "drawnOf", "(I)I"⟩) ∈ lw_all := lw_g (lw_at lw_ms 55 rfl) rfl
theorem qs56 : (Cond.selects "DocumentaryCreditDeskModel" ⟨"DocumentaryCreditDeskModel", "stands", "(II)Z"⟩ ⟨"DocumentaryCreditDeskModel", "stands", "(II)Z"⟩) ∈ lw_all := lw_g (lw_at lw_ms 56 rfl) rfl
theorem qs57 : (Cond.selects "DocumentaryCreditDeskModel" ⟨"DocumentaryCreditDeskModel", "transferredOf", "(I)I"⟩ ⟨"DocumentaryCreditDeskModel", "transferredOf", "(I)I"⟩) ∈ lw_all := lw_g (lw_at lw_ms 57 rfl) rfl
theorem qs58 : (Cond.selects "DocumentaryCreditDeskModel" ⟨"DocumentaryCreditDeskModel", "availableOf", "(I)I"⟩ ⟨"DocumentaryCreditDeskModel", "availableOf", "(I)I"⟩) ∈ lw_all := lw_g (lw_at lw_ms 58 rfl) rfl
theorem qs59 : (Cond.selects "DocumentaryCreditDeskModel" ⟨"DocumentaryCreditDeskModel", "isWrong", "(IIII)Z"⟩ ⟨"DocumentaryCreditDeskModel", "isWrong", "(IIII)Z"⟩) ∈ lw_all := lw_g (lw_at lw_ms 59 rfl) rfl
theorem qs60 : (Cond.selects "DocumentaryCreditDeskModel" ⟨"DocumentaryCreditDeskModel", "faultsOf", "(IIIII)I"⟩ ⟨"DocumentaryCreditDeskModel", "faultsOf", "(IIIII)I"⟩) ∈ lw_all := lw_g (lw_at lw_ms 60 rfl) rfl
theorem qs61 : (Cond.selects "DocumentaryCreditDeskModel" ⟨"DocumentaryCreditDeskModel", "lastDayOf", "(II)I"⟩ ⟨"DocumentaryCreditDeskModel", "lastDayOf", "(II)I"⟩) ∈ lw_all := lw_g (lw_at lw_ms 61 rfl) rfl
theorem qs62 : (Cond.selects "DocumentaryCreditDeskModel" ⟨"DocumentaryCreditDeskModel", "noPresentation", "(I)Z"⟩ ⟨"DocumentaryCreditDeskModel", "noPresentation", "(I)Z"⟩) ∈ lw_all := lw_g (lw_at lw_ms 62 rfl) rfl
theorem qs63 : (Cond.selects "DocumentaryCreditDeskModel" ⟨"DocumentaryCreditDeskModel", "deadlineOf", "(I)I"⟩ ⟨"DocumentaryCreditDeskModel", "deadlineOf", "(I)I"⟩) ∈ lw_all := lw_g (lw_at lw_ms 63 rfl) rfl
theorem qs64 : (Cond.selects "DocumentaryCreditDeskModel" ⟨"DocumentaryCreditDeskModel", "dueOf", "(I)I"⟩ ⟨"DocumentaryCreditDeskModel", "dueOf", "(I)I"⟩) ∈ lw_all := lw_g (lw_at lw_ms 64 rfl) rfl
theorem qs65 : (Cond.selects "DocumentaryCreditDeskModel" ⟨"DocumentaryCreditDeskModel", "variable", "(II)I"⟩ ⟨"DocumentaryCreditDeskModel", "variable", "(II)I"⟩) ∈ lw_all := lw_g (lw_at lw_ms 65 rfl) rfl
theorem qs66 : (Cond.selects "DocumentaryCreditDeskModel" ⟨"DocumentaryCreditDeskModel", "honour", "(I)V"⟩ ⟨"DocumentaryCreditDeskModel", "honour", "(I)V"⟩) ∈ lw_all := lw_g (lw_at lw_ms 66 rfl) rfl
