/-! DocumentaryCreditDeskLaw -/
set_option maxRecDepth 100000
def RX0 : String := "DocumentaryCreditDeskLaw"
abbrev cX0_load : ByteArray := method_3_code
def yX0_load : MethodName := ⟨RX0, "load", "(LDocumentaryCreditDesk;I[J)I"⟩
def dkwX0_load_0 : List UInt8 := [44, 3, 42, 27, 182, 0, 7, 133, 80, 167, 0, 6, 78, 4, 172, 3, 172]
abbrev dktX0_load_0 : List UInt8 := dkwX0_load_0 ++ []
theorem dksX0_load_0 : cX0_load.data.toList.drop 0 = dktX0_load_0 := by decide +kernel
theorem dX0_load_0 : decode cX0_load 0 = .ok (.aload_n 2, 1) := dk_44 (dk_at dksX0_load_0 0 rfl rfl)
theorem dX0_load_1 : decode cX0_load 1 = .ok (.iconst 0, 1) := dk_3 (dk_at dksX0_load_0 1 rfl rfl)
theorem dX0_load_2 : decode cX0_load 2 = .ok (.aload_n 0, 1) := dk_42 (dk_at dksX0_load_0 2 rfl rfl)
theorem dX0_load_3 : decode cX0_load 3 = .ok (.iload_n 1, 1) := dk_27 (dk_at dksX0_load_0 3 rfl rfl)
theorem dX0_load_4 : decode cX0_load 4 = .ok (.invokevirtual 7, 3) := dk_182 0 7 (dk_at dksX0_load_0 4 rfl rfl)
theorem dX0_load_7 : decode cX0_load 7 = .ok (.i2l, 1) := dk_133 (dk_at dksX0_load_0 7 rfl rfl)
theorem dX0_load_8 : decode cX0_load 8 = .ok (.lastore, 1) := dk_80 (dk_at dksX0_load_0 8 rfl rfl)
theorem dX0_load_9 : decode cX0_load 9 = .ok (.goto 6, 3) := dk_167 0 6 (dk_at dksX0_load_0 9 rfl rfl)
theorem dX0_load_12 : decode cX0_load 12 = .ok (.astore_n 3, 1) := dk_78 (dk_at dksX0_load_0 12 rfl rfl)
theorem dX0_load_13 : decode cX0_load 13 = .ok (.iconst 1, 1) := dk_4 (dk_at dksX0_load_0 13 rfl rfl)
theorem dX0_load_14 : decode cX0_load 14 = .ok (.ireturn, 1) := dk_172 (dk_at dksX0_load_0 14 rfl rfl)
theorem dX0_load_15 : decode cX0_load 15 = .ok (.iconst 0, 1) := dk_3 (dk_at dksX0_load_0 15 rfl rfl)
theorem dX0_load_16 : decode cX0_load 16 = .ok (.ireturn, 1) := dk_172 (dk_at dksX0_load_0 16 rfl rfl)
abbrev cX0_isBusinessDay : ByteArray := method_4_code
def yX0_isBusinessDay : MethodName := ⟨RX0, "isBusinessDay", "(LDocumentaryCreditDesk;I[J)I"⟩
def dkwX0_isBusinessDay_0 : List UInt8 := [44, 3, 42, 27, 182, 0, 15, 153, 0, 7, 10, 167, 0, 4, 9, 80, 167, 0, 6, 78, 4, 172, 3, 172]
abbrev dktX0_isBusinessDay_0 : List UInt8 := dkwX0_isBusinessDay_0 ++ []
theorem dksX0_isBusinessDay_0 : cX0_isBusinessDay.data.toList.drop 0 = dktX0_isBusinessDay_0 := by decide +kernel
theorem dX0_isBusinessDay_0 : decode cX0_isBusinessDay 0 = .ok (.aload_n 2, 1) := dk_44 (dk_at dksX0_isBusinessDay_0 0 rfl rfl)
theorem dX0_isBusinessDay_1 : decode cX0_isBusinessDay 1 = .ok (.iconst 0, 1) := dk_3 (dk_at dksX0_isBusinessDay_0 1 rfl rfl)
theorem dX0_isBusinessDay_2 : decode cX0_isBusinessDay 2 = .ok (.aload_n 0, 1) := dk_42 (dk_at dksX0_isBusinessDay_0 2 rfl rfl)
theorem dX0_isBusinessDay_3 : decode cX0_isBusinessDay 3 = .ok (.iload_n 1, 1) := dk_27 (dk_at dksX0_isBusinessDay_0 3 rfl rfl)
theorem dX0_isBusinessDay_4 : decode cX0_isBusinessDay 4 = .ok (.invokevirtual 15, 3) := dk_182 0 15 (dk_at dksX0_isBusinessDay_0 4 rfl rfl)
theorem dX0_isBusinessDay_7 : decode cX0_isBusinessDay 7 = .ok (.ifCond .eq 7, 3) := dk_153 0 7 (dk_at dksX0_isBusinessDay_0 7 rfl rfl)
theorem dX0_isBusinessDay_10 : decode cX0_isBusinessDay 10 = .ok (.lconst 1, 1) := dk_10 (dk_at dksX0_isBusinessDay_0 10 rfl rfl)
theorem dX0_isBusinessDay_11 : decode cX0_isBusinessDay 11 = .ok (.goto 4, 3) := dk_167 0 4 (dk_at dksX0_isBusinessDay_0 11 rfl rfl)
theorem dX0_isBusinessDay_14 : decode cX0_isBusinessDay 14 = .ok (.lconst 0, 1) := dk_9 (dk_at dksX0_isBusinessDay_0 14 rfl rfl)
theorem dX0_isBusinessDay_15 : decode cX0_isBusinessDay 15 = .ok (.lastore, 1) := dk_80 (dk_at dksX0_isBusinessDay_0 15 rfl rfl)
theorem dX0_isBusinessDay_16 : decode cX0_isBusinessDay 16 = .ok (.goto 6, 3) := dk_167 0 6 (dk_at dksX0_isBusinessDay_0 16 rfl rfl)
theorem dX0_isBusinessDay_19 : decode cX0_isBusinessDay 19 = .ok (.astore_n 3, 1) := dk_78 (dk_at dksX0_isBusinessDay_0 19 rfl rfl)
theorem dX0_isBusinessDay_20 : decode cX0_isBusinessDay 20 = .ok (.iconst 1, 1) := dk_4 (dk_at dksX0_isBusinessDay_0 20 rfl rfl)
theorem dX0_isBusinessDay_21 : decode cX0_isBusinessDay 21 = .ok (.ireturn, 1) := dk_172 (dk_at dksX0_isBusinessDay_0 21 rfl rfl)
theorem dX0_isBusinessDay_22 : decode cX0_isBusinessDay 22 = .ok (.iconst 0, 1) := dk_3 (dk_at dksX0_isBusinessDay_0 22 rfl rfl)
theorem dX0_isBusinessDay_23 : decode cX0_isBusinessDay 23 = .ok (.ireturn, 1) := dk_172 (dk_at dksX0_isBusinessDay_0 23 rfl rfl)
abbrev cX0_extended : ByteArray := method_5_code
def yX0_extended : MethodName := ⟨RX0, "extended", "(LDocumentaryCreditDesk;I[J)I"⟩
def dkwX0_extended_0 : List UInt8 := [44, 3, 42, 27, 182, 0, 19, 133, 80, 167, 0, 6, 78, 4, 172, 3, 172]
abbrev dktX0_extended_0 : List UInt8 := dkwX0_extended_0 ++ []
theorem dksX0_extended_0 : cX0_extended.data.toList.drop 0 = dktX0_extended_0 := by decide +kernel
theorem dX0_extended_0 : decode cX0_extended 0 = .ok (.aload_n 2, 1) := dk_44 (dk_at dksX0_extended_0 0 rfl rfl)
theorem dX0_extended_1 : decode cX0_extended 1 = .ok (.iconst 0, 1) := dk_3 (dk_at dksX0_extended_0 1 rfl rfl)
theorem dX0_extended_2 : decode cX0_extended 2 = .ok (.aload_n 0, 1) := dk_42 (dk_at dksX0_extended_0 2 rfl rfl)
theorem dX0_extended_3 : decode cX0_extended 3 = .ok (.iload_n 1, 1) := dk_27 (dk_at dksX0_extended_0 3 rfl rfl)
theorem dX0_extended_4 : decode cX0_extended 4 = .ok (.invokevirtual 19, 3) := dk_182 0 19 (dk_at dksX0_extended_0 4 rfl rfl)
theorem dX0_extended_7 : decode cX0_extended 7 = .ok (.i2l, 1) := dk_133 (dk_at dksX0_extended_0 7 rfl rfl)
theorem dX0_extended_8 : decode cX0_extended 8 = .ok (.lastore, 1) := dk_80 (dk_at dksX0_extended_0 8 rfl rfl)
theorem dX0_extended_9 : decode cX0_extended 9 = .ok (.goto 6, 3) := dk_167 0 6 (dk_at dksX0_extended_0 9 rfl rfl)
theorem dX0_extended_12 : decode cX0_extended 12 = .ok (.astore_n 3, 1) := dk_78 (dk_at dksX0_extended_0 12 rfl rfl)
theorem dX0_extended_13 : decode cX0_extended 13 = .ok (.iconst 1, 1) := dk_4 (dk_at dksX0_extended_0 13 rfl rfl)
theorem dX0_extended_14 : decode cX0_extended 14 = .ok (.ireturn, 1) := dk_172 (dk_at dksX0_extended_0 14 rfl rfl)
theorem dX0_extended_15 : decode cX0_extended 15 = .ok (.iconst 0, 1) := dk_3 (dk_at dksX0_extended_0 15 rfl rfl)
theorem dX0_extended_16 : decode cX0_extended 16 = .ok (.ireturn, 1) := dk_172 (dk_at dksX0_extended_0 16 rfl rfl)
abbrev cX0_addBusinessDays : ByteArray := method_6_code
def yX0_addBusinessDays : MethodName := ⟨RX0, "addBusinessDays", "(LDocumentaryCreditDesk;II[J)I"⟩
def dkwX0_addBusinessDays_0 : List UInt8 := [45, 3, 42, 27, 28, 182, 0, 22, 133, 80, 167, 0, 7, 58, 4, 4, 172, 3, 172]
abbrev dktX0_addBusinessDays_0 : List UInt8 := dkwX0_addBusinessDays_0 ++ []
theorem dksX0_addBusinessDays_0 : cX0_addBusinessDays.data.toList.drop 0 = dktX0_addBusinessDays_0 := by decide +kernel
theorem dX0_addBusinessDays_0 : decode cX0_addBusinessDays 0 = .ok (.aload_n 3, 1) := dk_45 (dk_at dksX0_addBusinessDays_0 0 rfl rfl)
theorem dX0_addBusinessDays_1 : decode cX0_addBusinessDays 1 = .ok (.iconst 0, 1) := dk_3 (dk_at dksX0_addBusinessDays_0 1 rfl rfl)
theorem dX0_addBusinessDays_2 : decode cX0_addBusinessDays 2 = .ok (.aload_n 0, 1) := dk_42 (dk_at dksX0_addBusinessDays_0 2 rfl rfl)
theorem dX0_addBusinessDays_3 : decode cX0_addBusinessDays 3 = .ok (.iload_n 1, 1) := dk_27 (dk_at dksX0_addBusinessDays_0 3 rfl rfl)
theorem dX0_addBusinessDays_4 : decode cX0_addBusinessDays 4 = .ok (.iload_n 2, 1) := dk_28 (dk_at dksX0_addBusinessDays_0 4 rfl rfl)
theorem dX0_addBusinessDays_5 : decode cX0_addBusinessDays 5 = .ok (.invokevirtual 22, 3) := dk_182 0 22 (dk_at dksX0_addBusinessDays_0 5 rfl rfl)
theorem dX0_addBusinessDays_8 : decode cX0_addBusinessDays 8 = .ok (.i2l, 1) := dk_133 (dk_at dksX0_addBusinessDays_0 8 rfl rfl)
theorem dX0_addBusinessDays_9 : decode cX0_addBusinessDays 9 = .ok (.lastore, 1) := dk_80 (dk_at dksX0_addBusinessDays_0 9 rfl rfl)
theorem dX0_addBusinessDays_10 : decode cX0_addBusinessDays 10 = .ok (.goto 7, 3) := dk_167 0 7 (dk_at dksX0_addBusinessDays_0 10 rfl rfl)
theorem dX0_addBusinessDays_13 : decode cX0_addBusinessDays 13 = .ok (.astore 4, 2) := dk_58 4 (dk_at dksX0_addBusinessDays_0 13 rfl rfl)
theorem dX0_addBusinessDays_15 : decode cX0_addBusinessDays 15 = .ok (.iconst 1, 1) := dk_4 (dk_at dksX0_addBusinessDays_0 15 rfl rfl)
theorem dX0_addBusinessDays_16 : decode cX0_addBusinessDays 16 = .ok (.ireturn, 1) := dk_172 (dk_at dksX0_addBusinessDays_0 16 rfl rfl)
theorem dX0_addBusinessDays_17 : decode cX0_addBusinessDays 17 = .ok (.iconst 0, 1) := dk_3 (dk_at dksX0_addBusinessDays_0 17 rfl rfl)
theorem dX0_addBusinessDays_18 : decode cX0_addBusinessDays 18 = .ok (.ireturn, 1) := dk_172 (dk_at dksX0_addBusinessDays_0 18 rfl rfl)
abbrev cX0_businessDays : ByteArray := method_7_code
def yX0_businessDays : MethodName := ⟨RX0, "businessDays", "(LDocumentaryCreditDesk;II[J)I"⟩
def dkwX0_businessDays_0 : List UInt8 := [45, 3, 42, 27, 28, 182, 0, 26, 133, 80, 167, 0, 7, 58, 4, 4, 172, 3, 172]
abbrev dktX0_businessDays_0 : List UInt8 := dkwX0_businessDays_0 ++ []
theorem dksX0_businessDays_0 : cX0_businessDays.data.toList.drop 0 = dktX0_businessDays_0 := by decide +kernel
theorem dX0_businessDays_0 : decode cX0_businessDays 0 = .ok (.aload_n 3, 1) := dk_45 (dk_at dksX0_businessDays_0 0 rfl rfl)
theorem dX0_businessDays_1 : decode cX0_businessDays 1 = .ok (.iconst 0, 1) := dk_3 (dk_at dksX0_businessDays_0 1 rfl rfl)
theorem dX0_businessDays_2 : decode cX0_businessDays 2 = .ok (.aload_n 0, 1) := dk_42 (dk_at dksX0_businessDays_0 2 rfl rfl)
theorem dX0_businessDays_3 : decode cX0_businessDays 3 = .ok (.iload_n 1, 1) := dk_27 (dk_at dksX0_businessDays_0 3 rfl rfl)
theorem dX0_businessDays_4 : decode cX0_businessDays 4 = .ok (.iload_n 2, 1) := dk_28 (dk_at dksX0_businessDays_0 4 rfl rfl)
theorem dX0_businessDays_5 : decode cX0_businessDays 5 = .ok (.invokevirtual 26, 3) := dk_182 0 26 (dk_at dksX0_businessDays_0 5 rfl rfl)
theorem dX0_businessDays_8 : decode cX0_businessDays 8 = .ok (.i2l, 1) := dk_133 (dk_at dksX0_businessDays_0 8 rfl rfl)
theorem dX0_businessDays_9 : decode cX0_businessDays 9 = .ok (.lastore, 1) := dk_80 (dk_at dksX0_businessDays_0 9 rfl rfl)
theorem dX0_businessDays_10 : decode cX0_businessDays 10 = .ok (.goto 7, 3) := dk_167 0 7 (dk_at dksX0_businessDays_0 10 rfl rfl)
theorem dX0_businessDays_13 : decode cX0_businessDays 13 = .ok (.astore 4, 2) := dk_58 4 (dk_at dksX0_businessDays_0 13 rfl rfl)
theorem dX0_businessDays_15 : decode cX0_businessDays 15 = .ok (.iconst 1, 1) := dk_4 (dk_at dksX0_businessDays_0 15 rfl rfl)
theorem dX0_businessDays_16 : decode cX0_businessDays 16 = .ok (.ireturn, 1) := dk_172 (dk_at dksX0_businessDays_0 16 rfl rfl)
theorem dX0_businessDays_17 : decode cX0_businessDays 17 = .ok (.iconst 0, 1) := dk_3 (dk_at dksX0_businessDays_0 17 rfl rfl)
theorem dX0_businessDays_18 : decode cX0_businessDays 18 = .ok (.ireturn, 1) := dk_172 (dk_at dksX0_businessDays_0 18 rfl rfl)
abbrev cX0_parent : ByteArray := method_8_code
def yX0_parent : MethodName := ⟨RX0, "parent", "(LDocumentaryCreditDesk;I[J)I"⟩
def dkwX0_parent_0 : List UInt8 := [44, 3, 42, 27, 182, 0, 29, 133, 80, 167, 0, 6, 78, 4, 172, 3, 172]
abbrev dktX0_parent_0 : List UInt8 := dkwX0_parent_0 ++ []
theorem dksX0_parent_0 : cX0_parent.data.toList.drop 0 = dktX0_parent_0 := by decide +kernel
theorem dX0_parent_0 : decode cX0_parent 0 = .ok (.aload_n 2, 1) := dk_44 (dk_at dksX0_parent_0 0 rfl rfl)
theorem dX0_parent_1 : decode cX0_parent 1 = .ok (.iconst 0, 1) := dk_3 (dk_at dksX0_parent_0 1 rfl rfl)
theorem dX0_parent_2 : decode cX0_parent 2 = .ok (.aload_n 0, 1) := dk_42 (dk_at dksX0_parent_0 2 rfl rfl)
theorem dX0_parent_3 : decode cX0_parent 3 = .ok (.iload_n 1, 1) := dk_27 (dk_at dksX0_parent_0 3 rfl rfl)
theorem dX0_parent_4 : decode cX0_parent 4 = .ok (.invokevirtual 29, 3) := dk_182 0 29 (dk_at dksX0_parent_0 4 rfl rfl)
theorem dX0_parent_7 : decode cX0_parent 7 = .ok (.i2l, 1) := dk_133 (dk_at dksX0_parent_0 7 rfl rfl)
theorem dX0_parent_8 : decode cX0_parent 8 = .ok (.lastore, 1) := dk_80 (dk_at dksX0_parent_0 8 rfl rfl)
theorem dX0_parent_9 : decode cX0_parent 9 = .ok (.goto 6, 3) := dk_167 0 6 (dk_at dksX0_parent_0 9 rfl rfl)
theorem dX0_parent_12 : decode cX0_parent 12 = .ok (.astore_n 3, 1) := dk_78 (dk_at dksX0_parent_0 12 rfl rfl)
theorem dX0_parent_13 : decode cX0_parent 13 = .ok (.iconst 1, 1) := dk_4 (dk_at dksX0_parent_0 13 rfl rfl)
theorem dX0_parent_14 : decode cX0_parent 14 = .ok (.ireturn, 1) := dk_172 (dk_at dksX0_parent_0 14 rfl rfl)
theorem dX0_parent_15 : decode cX0_parent 15 = .ok (.iconst 0, 1) := dk_3 (dk_at dksX0_parent_0 15 rfl rfl)
theorem dX0_parent_16 : decode cX0_parent 16 = .ok (.ireturn, 1) := dk_172 (dk_at dksX0_parent_0 16 rfl rfl)
abbrev cX0_bound : ByteArray := method_9_code
def yX0_bound : MethodName := ⟨RX0, "bound", "(LDocumentaryCreditDesk;IZ[J)I"⟩
def dkwX0_bound_0 : List UInt8 := [45, 3, 42, 27, 28, 182, 0, 34, 133, 80, 167, 0, 7, 58, 4, 4, 172, 3, 172]
abbrev dktX0_bound_0 : List UInt8 := dkwX0_bound_0 ++ []
theorem dksX0_bound_0 : cX0_bound.data.toList.drop 0 = dktX0_bound_0 := by decide +kernel
theorem dX0_bound_0 : decode cX0_bound 0 = .ok (.aload_n 3, 1) := dk_45 (dk_at dksX0_bound_0 0 rfl rfl)
theorem dX0_bound_1 : decode cX0_bound 1 = .ok (.iconst 0, 1) := dk_3 (dk_at dksX0_bound_0 1 rfl rfl)
theorem dX0_bound_2 : decode cX0_bound 2 = .ok (.aload_n 0, 1) := dk_42 (dk_at dksX0_bound_0 2 rfl rfl)
theorem dX0_bound_3 : decode cX0_bound 3 = .ok (.iload_n 1, 1) := dk_27 (dk_at dksX0_bound_0 3 rfl rfl)
theorem dX0_bound_4 : decode cX0_bound 4 = .ok (.iload_n 2, 1) := dk_28 (dk_at dksX0_bound_0 4 rfl rfl)
theorem dX0_bound_5 : decode cX0_bound 5 = .ok (.invokevirtual 34, 3) := dk_182 0 34 (dk_at dksX0_bound_0 5 rfl rfl)
theorem dX0_bound_8 : decode cX0_bound 8 = .ok (.i2l, 1) := dk_133 (dk_at dksX0_bound_0 8 rfl rfl)
theorem dX0_bound_9 : decode cX0_bound 9 = .ok (.lastore, 1) := dk_80 (dk_at dksX0_bound_0 9 rfl rfl)
theorem dX0_bound_10 : decode cX0_bound 10 = .ok (.goto 7, 3) := dk_167 0 7 (dk_at dksX0_bound_0 10 rfl rfl)
theorem dX0_bound_13 : decode cX0_bound 13 = .ok (.astore 4, 2) := dk_58 4 (dk_at dksX0_bound_0 13 rfl rfl)
theorem dX0_bound_15 : decode cX0_bound 15 = .ok (.iconst 1, 1) := dk_4 (dk_at dksX0_bound_0 15 rfl rfl)
theorem dX0_bound_16 : decode cX0_bound 16 = .ok (.ireturn, 1) := dk_172 (dk_at dksX0_bound_0 16 rfl rfl)
theorem dX0_bound_17 : decode cX0_bound 17 = .ok (.iconst 0, 1) := dk_3 (dk_at dksX0_bound_0 17 rfl rfl)
theorem dX0_bound_18 : decode cX0_bound 18 = .ok (.ireturn, 1) := dk_172 (dk_at dksX0_bound_0 18 rfl rfl)
abbrev cX0_expiry : ByteArray := method_10_code
def yX0_expiry : MethodName := ⟨RX0, "expiry", "(LDocumentaryCreditDesk;I[J)I"⟩
def dkwX0_expiry_0 : List UInt8 := [44, 3, 42, 27, 182, 0, 38, 133, 80, 167, 0, 6, 78, 4, 172, 3, 172]
abbrev dktX0_expiry_0 : List UInt8 := dkwX0_expiry_0 ++ []
theorem dksX0_expiry_0 : cX0_expiry.data.toList.drop 0 = dktX0_expiry_0 := by decide +kernel
theorem dX0_expiry_0 : decode cX0_expiry 0 = .ok (.aload_n 2, 1) := dk_44 (dk_at dksX0_expiry_0 0 rfl rfl)
theorem dX0_expiry_1 : decode cX0_expiry 1 = .ok (.iconst 0, 1) := dk_3 (dk_at dksX0_expiry_0 1 rfl rfl)
theorem dX0_expiry_2 : decode cX0_expiry 2 = .ok (.aload_n 0, 1) := dk_42 (dk_at dksX0_expiry_0 2 rfl rfl)
theorem dX0_expiry_3 : decode cX0_expiry 3 = .ok (.iload_n 1, 1) := dk_27 (dk_at dksX0_expiry_0 3 rfl rfl)
theorem dX0_expiry_4 : decode cX0_expiry 4 = .ok (.invokevirtual 38, 3) := dk_182 0 38 (dk_at dksX0_expiry_0 4 rfl rfl)
theorem dX0_expiry_7 : decode cX0_expiry 7 = .ok (.i2l, 1) := dk_133 (dk_at dksX0_expiry_0 7 rfl rfl)
theorem dX0_expiry_8 : decode cX0_expiry 8 = .ok (.lastore, 1) := dk_80 (dk_at dksX0_expiry_0 8 rfl rfl)
theorem dX0_expiry_9 : decode cX0_expiry 9 = .ok (.goto 6, 3) := dk_167 0 6 (dk_at dksX0_expiry_0 9 rfl rfl)
theorem dX0_expiry_12 : decode cX0_expiry 12 = .ok (.astore_n 3, 1) := dk_78 (dk_at dksX0_expiry_0 12 rfl rfl)
theorem dX0_expiry_13 : decode cX0_expiry 13 = .ok (.iconst 1, 1) := dk_4 (dk_at dksX0_expiry_0 13 rfl rfl)
theorem dX0_expiry_14 : decode cX0_expiry 14 = .ok (.ireturn, 1) := dk_172 (dk_at dksX0_expiry_0 14 rfl rfl)
theorem dX0_expiry_15 : decode cX0_expiry 15 = .ok (.iconst 0, 1) := dk_3 (dk_at dksX0_expiry_0 15 rfl rfl)
theorem dX0_expiry_16 : decode cX0_expiry 16 = .ok (.ireturn, 1) := dk_172 (dk_at dksX0_expiry_0 16 rfl rfl)
abbrev cX0_drawn : ByteArray := method_11_code
def yX0_drawn : MethodName := ⟨RX0, "drawn", "(LDocumentaryCreditDesk;I[J)I"⟩
def dkwX0_drawn_0 : List UInt8 := [44, 3, 42, 27, 182, 0, 41, 133, 80, 167, 0, 6, 78, 4, 172, 3, 172]
abbrev dktX0_drawn_0 : List UInt8 := dkwX0_drawn_0 ++ []
theorem dksX0_drawn_0 : cX0_drawn.data.toList.drop 0 = dktX0_drawn_0 := by decide +kernel
theorem dX0_drawn_0 : decode cX0_drawn 0 = .ok (.aload_n 2, 1) := dk_44 (dk_at dksX0_drawn_0 0 rfl rfl)
theorem dX0_drawn_1 : decode cX0_drawn 1 = .ok (.iconst 0, 1) := dk_3 (dk_at dksX0_drawn_0 1 rfl rfl)
theorem dX0_drawn_2 : decode cX0_drawn 2 = .ok (.aload_n 0, 1) := dk_42 (dk_at dksX0_drawn_0 2 rfl rfl)
theorem dX0_drawn_3 : decode cX0_drawn 3 = .ok (.iload_n 1, 1) := dk_27 (dk_at dksX0_drawn_0 3 rfl rfl)
theorem dX0_drawn_4 : decode cX0_drawn 4 = .ok (.invokevirtual 41, 3) := dk_182 0 41 (dk_at dksX0_drawn_0 4 rfl rfl)
theorem dX0_drawn_7 : decode cX0_drawn 7 = .ok (.i2l, 1) := dk_133 (dk_at dksX0_drawn_0 7 rfl rfl)
theorem dX0_drawn_8 : decode cX0_drawn 8 = .ok (.lastore, 1) := dk_80 (dk_at dksX0_drawn_0 8 rfl rfl)
theorem dX0_drawn_9 : decode cX0_drawn 9 = .ok (.goto 6, 3) := dk_167 0 6 (dk_at dksX0_drawn_0 9 rfl rfl)
theorem dX0_drawn_12 : decode cX0_drawn 12 = .ok (.astore_n 3, 1) := dk_78 (dk_at dksX0_drawn_0 12 rfl rfl)
theorem dX0_drawn_13 : decode cX0_drawn 13 = .ok (.iconst 1, 1) := dk_4 (dk_at dksX0_drawn_0 13 rfl rfl)
theorem dX0_drawn_14 : decode cX0_drawn 14 = .ok (.ireturn, 1) := dk_172 (dk_at dksX0_drawn_0 14 rfl rfl)
theorem dX0_drawn_15 : decode cX0_drawn 15 = .ok (.iconst 0, 1) := dk_3 (dk_at dksX0_drawn_0 15 rfl rfl)
theorem dX0_drawn_16 : decode cX0_drawn 16 = .ok (.ireturn, 1) := dk_172 (dk_at dksX0_drawn_0 16 rfl rfl)
abbrev cX0_transferred : ByteArray := method_12_code
def yX0_transferred : MethodName := ⟨RX0, "transferred", "(LDocumentaryCreditDesk;I[J)I"⟩
def dkwX0_transferred_0 : List UInt8 := [44, 3, 42, 27, 182, 0, 44, 133, 80, 167, 0, 6, 78, 4, 172, 3, 172]
abbrev dktX0_transferred_0 : List UInt8 := dkwX0_transferred_0 ++ []
theorem dksX0_transferred_0 : cX0_transferred.data.toList.drop 0 = dktX0_transferred_0 := by decide +kernel
theorem dX0_transferred_0 : decode cX0_transferred 0 = .ok (.aload_n 2, 1) := dk_44 (dk_at dksX0_transferred_0 0 rfl rfl)
theorem dX0_transferred_1 : decode cX0_transferred 1 = .ok (.iconst 0, 1) := dk_3 (dk_at dksX0_transferred_0 1 rfl rfl)
theorem dX0_transferred_2 : decode cX0_transferred 2 = .ok (.aload_n 0, 1) := dk_42 (dk_at dksX0_transferred_0 2 rfl rfl)
theorem dX0_transferred_3 : decode cX0_transferred 3 = .ok (.iload_n 1, 1) := dk_27 (dk_at dksX0_transferred_0 3 rfl rfl)
theorem dX0_transferred_4 : decode cX0_transferred 4 = .ok (.invokevirtual 44, 3) := dk_182 0 44 (dk_at dksX0_transferred_0 4 rfl rfl)
theorem dX0_transferred_7 : decode cX0_transferred 7 = .ok (.i2l, 1) := dk_133 (dk_at dksX0_transferred_0 7 rfl rfl)
theorem dX0_transferred_8 : decode cX0_transferred 8 = .ok (.lastore, 1) := dk_80 (dk_at dksX0_transferred_0 8 rfl rfl)
theorem dX0_transferred_9 : decode cX0_transferred 9 = .ok (.goto 6, 3) := dk_167 0 6 (dk_at dksX0_transferred_0 9 rfl rfl)
theorem dX0_transferred_12 : decode cX0_transferred 12 = .ok (.astore_n 3, 1) := dk_78 (dk_at dksX0_transferred_0 12 rfl rfl)
theorem dX0_transferred_13 : decode cX0_transferred 13 = .ok (.iconst 1, 1) := dk_4 (dk_at dksX0_transferred_0 13 rfl rfl)
theorem dX0_transferred_14 : decode cX0_transferred 14 = .ok (.ireturn, 1) := dk_172 (dk_at dksX0_transferred_0 14 rfl rfl)
theorem dX0_transferred_15 : decode cX0_transferred 15 = .ok (.iconst 0, 1) := dk_3 (dk_at dksX0_transferred_0 15 rfl rfl)
theorem dX0_transferred_16 : decode cX0_transferred 16 = .ok (.ireturn, 1) := dk_172 (dk_at dksX0_transferred_0 16 rfl rfl)
abbrev cX0_available : ByteArray := method_13_code
def yX0_available : MethodName := ⟨RX0, "available", "(LDocumentaryCreditDesk;I[J)I"⟩
def dkwX0_available_0 : List UInt8 := [44, 3, 42, 27, 182, 0, 47, 133, 80, 167, 0, 6, 78, 4, 172, 3, 172]
abbrev dktX0_available_0 : List UInt8 := dkwX0_available_0 ++ []
theorem dksX0_available_0 : cX0_available.data.toList.drop 0 = dktX0_available_0 := by decide +kernel
theorem dX0_available_0 : decode cX0_available 0 = .ok (.aload_n 2, 1) := dk_44 (dk_at dksX0_available_0 0 rfl rfl)
theorem dX0_available_1 : decode cX0_available 1 = .ok (.iconst 0, 1) := dk_3 (dk_at dksX0_available_0 1 rfl rfl)
theorem dX0_available_2 : decode cX0_available 2 = .ok (.aload_n 0, 1) := dk_42 (dk_at dksX0_available_0 2 rfl rfl)
theorem dX0_available_3 : decode cX0_available 3 = .ok (.iload_n 1, 1) := dk_27 (dk_at dksX0_available_0 3 rfl rfl)
theorem dX0_available_4 : decode cX0_available 4 = .ok (.invokevirtual 47, 3) := dk_182 0 47 (dk_at dksX0_available_0 4 rfl rfl)
theorem dX0_available_7 : decode cX0_available 7 = .ok (.i2l, 1) := dk_133 (dk_at dksX0_available_0 7 rfl rfl)
theorem dX0_available_8 : decode cX0_available 8 = .ok (.lastore, 1) := dk_80 (dk_at dksX0_available_0 8 rfl rfl)
theorem dX0_available_9 : decode cX0_available 9 = .ok (.goto 6, 3) := dk_167 0 6 (dk_at dksX0_available_0 9 rfl rfl)
theorem dX0_available_12 : decode cX0_available 12 = .ok (.astore_n 3, 1) := dk_78 (dk_at dksX0_available_0 12 rfl rfl)
theorem dX0_available_13 : decode cX0_available 13 = .ok (.iconst 1, 1) := dk_4 (dk_at dksX0_available_0 13 rfl rfl)
theorem dX0_available_14 : decode cX0_available 14 = .ok (.ireturn, 1) := dk_172 (dk_at dksX0_available_0 14 rfl rfl)
theorem dX0_available_15 : decode cX0_available 15 = .ok (.iconst 0, 1) := dk_3 (dk_at dksX0_available_0 15 rfl rfl)
theorem dX0_available_16 : decode cX0_available 16 = .ok (.ireturn, 1) := dk_172 (dk_at dksX0_available_0 16 rfl rfl)
abbrev cX0_creditOf : ByteArray := method_14_code
def yX0_creditOf : MethodName := ⟨RX0, "creditOf", "(LDocumentaryCreditDesk;I[J)I"⟩
def dkwX0_creditOf_0 : List UInt8 := [44, 3, 42, 27, 182, 0, 50, 133, 80, 167, 0, 6, 78, 4, 172, 3, 172]
abbrev dktX0_creditOf_0 : List UInt8 := dkwX0_creditOf_0 ++ []
theorem dksX0_creditOf_0 : cX0_creditOf.data.toList.drop 0 = dktX0_creditOf_0 := by decide +kernel
theorem dX0_creditOf_0 : decode cX0_creditOf 0 = .ok (.aload_n 2, 1) := dk_44 (dk_at dksX0_creditOf_0 0 rfl rfl)
theorem dX0_creditOf_1 : decode cX0_creditOf 1 = .ok (.iconst 0, 1) := dk_3 (dk_at dksX0_creditOf_0 1 rfl rfl)
theorem dX0_creditOf_2 : decode cX0_creditOf 2 = .ok (.aload_n 0, 1) := dk_42 (dk_at dksX0_creditOf_0 2 rfl rfl)
theorem dX0_creditOf_3 : decode cX0_creditOf 3 = .ok (.iload_n 1, 1) := dk_27 (dk_at dksX0_creditOf_0 3 rfl rfl)
theorem dX0_creditOf_4 : decode cX0_creditOf 4 = .ok (.invokevirtual 50, 3) := dk_182 0 50 (dk_at dksX0_creditOf_0 4 rfl rfl)
theorem dX0_creditOf_7 : decode cX0_creditOf 7 = .ok (.i2l, 1) := dk_133 (dk_at dksX0_creditOf_0 7 rfl rfl)
theorem dX0_creditOf_8 : decode cX0_creditOf 8 = .ok (.lastore, 1) := dk_80 (dk_at dksX0_creditOf_0 8 rfl rfl)
theorem dX0_creditOf_9 : decode cX0_creditOf 9 = .ok (.goto 6, 3) := dk_167 0 6 (dk_at dksX0_creditOf_0 9 rfl rfl)
theorem dX0_creditOf_12 : decode cX0_creditOf 12 = .ok (.astore_n 3, 1) := dk_78 (dk_at dksX0_creditOf_0 12 rfl rfl)
theorem dX0_creditOf_13 : decode cX0_creditOf 13 = .ok (.iconst 1, 1) := dk_4 (dk_at dksX0_creditOf_0 13 rfl rfl)
theorem dX0_creditOf_14 : decode cX0_creditOf 14 = .ok (.ireturn, 1) := dk_172 (dk_at dksX0_creditOf_0 14 rfl rfl)
theorem dX0_creditOf_15 : decode cX0_creditOf 15 = .ok (.iconst 0, 1) := dk_3 (dk_at dksX0_creditOf_0 15 rfl rfl)
theorem dX0_creditOf_16 : decode cX0_creditOf 16 = .ok (.ireturn, 1) := dk_172 (dk_at dksX0_creditOf_0 16 rfl rfl)
abbrev cX0_state : ByteArray := method_15_code
def yX0_state : MethodName := ⟨RX0, "state", "(LDocumentaryCreditDesk;I[J)I"⟩
def dkwX0_state_0 : List UInt8 := [44, 3, 42, 27, 182, 0, 53, 133, 80, 167, 0, 6, 78, 4, 172, 3, 172]
abbrev dktX0_state_0 : List UInt8 := dkwX0_state_0 ++ []
theorem dksX0_state_0 : cX0_state.data.toList.drop 0 = dktX0_state_0 := by decide +kernel
theorem dX0_state_0 : decode cX0_state 0 = .ok (.aload_n 2, 1) := dk_44 (dk_at dksX0_state_0 0 rfl rfl)
theorem dX0_state_1 : decode cX0_state 1 = .ok (.iconst 0, 1) := dk_3 (dk_at dksX0_state_0 1 rfl rfl)
theorem dX0_state_2 : decode cX0_state 2 = .ok (.aload_n 0, 1) := dk_42 (dk_at dksX0_state_0 2 rfl rfl)
theorem dX0_state_3 : decode cX0_state 3 = .ok (.iload_n 1, 1) := dk_27 (dk_at dksX0_state_0 3 rfl rfl)
theorem dX0_state_4 : decode cX0_state 4 = .ok (.invokevirtual 53, 3) := dk_182 0 53 (dk_at dksX0_state_0 4 rfl rfl)
theorem dX0_state_7 : decode cX0_state 7 = .ok (.i2l, 1) := dk_133 (dk_at dksX0_state_0 7 rfl rfl)
theorem dX0_state_8 : decode cX0_state 8 = .ok (.lastore, 1) := dk_80 (dk_at dksX0_state_0 8 rfl rfl)
theorem dX0_state_9 : decode cX0_state 9 = .ok (.goto 6, 3) := dk_167 0 6 (dk_at dksX0_state_0 9 rfl rfl)
theorem dX0_state_12 : decode cX0_state 12 = .ok (.astore_n 3, 1) := dk_78 (dk_at dksX0_state_0 12 rfl rfl)
theorem dX0_state_13 : decode cX0_state 13 = .ok (.iconst 1, 1) := dk_4 (dk_at dksX0_state_0 13 rfl rfl)
theorem dX0_state_14 : decode cX0_state 14 = .ok (.ireturn, 1) := dk_172 (dk_at dksX0_state_0 14 rfl rfl)
theorem dX0_state_15 : decode cX0_state 15 = .ok (.iconst 0, 1) := dk_3 (dk_at dksX0_state_0 15 rfl rfl)
theorem dX0_state_16 : decode cX0_state 16 = .ok (.ireturn, 1) := dk_172 (dk_at dksX0_state_0 16 rfl rfl)
abbrev cX0_discrepancies : ByteArray := method_16_code
def yX0_discrepancies : MethodName := ⟨RX0, "discrepancies", "(LDocumentaryCreditDesk;I[J)I"⟩
def dkwX0_discrepancies_0 : List UInt8 := [44, 3, 42, 27, 182, 0, 56, 133, 80, 167, 0, 6, 78, 4, 172, 3, 172]
abbrev dktX0_discrepancies_0 : List UInt8 := dkwX0_discrepancies_0 ++ []
theorem dksX0_discrepancies_0 : cX0_discrepancies.data.toList.drop 0 = dktX0_discrepancies_0 := by decide +kernel
theorem dX0_discrepancies_0 : decode cX0_discrepancies 0 = .ok (.aload_n 2, 1) := dk_44 (dk_at dksX0_discrepancies_0 0 rfl rfl)
theorem dX0_discrepancies_1 : decode cX0_discrepancies 1 = .ok (.iconst 0, 1) := dk_3 (dk_at dksX0_discrepancies_0 1 rfl rfl)
theorem dX0_discrepancies_2 : decode cX0_discrepancies 2 = .ok (.aload_n 0, 1) := dk_42 (dk_at dksX0_discrepancies_0 2 rfl rfl)
theorem dX0_discrepancies_3 : decode cX0_discrepancies 3 = .ok (.iload_n 1, 1) := dk_27 (dk_at dksX0_discrepancies_0 3 rfl rfl)
theorem dX0_discrepancies_4 : decode cX0_discrepancies 4 = .ok (.invokevirtual 56, 3) := dk_182 0 56 (dk_at dksX0_discrepancies_0 4 rfl rfl)
theorem dX0_discrepancies_7 : decode cX0_discrepancies 7 = .ok (.i2l, 1) := dk_133 (dk_at dksX0_discrepancies_0 7 rfl rfl)
theorem dX0_discrepancies_8 : decode cX0_discrepancies 8 = .ok (.lastore, 1) := dk_80 (dk_at dksX0_discrepancies_0 8 rfl rfl)
theorem dX0_discrepancies_9 : decode cX0_discrepancies 9 = .ok (.goto 6, 3) := dk_167 0 6 (dk_at dksX0_discrepancies_0 9 rfl rfl)
theorem dX0_discrepancies_12 : decode cX0_discrepancies 12 = .ok (.astore_n 3, 1) := dk_78 (dk_at dksX0_discrepancies_0 12 rfl rfl)
theorem dX0_discrepancies_13 : decode cX0_discrepancies 13 = .ok (.iconst 1, 1) := dk_4 (dk_at dksX0_discrepancies_0 13 rfl rfl)
theorem dX0_discrepancies_14 : decode cX0_discrepancies 14 = .ok (.ireturn, 1) := dk_172 (dk_at dksX0_discrepancies_0 14 rfl rfl)
theorem dX0_discrepancies_15 : decode cX0_discrepancies 15 = .ok (.iconst 0, 1) := dk_3 (dk_at dksX0_discrepancies_0 15 rfl rfl)
theorem dX0_discrepancies_16 : decode cX0_discrepancies 16 = .ok (.ireturn, 1) := dk_172 (dk_at dksX0_discrepancies_0 16 rfl rfl)
abbrev cX0_deadline : ByteArray := method_17_code
def yX0_deadline : MethodName := ⟨RX0, "deadline", "(LDocumentaryCreditDesk;I[J)I"⟩
def dkwX0_deadline_0 : List UInt8 := [44, 3, 42, 27, 182, 0, 59, 133, 80, 167, 0, 6, 78, 4, 172, 3, 172]
abbrev dktX0_deadline_0 : List UInt8 := dkwX0_deadline_0 ++ []
theorem dksX0_deadline_0 : cX0_deadline.data.toList.drop 0 = dktX0_deadline_0 := by decide +kernel
theorem dX0_deadline_0 : decode cX0_deadline 0 = .ok (.aload_n 2, 1) := dk_44 (dk_at dksX0_deadline_0 0 rfl rfl)
theorem dX0_deadline_1 : decode cX0_deadline 1 = .ok (.iconst 0, 1) := dk_3 (dk_at dksX0_deadline_0 1 rfl rfl)
theorem dX0_deadline_2 : decode cX0_deadline 2 = .ok (.aload_n 0, 1) := dk_42 (dk_at dksX0_deadline_0 2 rfl rfl)
theorem dX0_deadline_3 : decode cX0_deadline 3 = .ok (.iload_n 1, 1) := dk_27 (dk_at dksX0_deadline_0 3 rfl rfl)
theorem dX0_deadline_4 : decode cX0_deadline 4 = .ok (.invokevirtual 59, 3) := dk_182 0 59 (dk_at dksX0_deadline_0 4 rfl rfl)
theorem dX0_deadline_7 : decode cX0_deadline 7 = .ok (.i2l, 1) := dk_133 (dk_at dksX0_deadline_0 7 rfl rfl)
theorem dX0_deadline_8 : decode cX0_deadline 8 = .ok (.lastore, 1) := dk_80 (dk_at dksX0_deadline_0 8 rfl rfl)
theorem dX0_deadline_9 : decode cX0_deadline 9 = .ok (.goto 6, 3) := dk_167 0 6 (dk_at dksX0_deadline_0 9 rfl rfl)
theorem dX0_deadline_12 : decode cX0_deadline 12 = .ok (.astore_n 3, 1) := dk_78 (dk_at dksX0_deadline_0 12 rfl rfl)
theorem dX0_deadline_13 : decode cX0_deadline 13 = .ok (.iconst 1, 1) := dk_4 (dk_at dksX0_deadline_0 13 rfl rfl)
theorem dX0_deadline_14 : decode cX0_deadline 14 = .ok (.ireturn, 1) := dk_172 (dk_at dksX0_deadline_0 14 rfl rfl)
theorem dX0_deadline_15 : decode cX0_deadline 15 = .ok (.iconst 0, 1) := dk_3 (dk_at dksX0_deadline_0 15 rfl rfl)
theorem dX0_deadline_16 : decode cX0_deadline 16 = .ok (.ireturn, 1) := dk_172 (dk_at dksX0_deadline_0 16 rfl rfl)
abbrev cX0_dueDay : ByteArray := method_18_code
def yX0_dueDay : MethodName := ⟨RX0, "dueDay", "(LDocumentaryCreditDesk;I[J)I"⟩
def dkwX0_dueDay_0 : List UInt8 := [44, 3, 42, 27, 182, 0, 62, 133, 80, 167, 0, 6, 78, 4, 172, 3, 172]
abbrev dktX0_dueDay_0 : List UInt8 := dkwX0_dueDay_0 ++ []
theorem dksX0_dueDay_0 : cX0_dueDay.data.toList.drop 0 = dktX0_dueDay_0 := by decide +kernel
theorem dX0_dueDay_0 : decode cX0_dueDay 0 = .ok (.aload_n 2, 1) := dk_44 (dk_at dksX0_dueDay_0 0 rfl rfl)
theorem dX0_dueDay_1 : decode cX0_dueDay 1 = .ok (.iconst 0, 1) := dk_3 (dk_at dksX0_dueDay_0 1 rfl rfl)
theorem dX0_dueDay_2 : decode cX0_dueDay 2 = .ok (.aload_n 0, 1) := dk_42 (dk_at dksX0_dueDay_0 2 rfl rfl)
theorem dX0_dueDay_3 : decode cX0_dueDay 3 = .ok (.iload_n 1, 1) := dk_27 (dk_at dksX0_dueDay_0 3 rfl rfl)
theorem dX0_dueDay_4 : decode cX0_dueDay 4 = .ok (.invokevirtual 62, 3) := dk_182 0 62 (dk_at dksX0_dueDay_0 4 rfl rfl)
theorem dX0_dueDay_7 : decode cX0_dueDay 7 = .ok (.i2l, 1) := dk_133 (dk_at dksX0_dueDay_0 7 rfl rfl)
theorem dX0_dueDay_8 : decode cX0_dueDay 8 = .ok (.lastore, 1) := dk_80 (dk_at dksX0_dueDay_0 8 rfl rfl)
theorem dX0_dueDay_9 : decode cX0_dueDay 9 = .ok (.goto 6, 3) := dk_167 0 6 (dk_at dksX0_dueDay_0 9 rfl rfl)
theorem dX0_dueDay_12 : decode cX0_dueDay 12 = .ok (.astore_n 3, 1) := dk_78 (dk_at dksX0_dueDay_0 12 rfl rfl)
theorem dX0_dueDay_13 : decode cX0_dueDay 13 = .ok (.iconst 1, 1) := dk_4 (dk_at dksX0_dueDay_0 13 rfl rfl)
theorem dX0_dueDay_14 : decode cX0_dueDay 14 = .ok (.ireturn, 1) := dk_172 (dk_at dksX0_dueDay_0 14 rfl rfl)
theorem dX0_dueDay_15 : decode cX0_dueDay 15 = .ok (.iconst 0, 1) := dk_3 (dk_at dksX0_dueDay_0 15 rfl rfl)
theorem dX0_dueDay_16 : decode cX0_dueDay 16 = .ok (.ireturn, 1) := dk_172 (dk_at dksX0_dueDay_0 16 rfl rfl)
abbrev cX0_fee : ByteArray := method_19_code
def yX0_fee : MethodName := ⟨RX0, "fee", "(LDocumentaryCreditDesk;I[J)I"⟩
def dkwX0_fee_0 : List UInt8 := [44, 3, 42, 27, 182, 0, 65, 133, 80, 167, 0, 6, 78, 4, 172, 3, 172]
abbrev dktX0_fee_0 : List UInt8 := dkwX0_fee_0 ++ []
theorem dksX0_fee_0 : cX0_fee.data.toList.drop 0 = dktX0_fee_0 := by decide +kernel
theorem dX0_fee_0 : decode cX0_fee 0 = .ok (.aload_n 2, 1) := dk_44 (dk_at dksX0_fee_0 0 rfl rfl)
theorem dX0_fee_1 : decode cX0_fee 1 = .ok (.iconst 0, 1) := dk_3 (dk_at dksX0_fee_0 1 rfl rfl)
theorem dX0_fee_2 : decode cX0_fee 2 = .ok (.aload_n 0, 1) := dk_42 (dk_at dksX0_fee_0 2 rfl rfl)
theorem dX0_fee_3 : decode cX0_fee 3 = .ok (.iload_n 1, 1) := dk_27 (dk_at dksX0_fee_0 3 rfl rfl)
theorem dX0_fee_4 : decode cX0_fee 4 = .ok (.invokevirtual 65, 3) := dk_182 0 65 (dk_at dksX0_fee_0 4 rfl rfl)
theorem dX0_fee_7 : decode cX0_fee 7 = .ok (.i2l, 1) := dk_133 (dk_at dksX0_fee_0 7 rfl rfl)
theorem dX0_fee_8 : decode cX0_fee 8 = .ok (.lastore, 1) := dk_80 (dk_at dksX0_fee_0 8 rfl rfl)
theorem dX0_fee_9 : decode cX0_fee 9 = .ok (.goto 6, 3) := dk_167 0 6 (dk_at dksX0_fee_0 9 rfl rfl)
theorem dX0_fee_12 : decode cX0_fee 12 = .ok (.astore_n 3, 1) := dk_78 (dk_at dksX0_fee_0 12 rfl rfl)
theorem dX0_fee_13 : decode cX0_fee 13 = .ok (.iconst 1, 1) := dk_4 (dk_at dksX0_fee_0 13 rfl rfl)
theorem dX0_fee_14 : decode cX0_fee 14 = .ok (.ireturn, 1) := dk_172 (dk_at dksX0_fee_0 14 rfl rfl)
theorem dX0_fee_15 : decode cX0_fee 15 = .ok (.iconst 0, 1) := dk_3 (dk_at dksX0_fee_0 15 rfl rfl)
theorem dX0_fee_16 : decode cX0_fee 16 = .ok (.ireturn, 1) := dk_172 (dk_at dksX0_fee_0 16 rfl rfl)
abbrev cX0_check : ByteArray := method_20_code
def yX0_check : MethodName := ⟨RX0, "check", "(LDocumentaryCreditDesk;IIIII[J)I"⟩
def dkwX0_check_1 : List UInt8 := [58, 7, 5, 172, 3, 172]
abbrev dktX0_check_1 : List UInt8 := dkwX0_check_1 ++ []
def dkwX0_check_0 : List UInt8 := [25, 6, 3, 42, 27, 28, 29, 21, 4, 21, 5, 182, 0, 68, 133, 80, 167, 0, 11, 58, 7, 4, 172]
abbrev dktX0_check_0 : List UInt8 := dkwX0_check_0 ++ dktX0_check_1
theorem dksX0_check_0 : cX0_check.data.toList.drop 0 = dktX0_check_0 := by decide +kernel
theorem dksX0_check_1 : cX0_check.data.toList.drop 23 = dktX0_check_1 := dk_seg dksX0_check_0 23 rfl rfl
theorem dX0_check_0 : decode cX0_check 0 = .ok (.aload 6, 2) := dk_25 6 (dk_at dksX0_check_0 0 rfl rfl)
theorem dX0_check_2 : decode cX0_check 2 = .ok (.iconst 0, 1) := dk_3 (dk_at dksX0_check_0 2 rfl rfl)
theorem dX0_check_3 : decode cX0_check 3 = .ok (.aload_n 0, 1) := dk_42 (dk_at dksX0_check_0 3 rfl rfl)
theorem dX0_check_4 : decode cX0_check 4 = .ok (.iload_n 1, 1) := dk_27 (dk_at dksX0_check_0 4 rfl rfl)
theorem dX0_check_5 : decode cX0_check 5 = .ok (.iload_n 2, 1) := dk_28 (dk_at dksX0_check_0 5 rfl rfl)
theorem dX0_check_6 : decode cX0_check 6 = .ok (.iload_n 3, 1) := dk_29 (dk_at dksX0_check_0 6 rfl rfl)
theorem dX0_check_7 : decode cX0_check 7 = .ok (.iload 4, 2) := dk_21 4 (dk_at dksX0_check_0 7 rfl rfl)
theorem dX0_check_9 : decode cX0_check 9 = .ok (.iload 5, 2) := dk_21 5 (dk_at dksX0_check_0 9 rfl rfl)
theorem dX0_check_11 : decode cX0_check 11 = .ok (.invokevirtual 68, 3) := dk_182 0 68 (dk_at dksX0_check_0 11 rfl rfl)
theorem dX0_check_14 : decode cX0_check 14 = .ok (.i2l, 1) := dk_133 (dk_at dksX0_check_0 14 rfl rfl)
theorem dX0_check_15 : decode cX0_check 15 = .ok (.lastore, 1) := dk_80 (dk_at dksX0_check_0 15 rfl rfl)
theorem dX0_check_16 : decode cX0_check 16 = .ok (.goto 11, 3) := dk_167 0 11 (dk_at dksX0_check_0 16 rfl rfl)
theorem dX0_check_19 : decode cX0_check 19 = .ok (.astore 7, 2) := dk_58 7 (dk_at dksX0_check_0 19 rfl rfl)
theorem dX0_check_21 : decode cX0_check 21 = .ok (.iconst 1, 1) := dk_4 (dk_at dksX0_check_0 21 rfl rfl)
theorem dX0_check_22 : decode cX0_check 22 = .ok (.ireturn, 1) := dk_172 (dk_at dksX0_check_0 22 rfl rfl)
theorem dX0_check_23 : decode cX0_check 23 = .ok (.astore 7, 2) := dk_58 7 (dk_at dksX0_check_1 0 rfl rfl)
theorem dX0_check_25 : decode cX0_check 25 = .ok (.iconst 2, 1) := dk_5 (dk_at dksX0_check_1 2 rfl rfl)
theorem dX0_check_26 : decode cX0_check 26 = .ok (.ireturn, 1) := dk_172 (dk_at dksX0_check_1 3 rfl rfl)
theorem dX0_check_27 : decode cX0_check 27 = .ok (.iconst 0, 1) := dk_3 (dk_at dksX0_check_1 4 rfl rfl)
theorem dX0_check_28 : decode cX0_check 28 = .ok (.ireturn, 1) := dk_172 (dk_at dksX0_check_1 5 rfl rfl)
abbrev cX0_lastDay : ByteArray := method_21_code
def yX0_lastDay : MethodName := ⟨RX0, "lastDay", "(LDocumentaryCreditDesk;II[J)I"⟩
def dkwX0_lastDay_0 : List UInt8 := [45, 3, 42, 27, 28, 182, 0, 72, 133, 80, 167, 0, 11, 58, 4, 4, 172, 58, 4, 5, 172, 3, 172]
abbrev dktX0_lastDay_0 : List UInt8 := dkwX0_lastDay_0 ++ []
theorem dksX0_lastDay_0 : cX0_lastDay.data.toList.drop 0 = dktX0_lastDay_0 := by decide +kernel
theorem dX0_lastDay_0 : decode cX0_lastDay 0 = .ok (.aload_n 3, 1) := dk_45 (dk_at dksX0_lastDay_0 0 rfl rfl)
theorem dX0_lastDay_1 : decode cX0_lastDay 1 = .ok (.iconst 0, 1) := dk_3 (dk_at dksX0_lastDay_0 1 rfl rfl)
theorem dX0_lastDay_2 : decode cX0_lastDay 2 = .ok (.aload_n 0, 1) := dk_42 (dk_at dksX0_lastDay_0 2 rfl rfl)
theorem dX0_lastDay_3 : decode cX0_lastDay 3 = .ok (.iload_n 1, 1) := dk_27 (dk_at dksX0_lastDay_0 3 rfl rfl)
theorem dX0_lastDay_4 : decode cX0_lastDay 4 = .ok (.iload_n 2, 1) := dk_28 (dk_at dksX0_lastDay_0 4 rfl rfl)
theorem dX0_lastDay_5 : decode cX0_lastDay 5 = .ok (.invokevirtual 72, 3) := dk_182 0 72 (dk_at dksX0_lastDay_0 5 rfl rfl)
theorem dX0_lastDay_8 : decode cX0_lastDay 8 = .ok (.i2l, 1) := dk_133 (dk_at dksX0_lastDay_0 8 rfl rfl)
theorem dX0_lastDay_9 : decode cX0_lastDay 9 = .ok (.lastore, 1) := dk_80 (dk_at dksX0_lastDay_0 9 rfl rfl)
theorem dX0_lastDay_10 : decode cX0_lastDay 10 = .ok (.goto 11, 3) := dk_167 0 11 (dk_at dksX0_lastDay_0 10 rfl rfl)
theorem dX0_lastDay_13 : decode cX0_lastDay 13 = .ok (.astore 4, 2) := dk_58 4 (dk_at dksX0_lastDay_0 13 rfl rfl)
theorem dX0_lastDay_15 : decode cX0_lastDay 15 = .ok (.iconst 1, 1) := dk_4 (dk_at dksX0_lastDay_0 15 rfl rfl)
theorem dX0_lastDay_16 : decode cX0_lastDay 16 = .ok (.ireturn, 1) := dk_172 (dk_at dksX0_lastDay_0 16 rfl rfl)
theorem dX0_lastDay_17 : decode cX0_lastDay 17 = .ok (.astore 4, 2) := dk_58 4 (dk_at dksX0_lastDay_0 17 rfl rfl)
theorem dX0_lastDay_19 : decode cX0_lastDay 19 = .ok (.iconst 2, 1) := dk_5 (dk_at dksX0_lastDay_0 19 rfl rfl)
theorem dX0_lastDay_20 : decode cX0_lastDay 20 = .ok (.ireturn, 1) := dk_172 (dk_at dksX0_lastDay_0 20 rfl rfl)
theorem dX0_lastDay_21 : decode cX0_lastDay 21 = .ok (.iconst 0, 1) := dk_3 (dk_at dksX0_lastDay_0 21 rfl rfl)
theorem dX0_lastDay_22 : decode cX0_lastDay 22 = .ok (.ireturn, 1) := dk_172 (dk_at dksX0_lastDay_0 22 rfl rfl)
abbrev cX0_bestFit : ByteArray := method_22_code
def yX0_bestFit : MethodName := ⟨RX0, "bestFit", "(LDocumentaryCreditDesk;I[J)I"⟩
def dkwX0_bestFit_0 : List UInt8 := [44, 3, 42, 27, 182, 0, 75, 133, 80, 167, 0, 6, 78, 4, 172, 3, 172]
abbrev dktX0_bestFit_0 : List UInt8 := dkwX0_bestFit_0 ++ []
theorem dksX0_bestFit_0 : cX0_bestFit.data.toList.drop 0 = dktX0_bestFit_0 := by decide +kernel
theorem dX0_bestFit_0 : decode cX0_bestFit 0 = .ok (.aload_n 2, 1) := dk_44 (dk_at dksX0_bestFit_0 0 rfl rfl)
theorem dX0_bestFit_1 : decode cX0_bestFit 1 = .ok (.iconst 0, 1) := dk_3 (dk_at dksX0_bestFit_0 1 rfl rfl)
theorem dX0_bestFit_2 : decode cX0_bestFit 2 = .ok (.aload_n 0, 1) := dk_42 (dk_at dksX0_bestFit_0 2 rfl rfl)
theorem dX0_bestFit_3 : decode cX0_bestFit 3 = .ok (.iload_n 1, 1) := dk_27 (dk_at dksX0_bestFit_0 3 rfl rfl)
theorem dX0_bestFit_4 : decode cX0_bestFit 4 = .ok (.invokevirtual 75, 3) := dk_182 0 75 (dk_at dksX0_bestFit_0 4 rfl rfl)
theorem dX0_bestFit_7 : decode cX0_bestFit 7 = .ok (.i2l, 1) := dk_133 (dk_at dksX0_bestFit_0 7 rfl rfl)
theorem dX0_bestFit_8 : decode cX0_bestFit 8 = .ok (.lastore, 1) := dk_80 (dk_at dksX0_bestFit_0 8 rfl rfl)
theorem dX0_bestFit_9 : decode cX0_bestFit 9 = .ok (.goto 6, 3) := dk_167 0 6 (dk_at dksX0_bestFit_0 9 rfl rfl)
theorem dX0_bestFit_12 : decode cX0_bestFit 12 = .ok (.astore_n 3, 1) := dk_78 (dk_at dksX0_bestFit_0 12 rfl rfl)
theorem dX0_bestFit_13 : decode cX0_bestFit 13 = .ok (.iconst 1, 1) := dk_4 (dk_at dksX0_bestFit_0 13 rfl rfl)
theorem dX0_bestFit_14 : decode cX0_bestFit 14 = .ok (.ireturn, 1) := dk_172 (dk_at dksX0_bestFit_0 14 rfl rfl)
theorem dX0_bestFit_15 : decode cX0_bestFit 15 = .ok (.iconst 0, 1) := dk_3 (dk_at dksX0_bestFit_0 15 rfl rfl)
theorem dX0_bestFit_16 : decode cX0_bestFit 16 = .ok (.ireturn, 1) := dk_172 (dk_at dksX0_bestFit_0 16 rfl rfl)
abbrev cX0_present : ByteArray := method_23_code
def yX0_present : MethodName := ⟨RX0, "present", "(LDocumentaryCreditDesk;IIIII[J)I"⟩
def dkwX0_present_1 : List UInt8 := [58, 7, 5, 172, 58, 7, 6, 172, 3, 172]
abbrev dktX0_present_1 : List UInt8 := dkwX0_present_1 ++ []
def dkwX0_present_0 : List UInt8 := [25, 6, 3, 42, 27, 28, 29, 21, 4, 21, 5, 182, 0, 78, 133, 80, 167, 0, 15, 58, 7, 4, 172]
abbrev dktX0_present_0 : List UInt8 := dkwX0_present_0 ++ dktX0_present_1
theorem dksX0_present_0 : cX0_present.data.toList.drop 0 = dktX0_present_0 := by decide +kernel
theorem dksX0_present_1 : cX0_present.data.toList.drop 23 = dktX0_present_1 := dk_seg dksX0_present_0 23 rfl rfl
theorem dX0_present_0 : decode cX0_present 0 = .ok (.aload 6, 2) := dk_25 6 (dk_at dksX0_present_0 0 rfl rfl)
theorem dX0_present_2 : decode cX0_present 2 = .ok (.iconst 0, 1) := dk_3 (dk_at dksX0_present_0 2 rfl rfl)
theorem dX0_present_3 : decode cX0_present 3 = .ok (.aload_n 0, 1) := dk_42 (dk_at dksX0_present_0 3 rfl rfl)
theorem dX0_present_4 : decode cX0_present 4 = .ok (.iload_n 1, 1) := dk_27 (dk_at dksX0_present_0 4 rfl rfl)
theorem dX0_present_5 : decode cX0_present 5 = .ok (.iload_n 2, 1) := dk_28 (dk_at dksX0_present_0 5 rfl rfl)
theorem dX0_present_6 : decode cX0_present 6 = .ok (.iload_n 3, 1) := dk_29 (dk_at dksX0_present_0 6 rfl rfl)
theorem dX0_present_7 : decode cX0_present 7 = .ok (.iload 4, 2) := dk_21 4 (dk_at dksX0_present_0 7 rfl rfl)
theorem dX0_present_9 : decode cX0_present 9 = .ok (.iload 5, 2) := dk_21 5 (dk_at dksX0_present_0 9 rfl rfl)
theorem dX0_present_11 : decode cX0_present 11 = .ok (.invokevirtual 78, 3) := dk_182 0 78 (dk_at dksX0_present_0 11 rfl rfl)
theorem dX0_present_14 : decode cX0_present 14 = .ok (.i2l, 1) := dk_133 (dk_at dksX0_present_0 14 rfl rfl)
theorem dX0_present_15 : decode cX0_present 15 = .ok (.lastore, 1) := dk_80 (dk_at dksX0_present_0 15 rfl rfl)
theorem dX0_present_16 : decode cX0_present 16 = .ok (.goto 15, 3) := dk_167 0 15 (dk_at dksX0_present_0 16 rfl rfl)
theorem dX0_present_19 : decode cX0_present 19 = .ok (.astore 7, 2) := dk_58 7 (dk_at dksX0_present_0 19 rfl rfl)
theorem dX0_present_21 : decode cX0_present 21 = .ok (.iconst 1, 1) := dk_4 (dk_at dksX0_present_0 21 rfl rfl)
theorem dX0_present_22 : decode cX0_present 22 = .ok (.ireturn, 1) := dk_172 (dk_at dksX0_present_0 22 rfl rfl)
theorem dX0_present_23 : decode cX0_present 23 = .ok (.astore 7, 2) := dk_58 7 (dk_at dksX0_present_1 0 rfl rfl)
theorem dX0_present_25 : decode cX0_present 25 = .ok (.iconst 2, 1) := dk_5 (dk_at dksX0_present_1 2 rfl rfl)
theorem dX0_present_26 : decode cX0_present 26 = .ok (.ireturn, 1) := dk_172 (dk_at dksX0_present_1 3 rfl rfl)
theorem dX0_present_27 : decode cX0_present 27 = .ok (.astore 7, 2) := dk_58 7 (dk_at dksX0_present_1 4 rfl rfl)
theorem dX0_present_29 : decode cX0_present 29 = .ok (.iconst 3, 1) := dk_6 (dk_at dksX0_present_1 6 rfl rfl)
theorem dX0_present_30 : decode cX0_present 30 = .ok (.ireturn, 1) := dk_172 (dk_at dksX0_present_1 7 rfl rfl)
theorem dX0_present_31 : decode cX0_present 31 = .ok (.iconst 0, 1) := dk_3 (dk_at dksX0_present_1 8 rfl rfl)
theorem dX0_present_32 : decode cX0_present 32 = .ok (.ireturn, 1) := dk_172 (dk_at dksX0_present_1 9 rfl rfl)
abbrev cX0_examine : ByteArray := method_24_code
def yX0_examine : MethodName := ⟨RX0, "examine", "(LDocumentaryCreditDesk;I[J)I"⟩
def dkwX0_examine_0 : List UInt8 := [44, 3, 42, 27, 182, 0, 83, 133, 80, 167, 0, 9, 78, 4, 172, 78, 5, 172, 3, 172]
abbrev dktX0_examine_0 : List UInt8 := dkwX0_examine_0 ++ []
theorem dksX0_examine_0 : cX0_examine.data.toList.drop 0 = dktX0_examine_0 := by decide +kernel
theorem dX0_examine_0 : decode cX0_examine 0 = .ok (.aload_n 2, 1) := dk_44 (dk_at dksX0_examine_0 0 rfl rfl)
theorem dX0_examine_1 : decode cX0_examine 1 = .ok (.iconst 0, 1) := dk_3 (dk_at dksX0_examine_0 1 rfl rfl)
theorem dX0_examine_2 : decode cX0_examine 2 = .ok (.aload_n 0, 1) := dk_42 (dk_at dksX0_examine_0 2 rfl rfl)
theorem dX0_examine_3 : decode cX0_examine 3 = .ok (.iload_n 1, 1) := dk_27 (dk_at dksX0_examine_0 3 rfl rfl)
theorem dX0_examine_4 : decode cX0_examine 4 = .ok (.invokevirtual 83, 3) := dk_182 0 83 (dk_at dksX0_examine_0 4 rfl rfl)
theorem dX0_examine_7 : decode cX0_examine 7 = .ok (.i2l, 1) := dk_133 (dk_at dksX0_examine_0 7 rfl rfl)
theorem dX0_examine_8 : decode cX0_examine 8 = .ok (.lastore, 1) := dk_80 (dk_at dksX0_examine_0 8 rfl rfl)
theorem dX0_examine_9 : decode cX0_examine 9 = .ok (.goto 9, 3) := dk_167 0 9 (dk_at dksX0_examine_0 9 rfl rfl)
theorem dX0_examine_12 : decode cX0_examine 12 = .ok (.astore_n 3, 1) := dk_78 (dk_at dksX0_examine_0 12 rfl rfl)
theorem dX0_examine_13 : decode cX0_examine 13 = .ok (.iconst 1, 1) := dk_4 (dk_at dksX0_examine_0 13 rfl rfl)
theorem dX0_examine_14 : decode cX0_examine 14 = .ok (.ireturn, 1) := dk_172 (dk_at dksX0_examine_0 14 rfl rfl)
theorem dX0_examine_15 : decode cX0_examine 15 = .ok (.astore_n 3, 1) := dk_78 (dk_at dksX0_examine_0 15 rfl rfl)
theorem dX0_examine_16 : decode cX0_examine 16 = .ok (.iconst 2, 1) := dk_5 (dk_at dksX0_examine_0 16 rfl rfl)
theorem dX0_examine_17 : decode cX0_examine 17 = .ok (.ireturn, 1) := dk_172 (dk_at dksX0_examine_0 17 rfl rfl)
theorem dX0_examine_18 : decode cX0_examine 18 = .ok (.iconst 0, 1) := dk_3 (dk_at dksX0_examine_0 18 rfl rfl)
theorem dX0_examine_19 : decode cX0_examine 19 = .ok (.ireturn, 1) := dk_172 (dk_at dksX0_examine_0 19 rfl rfl)
abbrev cX0_waive : ByteArray := method_25_code
def yX0_waive : MethodName := ⟨RX0, "waive", "(LDocumentaryCreditDesk;I[J)I"⟩
def dkwX0_waive_0 : List UInt8 := [44, 3, 42, 27, 182, 0, 86, 133, 80, 167, 0, 9, 78, 4, 172, 78, 5, 172, 3, 172]
abbrev dktX0_waive_0 : List UInt8 := dkwX0_waive_0 ++ []
theorem dksX0_waive_0 : cX0_waive.data.toList.drop 0 = dktX0_waive_0 := by decide +kernel
theorem dX0_waive_0 : decode cX0_waive 0 = .ok (.aload_n 2, 1) := dk_44 (dk_at dksX0_waive_0 0 rfl rfl)
theorem dX0_waive_1 : decode cX0_waive 1 = .ok (.iconst 0, 1) := dk_3 (dk_at dksX0_waive_0 1 rfl rfl)
theorem dX0_waive_2 : decode cX0_waive 2 = .ok (.aload_n 0, 1) := dk_42 (dk_at dksX0_waive_0 2 rfl rfl)
theorem dX0_waive_3 : decode cX0_waive 3 = .ok (.iload_n 1, 1) := dk_27 (dk_at dksX0_waive_0 3 rfl rfl)
theorem dX0_waive_4 : decode cX0_waive 4 = .ok (.invokevirtual 86, 3) := dk_182 0 86 (dk_at dksX0_waive_0 4 rfl rfl)
theorem dX0_waive_7 : decode cX0_waive 7 = .ok (.i2l, 1) := dk_133 (dk_at dksX0_waive_0 7 rfl rfl)
theorem dX0_waive_8 : decode cX0_waive 8 = .ok (.lastore, 1) := dk_80 (dk_at dksX0_waive_0 8 rfl rfl)
theorem dX0_waive_9 : decode cX0_waive 9 = .ok (.goto 9, 3) := dk_167 0 9 (dk_at dksX0_waive_0 9 rfl rfl)
theorem dX0_waive_12 : decode cX0_waive 12 = .ok (.astore_n 3, 1) := dk_78 (dk_at dksX0_waive_0 12 rfl rfl)
theorem dX0_waive_13 : decode cX0_waive 13 = .ok (.iconst 1, 1) := dk_4 (dk_at dksX0_waive_0 13 rfl rfl)
theorem dX0_waive_14 : decode cX0_waive 14 = .ok (.ireturn, 1) := dk_172 (dk_at dksX0_waive_0 14 rfl rfl)
theorem dX0_waive_15 : decode cX0_waive 15 = .ok (.astore_n 3, 1) := dk_78 (dk_at dksX0_waive_0 15 rfl rfl)
theorem dX0_waive_16 : decode cX0_waive 16 = .ok (.iconst 2, 1) := dk_5 (dk_at dksX0_waive_0 16 rfl rfl)
theorem dX0_waive_17 : decode cX0_waive 17 = .ok (.ireturn, 1) := dk_172 (dk_at dksX0_waive_0 17 rfl rfl)
theorem dX0_waive_18 : decode cX0_waive 18 = .ok (.iconst 0, 1) := dk_3 (dk_at dksX0_waive_0 18 rfl rfl)
theorem dX0_waive_19 : decode cX0_waive 19 = .ok (.ireturn, 1) := dk_172 (dk_at dksX0_waive_0 19 rfl rfl)
abbrev cX0_refuse : ByteArray := method_26_code
def yX0_refuse : MethodName := ⟨RX0, "refuse", "(LDocumentaryCreditDesk;I[J)I"⟩
def dkwX0_refuse_0 : List UInt8 := [44, 3, 42, 27, 182, 0, 89, 133, 80, 167, 0, 9, 78, 4, 172, 78, 5, 172, 3, 172]
abbrev dktX0_refuse_0 : List UInt8 := dkwX0_refuse_0 ++ []
theorem dksX0_refuse_0 : cX0_refuse.data.toList.drop 0 = dktX0_refuse_0 := by decide +kernel
theorem dX0_refuse_0 : decode cX0_refuse 0 = .ok (.aload_n 2, 1) := dk_44 (dk_at dksX0_refuse_0 0 rfl rfl)
theorem dX0_refuse_1 : decode cX0_refuse 1 = .ok (.iconst 0, 1) := dk_3 (dk_at dksX0_refuse_0 1 rfl rfl)
theorem dX0_refuse_2 : decode cX0_refuse 2 = .ok (.aload_n 0, 1) := dk_42 (dk_at dksX0_refuse_0 2 rfl rfl)
theorem dX0_refuse_3 : decode cX0_refuse 3 = .ok (.iload_n 1, 1) := dk_27 (dk_at dksX0_refuse_0 3 rfl rfl)
theorem dX0_refuse_4 : decode cX0_refuse 4 = .ok (.invokevirtual 89, 3) := dk_182 0 89 (dk_at dksX0_refuse_0 4 rfl rfl)
theorem dX0_refuse_7 : decode cX0_refuse 7 = .ok (.i2l, 1) := dk_133 (dk_at dksX0_refuse_0 7 rfl rfl)
theorem dX0_refuse_8 : decode cX0_refuse 8 = .ok (.lastore, 1) := dk_80 (dk_at dksX0_refuse_0 8 rfl rfl)
theorem dX0_refuse_9 : decode cX0_refuse 9 = .ok (.goto 9, 3) := dk_167 0 9 (dk_at dksX0_refuse_0 9 rfl rfl)
theorem dX0_refuse_12 : decode cX0_refuse 12 = .ok (.astore_n 3, 1) := dk_78 (dk_at dksX0_refuse_0 12 rfl rfl)
theorem dX0_refuse_13 : decode cX0_refuse 13 = .ok (.iconst 1, 1) := dk_4 (dk_at dksX0_refuse_0 13 rfl rfl)
theorem dX0_refuse_14 : decode cX0_refuse 14 = .ok (.ireturn, 1) := dk_172 (dk_at dksX0_refuse_0 14 rfl rfl)
theorem dX0_refuse_15 : decode cX0_refuse 15 = .ok (.astore_n 3, 1) := dk_78 (dk_at dksX0_refuse_0 15 rfl rfl)
theorem dX0_refuse_16 : decode cX0_refuse 16 = .ok (.iconst 2, 1) := dk_5 (dk_at dksX0_refuse_0 16 rfl rfl)
theorem dX0_refuse_17 : decode cX0_refuse 17 = .ok (.ireturn, 1) := dk_172 (dk_at dksX0_refuse_0 17 rfl rfl)
theorem dX0_refuse_18 : decode cX0_refuse 18 = .ok (.iconst 0, 1) := dk_3 (dk_at dksX0_refuse_0 18 rfl rfl)
theorem dX0_refuse_19 : decode cX0_refuse 19 = .ok (.ireturn, 1) := dk_172 (dk_at dksX0_refuse_0 19 rfl rfl)
abbrev cX0_transfer : ByteArray := method_27_code
def yX0_transfer : MethodName := ⟨RX0, "transfer", "(LDocumentaryCreditDesk;III[J)I"⟩
def dkwX0_transfer_1 : List UInt8 := [58, 5, 6, 172, 3, 172]
abbrev dktX0_transfer_1 : List UInt8 := dkwX0_transfer_1 ++ []
def dkwX0_transfer_0 : List UInt8 := [25, 4, 3, 42, 27, 28, 29, 182, 0, 92, 133, 80, 167, 0, 15, 58, 5, 4, 172, 58, 5, 5, 172]
abbrev dktX0_transfer_0 : List UInt8 := dkwX0_transfer_0 ++ dktX0_transfer_1
theorem dksX0_transfer_0 : cX0_transfer.data.toList.drop 0 = dktX0_transfer_0 := by decide +kernel
theorem dksX0_transfer_1 : cX0_transfer.data.toList.drop 23 = dktX0_transfer_1 := dk_seg dksX0_transfer_0 23 rfl rfl
theorem dX0_transfer_0 : decode cX0_transfer 0 = .ok (.aload 4, 2) := dk_25 4 (dk_at dksX0_transfer_0 0 rfl rfl)
theorem dX0_transfer_2 : decode cX0_transfer 2 = .ok (.iconst 0, 1) := dk_3 (dk_at dksX0_transfer_0 2 rfl rfl)
theorem dX0_transfer_3 : decode cX0_transfer 3 = .ok (.aload_n 0, 1) := dk_42 (dk_at dksX0_transfer_0 3 rfl rfl)
theorem dX0_transfer_4 : decode cX0_transfer 4 = .ok (.iload_n 1, 1) := dk_27 (dk_at dksX0_transfer_0 4 rfl rfl)
theorem dX0_transfer_5 : decode cX0_transfer 5 = .ok (.iload_n 2, 1) := dk_28 (dk_at dksX0_transfer_0 5 rfl rfl)
theorem dX0_transfer_6 : decode cX0_transfer 6 = .ok (.iload_n 3, 1) := dk_29 (dk_at dksX0_transfer_0 6 rfl rfl)
theorem dX0_transfer_7 : decode cX0_transfer 7 = .ok (.invokevirtual 92, 3) := dk_182 0 92 (dk_at dksX0_transfer_0 7 rfl rfl)
theorem dX0_transfer_10 : decode cX0_transfer 10 = .ok (.i2l, 1) := dk_133 (dk_at dksX0_transfer_0 10 rfl rfl)
theorem dX0_transfer_11 : decode cX0_transfer 11 = .ok (.lastore, 1) := dk_80 (dk_at dksX0_transfer_0 11 rfl rfl)
theorem dX0_transfer_12 : decode cX0_transfer 12 = .ok (.goto 15, 3) := dk_167 0 15 (dk_at dksX0_transfer_0 12 rfl rfl)
theorem dX0_transfer_15 : decode cX0_transfer 15 = .ok (.astore 5, 2) := dk_58 5 (dk_at dksX0_transfer_0 15 rfl rfl)
theorem dX0_transfer_17 : decode cX0_transfer 17 = .ok (.iconst 1, 1) := dk_4 (dk_at dksX0_transfer_0 17 rfl rfl)
theorem dX0_transfer_18 : decode cX0_transfer 18 = .ok (.ireturn, 1) := dk_172 (dk_at dksX0_transfer_0 18 rfl rfl)
theorem dX0_transfer_19 : decode cX0_transfer 19 = .ok (.astore 5, 2) := dk_58 5 (dk_at dksX0_transfer_0 19 rfl rfl)
theorem dX0_transfer_21 : decode cX0_transfer 21 = .ok (.iconst 2, 1) := dk_5 (dk_at dksX0_transfer_0 21 rfl rfl)
theorem dX0_transfer_22 : decode cX0_transfer 22 = .ok (.ireturn, 1) := dk_172 (dk_at dksX0_transfer_0 22 rfl rfl)
theorem dX0_transfer_23 : decode cX0_transfer 23 = .ok (.astore 5, 2) := dk_58 5 (dk_at dksX0_transfer_1 0 rfl rfl)
theorem dX0_transfer_25 : decode cX0_transfer 25 = .ok (.iconst 3, 1) := dk_6 (dk_at dksX0_transfer_1 2 rfl rfl)
theorem dX0_transfer_26 : decode cX0_transfer 26 = .ok (.ireturn, 1) := dk_172 (dk_at dksX0_transfer_1 3 rfl rfl)
theorem dX0_transfer_27 : decode cX0_transfer 27 = .ok (.iconst 0, 1) := dk_3 (dk_at dksX0_transfer_1 4 rfl rfl)
theorem dX0_transfer_28 : decode cX0_transfer 28 = .ok (.ireturn, 1) := dk_172 (dk_at dksX0_transfer_1 5 rfl rfl)
abbrev cX0_pass : ByteArray := method_28_code
def yX0_pass : MethodName := ⟨RX0, "pass", "(LDocumentaryCreditDesk;I[J)I"⟩
def dkwX0_pass_0 : List UInt8 := [44, 3, 42, 27, 182, 0, 96, 133, 80, 167, 0, 9, 78, 4, 172, 78, 5, 172, 3, 172]
abbrev dktX0_pass_0 : List UInt8 := dkwX0_pass_0 ++ []
theorem dksX0_pass_0 : cX0_pass.data.toList.drop 0 = dktX0_pass_0 := by decide +kernel
theorem dX0_pass_0 : decode cX0_pass 0 = .ok (.aload_n 2, 1) := dk_44 (dk_at dksX0_pass_0 0 rfl rfl)
theorem dX0_pass_1 : decode cX0_pass 1 = .ok (.iconst 0, 1) := dk_3 (dk_at dksX0_pass_0 1 rfl rfl)
theorem dX0_pass_2 : decode cX0_pass 2 = .ok (.aload_n 0, 1) := dk_42 (dk_at dksX0_pass_0 2 rfl rfl)
theorem dX0_pass_3 : decode cX0_pass 3 = .ok (.iload_n 1, 1) := dk_27 (dk_at dksX0_pass_0 3 rfl rfl)
theorem dX0_pass_4 : decode cX0_pass 4 = .ok (.invokevirtual 96, 3) := dk_182 0 96 (dk_at dksX0_pass_0 4 rfl rfl)
theorem dX0_pass_7 : decode cX0_pass 7 = .ok (.i2l, 1) := dk_133 (dk_at dksX0_pass_0 7 rfl rfl)
theorem dX0_pass_8 : decode cX0_pass 8 = .ok (.lastore, 1) := dk_80 (dk_at dksX0_pass_0 8 rfl rfl)
theorem dX0_pass_9 : decode cX0_pass 9 = .ok (.goto 9, 3) := dk_167 0 9 (dk_at dksX0_pass_0 9 rfl rfl)
theorem dX0_pass_12 : decode cX0_pass 12 = .ok (.astore_n 3, 1) := dk_78 (dk_at dksX0_pass_0 12 rfl rfl)
theorem dX0_pass_13 : decode cX0_pass 13 = .ok (.iconst 1, 1) := dk_4 (dk_at dksX0_pass_0 13 rfl rfl)
theorem dX0_pass_14 : decode cX0_pass 14 = .ok (.ireturn, 1) := dk_172 (dk_at dksX0_pass_0 14 rfl rfl)
theorem dX0_pass_15 : decode cX0_pass 15 = .ok (.astore_n 3, 1) := dk_78 (dk_at dksX0_pass_0 15 rfl rfl)
theorem dX0_pass_16 : decode cX0_pass 16 = .ok (.iconst 2, 1) := dk_5 (dk_at dksX0_pass_0 16 rfl rfl)
theorem dX0_pass_17 : decode cX0_pass 17 = .ok (.ireturn, 1) := dk_172 (dk_at dksX0_pass_0 17 rfl rfl)
theorem dX0_pass_18 : decode cX0_pass 18 = .ok (.iconst 0, 1) := dk_3 (dk_at dksX0_pass_0 18 rfl rfl)
theorem dX0_pass_19 : decode cX0_pass 19 = .ok (.ireturn, 1) := dk_172 (dk_at dksX0_pass_0 19 rfl rfl)
theorem q67 : (Jvm.Cond.initialized "DocumentaryCreditDeskLaw") ∈ lw_all := lw_g (lw_at lw_m1 0 rfl) rfl
theorem q106 : (Jvm.Cond.classLink "DocumentaryCreditDeskLaw" (8 : Nat) "DocumentaryCreditDesk") ∈ lw_all := lw_g (lw_at lw_m1 39 rfl) rfl
theorem q108 : (Jvm.Cond.methodLink "DocumentaryCreditDeskLaw" (99 : Nat) ({ cls := "DocumentaryCreditDesk", name := "<init>", desc := "()V" } : Jvm.MethodName)) ∈ lw_all := lw_g (lw_at lw_m1 41 rfl) rfl
theorem q235 : (Jvm.Cond.methodLink "DocumentaryCreditDeskLaw" (103 : Nat) ({ cls := "DocumentaryCreditDesk", name := "append", desc := "(IIIII)I" } : Jvm.MethodName)) ∈ lw_all := lw_g (lw_at lw_m1 168 rfl) rfl
theorem q243 : (Jvm.Cond.methodLink "DocumentaryCreditDeskLaw" (117 : Nat) ({ cls := "DocumentaryCreditDesk", name := "errorOffset", desc := "()I" } : Jvm.MethodName)) ∈ lw_all := lw_g (lw_at lw_m1 176 rfl) rfl
theorem q247 : (Jvm.Cond.methodLink "DocumentaryCreditDeskLaw" (121 : Nat) ({ cls := "DocumentaryCreditDesk", name := "creditCount", desc := "()I" } : Jvm.MethodName)) ∈ lw_all := lw_g (lw_at lw_m1 180 rfl) rfl
theorem q265 : (Jvm.Cond.methodLink "DocumentaryCreditDeskLaw" (125 : Nat) ({ cls := "DocumentaryCreditDesk", name := "presentationCount", desc := "()I" } : Jvm.MethodName)) ∈ lw_all := lw_g (lw_at lw_m1 198 rfl) rfl
theorem q269 : (Jvm.Cond.methodLink "DocumentaryCreditDeskLaw" (129 : Nat) ({ cls := "DocumentaryCreditDesk", name := "today", desc := "()I" } : Jvm.MethodName)) ∈ lw_all := lw_g (lw_at lw_m1 202 rfl) rfl
theorem q273 : (Jvm.Cond.methodLink "DocumentaryCreditDeskLaw" (183 : Nat) ({ cls := "DocumentaryCreditDesk", name := "dueBetween", desc := "(II)J" } : Jvm.MethodName)) ∈ lw_all := lw_g (lw_at lw_m1 206 rfl) rfl
theorem q304 : (Jvm.Cond.methodLink "DocumentaryCreditDeskLaw" (217 : Nat) ({ cls := "DocumentaryCreditDesk", name := "undo", desc := "()I" } : Jvm.MethodName)) ∈ lw_all := lw_g (lw_at lw_m1 237 rfl) rfl
theorem q333 : (Jvm.Cond.methodLink "DocumentaryCreditDeskLaw" (221 : Nat) ({ cls := "DocumentaryCreditDesk", name := "checksum", desc := "()J" } : Jvm.MethodName)) ∈ lw_all := lw_g (lw_at lw_m2 26 rfl) rfl
theorem q371 : (Jvm.Cond.methodLink "DocumentaryCreditDeskLaw" (107 : Nat) ({ cls := "DocumentaryCreditDeskLaw", name := "load", desc := "(LDocumentaryCreditDesk;I[J)I" } : Jvm.MethodName)) ∈ lw_all := lw_g (lw_at lw_m2 64 rfl) rfl
theorem q372 : (Jvm.Cond.static ({ cls := "DocumentaryCreditDeskLaw", name := "load", desc := "(LDocumentaryCreditDesk;I[J)I" } : Jvm.MethodName)) ∈ lw_all := lw_g (lw_at lw_m2 65 rfl) rfl
theorem q373 : (Jvm.Cond.codeWith ({ cls := "DocumentaryCreditDeskLaw", name := "load", desc := "(LDocumentaryCreditDesk;I[J)I" } : Jvm.MethodName) method_3_code (4 : Nat) (Option.some Jvm.ClassFile.FieldType.int) [((0 : Nat), (9 : Nat), (12 : Nat), (13 : Nat))]) ∈ lw_all := lw_g (lw_at lw_m2 66 rfl) rfl
theorem q374 : (Jvm.Cond.classLink "DocumentaryCreditDeskLaw" (13 : Nat) "java/lang/IllegalArgumentException") ∈ lw_all := lw_g (lw_at lw_m2 67 rfl) rfl
theorem q375 : (Jvm.Cond.methodLink "DocumentaryCreditDeskLaw" (7 : Nat) ({ cls := "DocumentaryCreditDesk", name := "load", desc := "(I)I" } : Jvm.MethodName)) ∈ lw_all := lw_g (lw_at lw_m2 68 rfl) rfl
theorem q1170 : (Jvm.Cond.methodLink "DocumentaryCreditDeskLaw" (133 : Nat) ({ cls := "DocumentaryCreditDeskLaw", name := "isBusinessDay", desc := "(LDocumentaryCreditDesk;I[J)I" } : Jvm.MethodName)) ∈ lw_all := lw_g (lw_at lw_m5 143 rfl) rfl
theorem q1171 : (Jvm.Cond.static ({ cls := "DocumentaryCreditDeskLaw", name := "isBusinessDay", desc := "(LDocumentaryCreditDesk;I[J)I" } : Jvm.MethodName)) ∈ lw_all := lw_g (lw_at lw_m5 144 rfl) rfl
theorem q1172 : (Jvm.Cond.codeWith ({ cls := "DocumentaryCreditDeskLaw", name := "isBusinessDay", desc := "(LDocumentaryCreditDesk;I[J)I" } : Jvm.MethodName) method_4_code (4 : Nat) (Option.some Jvm.ClassFile.FieldType.int) [((0 : Nat), (16 : Nat), (19 : Nat), (13 : Nat))]) ∈ lw_all := lw_g (lw_at lw_m5 145 rfl) rfl
theorem q1173 : (Jvm.Cond.methodLink "DocumentaryCreditDeskLaw" (15 : Nat) ({ cls := "DocumentaryCreditDesk", name := "isBusinessDay", desc := "(I)Z" } : Jvm.MethodName)) ∈ lw_all := lw_g (lw_at lw_m5 146 rfl) rfl
theorem q1186 : (Jvm.Cond.methodLink "DocumentaryCreditDeskLaw" (136 : Nat) ({ cls := "DocumentaryCreditDeskLaw", name := "extended", desc := "(LDocumentaryCreditDesk;I[J)I" } : Jvm.MethodName)) ∈ lw_all := lw_g (lw_at lw_m5 159 rfl) rfl
theorem q1187 : (Jvm.Cond.static ({ cls := "DocumentaryCreditDeskLaw", name := "extended", desc := "(LDocumentaryCreditDesk;I[J)I" } : Jvm.MethodName)) ∈ lw_all := lw_g (lw_at lw_m5 160 rfl) rfl
theorem q1188 : (Jvm.Cond.codeWith ({ cls := "DocumentaryCreditDeskLaw", name := "extended", desc := "(LDocumentaryCreditDesk;I[J)I" } : Jvm.MethodName) method_5_code (4 : Nat) (Option.some Jvm.ClassFile.FieldType.int) [((0 : Nat), (9 : Nat), (12 : Nat), (13 : Nat))]) ∈ lw_all := lw_g (lw_at lw_m5 161 rfl) rfl
theorem q1189 : (Jvm.Cond.methodLink "DocumentaryCreditDeskLaw" (19 : Nat) ({ cls := "DocumentaryCreditDesk", name := "extended", desc := "(I)I" } : Jvm.MethodName)) ∈ lw_all := lw_g (lw_at lw_m5 162 rfl) rfl
theorem q1276 : (Jvm.Cond.methodLink "DocumentaryCreditDeskLaw" (139 : Nat) ({ cls := "DocumentaryCreditDeskLaw", name := "addBusinessDays", desc := "(LDocumentaryCreditDesk;II[J)I" } : Jvm.MethodName)) ∈ lw_all := lw_g (lw_at lw_m6 9 rfl) rfl
theorem q1277 : (Jvm.Cond.static ({ cls := "DocumentaryCreditDeskLaw", name := "addBusinessDays", desc := "(LDocumentaryCreditDesk;II[J)I" } : Jvm.MethodName)) ∈ lw_all := lw_g (lw_at lw_m6 10 rfl) rfl
theorem q1278 : (Jvm.Cond.codeWith ({ cls := "DocumentaryCreditDeskLaw", name := "addBusinessDays", desc := "(LDocumentaryCreditDesk;II[J)I" } : Jvm.MethodName) method_6_code (5 : Nat) (Option.some Jvm.ClassFile.FieldType.int) [((0 : Nat), (10 : Nat), (13 : Nat), (13 : Nat))]) ∈ lw_all := lw_g (lw_at lw_m6 11 rfl) rfl
theorem q1279 : (Jvm.Cond.methodLink "DocumentaryCreditDeskLaw" (22 : Nat) ({ cls := "DocumentaryCreditDesk", name := "addBusinessDays", desc := "(II)I" } : Jvm.MethodName)) ∈ lw_all := lw_g (lw_at lw_m6 12 rfl) rfl
theorem q1288 : (Jvm.Cond.methodLink "DocumentaryCreditDeskLaw" (143 : Nat) ({ cls := "DocumentaryCreditDeskLaw", name := "businessDays", desc := "(LDocumentaryCreditDesk;II[J)I" } : Jvm.MethodName)) ∈ lw_all := lw_g (lw_at lw_m6 21 rfl) rfl
theorem q1289 : (Jvm.Cond.static ({ cls := "DocumentaryCreditDeskLaw", name := "businessDays", desc := "(LDocumentaryCreditDesk;II[J)I" } : Jvm.MethodName)) ∈ lw_all := lw_g (lw_at lw_m6 22 rfl) rfl
theorem q1290 : (Jvm.Cond.codeWith ({ cls := "DocumentaryCreditDeskLaw", name := "businessDays", desc := "(LDocumentaryCreditDesk;II[J)I" } : Jvm.MethodName) method_7_code (5 : Nat) (Option.some Jvm.ClassFile.FieldType.int) [((0 : Nat), (10 : Nat), (13 : Nat), (13 : Nat))]) ∈ lw_all := lw_g (lw_at lw_m6 23 rfl) rfl
theorem q1291 : (Jvm.Cond.methodLink "DocumentaryCreditDeskLaw" (26 : Nat) ({ cls := "DocumentaryCreditDesk", name := "businessDays", desc := "(II)I" } : Jvm.MethodName)) ∈ lw_all := lw_g (lw_at lw_m6 24 rfl) rfl
theorem q1295 : (Jvm.Cond.methodLink "DocumentaryCreditDeskLaw" (146 : Nat) ({ cls := "DocumentaryCreditDeskLaw", name := "parent", desc := "(LDocumentaryCreditDesk;I[J)I" } : Jvm.MethodName)) ∈ lw_all := lw_g (lw_at lw_m6 28 rfl) rfl
theorem q1296 : (Jvm.Cond.static ({ cls := "DocumentaryCreditDeskLaw", name := "parent", desc := "(LDocumentaryCreditDesk;I[J)I" } : Jvm.MethodName)) ∈ lw_all := lw_g (lw_at lw_m6 29 rfl) rfl
theorem q1297 : (Jvm.Cond.codeWith ({ cls := "DocumentaryCreditDeskLaw", name := "parent", desc := "(LDocumentaryCreditDesk;I[J)I" } : Jvm.MethodName) method_8_code (4 : Nat) (Option.some Jvm.ClassFile.FieldType.int) [((0 : Nat), (9 : Nat), (12 : Nat), (32 : Nat))]) ∈ lw_all := lw_g (lw_at lw_m6 30 rfl) rfl
theorem q1298 : (Jvm.Cond.classLink "DocumentaryCreditDeskLaw" (32 : Nat) "java/lang/IndexOutOfBoundsException") ∈ lw_all := lw_g (lw_at lw_m6 31 rfl) rfl
theorem q1317 : (Jvm.Cond.methodLink "DocumentaryCreditDeskLaw" (29 : Nat) ({ cls := "DocumentaryCreditDesk", name := "parent", desc := "(I)I" } : Jvm.MethodName)) ∈ lw_all := lw_g (lw_at lw_m6 50 rfl) rfl
theorem q1347 : (Jvm.Cond.methodLink "DocumentaryCreditDeskLaw" (149 : Nat) ({ cls := "DocumentaryCreditDeskLaw", name := "bound", desc := "(LDocumentaryCreditDesk;IZ[J)I" } : Jvm.MethodName)) ∈ lw_all := lw_g (lw_at lw_m6 80 rfl) rfl
theorem q1348 : (Jvm.Cond.static ({ cls := "DocumentaryCreditDeskLaw", name := "bound", desc := "(LDocumentaryCreditDesk;IZ[J)I" } : Jvm.MethodName)) ∈ lw_all := lw_g (lw_at lw_m6 81 rfl) rfl
theorem q1349 : (Jvm.Cond.codeWith ({ cls := "DocumentaryCreditDeskLaw", name := "bound", desc := "(LDocumentaryCreditDesk;IZ[J)I" } : Jvm.MethodName) method_9_code (5 : Nat) (Option.some Jvm.ClassFile.FieldType.int) [((0 : Nat), (10 : Nat), (13 : Nat), (32 : Nat))]) ∈ lw_all := lw_g (lw_at lw_m6 82 rfl) rfl
theorem q1350 : (Jvm.Cond.methodLink "DocumentaryCreditDeskLaw" (34 : Nat) ({ cls := "DocumentaryCreditDesk", name := "bound", desc := "(IZ)I" } : Jvm.MethodName)) ∈ lw_all := lw_g (lw_at lw_m6 83 rfl) rfl
theorem q1359 : (Jvm.Cond.methodLink "DocumentaryCreditDeskLaw" (153 : Nat) ({ cls := "DocumentaryCreditDeskLaw", name := "expiry", desc := "(LDocumentaryCreditDesk;I[J)I" } : Jvm.MethodName)) ∈ lw_all := lw_g (lw_at lw_m6 92 rfl) rfl
theorem q1360 : (Jvm.Cond.static ({ cls := "DocumentaryCreditDeskLaw", name := "expiry", desc := "(LDocumentaryCreditDesk;I[J)I" } : Jvm.MethodName)) ∈ lw_all := lw_g (lw_at lw_m6 93 rfl) rfl
theorem q1361 : (Jvm.Cond.codeWith ({ cls := "DocumentaryCreditDeskLaw", name := "expiry", desc := "(LDocumentaryCreditDesk;I[J)I" } : Jvm.MethodName) method_10_code (4 : Nat) (Option.some Jvm.ClassFile.FieldType.int) [((0 : Nat), (9 : Nat), (12 : Nat), (32 : Nat))]) ∈ lw_all := lw_g (lw_at lw_m6 94 rfl) rfl
theorem q1362 : (Jvm.Cond.methodLink "DocumentaryCreditDeskLaw" (38 : Nat) ({ cls := "DocumentaryCreditDesk", name := "expiry", desc := "(I)I" } : Jvm.MethodName)) ∈ lw_all := lw_g (lw_at lw_m6 95 rfl) rfl
theorem q1366 : (Jvm.Cond.methodLink "DocumentaryCreditDeskLaw" (156 : Nat) ({ cls := "DocumentaryCreditDeskLaw", name := "drawn", desc := "(LDocumentaryCreditDesk;I[J)I" } : Jvm.MethodName)) ∈ lw_all := lw_g (lw_at lw_m6 99 rfl) rfl
theorem q1367 : (Jvm.Cond.static ({ cls := "DocumentaryCreditDeskLaw", name := "drawn", desc := "(LDocumentaryCreditDesk;I[J)I" } : Jvm.MethodName)) ∈ lw_all := lw_g (lw_at lw_m6 100 rfl) rfl
theorem q1368 : (Jvm.Cond.codeWith ({ cls := "DocumentaryCreditDeskLaw", name := "drawn", desc := "(LDocumentaryCreditDesk;I[J)I" } : Jvm.MethodName) method_11_code (4 : Nat) (Option.some Jvm.ClassFile.FieldType.int) [((0 : Nat), (9 : Nat), (12 : Nat), (32 : Nat))]) ∈ lw_all := lw_g (lw_at lw_m6 101 rfl) rfl
theorem q1369 : (Jvm.Cond.methodLink "DocumentaryCreditDeskLaw" (41 : Nat) ({ cls := "DocumentaryCreditDesk", name := "drawn", desc := "(I)I" } : Jvm.MethodName)) ∈ lw_all := lw_g (lw_at lw_m6 102 rfl) rfl
theorem q1373 : (Jvm.Cond.methodLink "DocumentaryCreditDeskLaw" (159 : Nat) ({ cls := "DocumentaryCreditDeskLaw", name := "transferred", desc := "(LDocumentaryCreditDesk;I[J)I" } : Jvm.MethodName)) ∈ lw_all := lw_g (lw_at lw_m6 106 rfl) rfl
theorem q1374 : (Jvm.Cond.static ({ cls := "DocumentaryCreditDeskLaw", name := "transferred", desc := "(LDocumentaryCreditDesk;I[J)I" } : Jvm.MethodName)) ∈ lw_all := lw_g (lw_at lw_m6 107 rfl) rfl
theorem q1375 : (Jvm.Cond.codeWith ({ cls := "DocumentaryCreditDeskLaw", name := "transferred", desc := "(LDocumentaryCreditDesk;I[J)I" } : Jvm.MethodName) method_12_code (4 : Nat) (Option.some Jvm.ClassFile.FieldType.int) [((0 : Nat), (9 : Nat), (12 : Nat), (32 : Nat))]) ∈ lw_all := lw_g (lw_at lw_m6 108 rfl) rfl
theorem q1376 : (Jvm.Cond.methodLink "DocumentaryCreditDeskLaw" (44 : Nat) ({ cls := "DocumentaryCreditDesk", name := "transferred", desc := "(I)I" } : Jvm.MethodName)) ∈ lw_all := lw_g (lw_at lw_m6 109 rfl) rfl
theorem q1381 : (Jvm.Cond.methodLink "DocumentaryCreditDeskLaw" (162 : Nat) ({ cls := "DocumentaryCreditDeskLaw", name := "available", desc := "(LDocumentaryCreditDesk;I[J)I" } : Jvm.MethodName)) ∈ lw_all := lw_g (lw_at lw_m6 114 rfl) rfl
theorem q1382 : (Jvm.Cond.static ({ cls := "DocumentaryCreditDeskLaw", name := "available", desc := "(LDocumentaryCreditDesk;I[J)I" } : Jvm.MethodName)) ∈ lw_all := lw_g (lw_at lw_m6 115 rfl) rfl
theorem q1383 : (Jvm.Cond.codeWith ({ cls := "DocumentaryCreditDeskLaw", name := "available", desc := "(LDocumentaryCreditDesk;I[J)I" } : Jvm.MethodName) method_13_code (4 : Nat) (Option.some Jvm.ClassFile.FieldType.int) [((0 : Nat), (9 : Nat), (12 : Nat), (32 : Nat))]) ∈ lw_all := lw_g (lw_at lw_m6 116 rfl) rfl
theorem q1384 : (Jvm.Cond.methodLink "DocumentaryCreditDeskLaw" (47 : Nat) ({ cls := "DocumentaryCreditDesk", name := "available", desc := "(I)I" } : Jvm.MethodName)) ∈ lw_all := lw_g (lw_at lw_m6 117 rfl) rfl
theorem q1388 : (Jvm.Cond.methodLink "DocumentaryCreditDeskLaw" (165 : Nat) ({ cls := "DocumentaryCreditDeskLaw", name := "creditOf", desc := "(LDocumentaryCreditDesk;I[J)I" } : Jvm.MethodName)) ∈ lw_all := lw_g (lw_at lw_m6 121 rfl) rfl
theorem q1389 : (Jvm.Cond.static ({ cls := "DocumentaryCreditDeskLaw", name := "creditOf", desc := "(LDocumentaryCreditDesk;I[J)I" } : Jvm.MethodName)) ∈ lw_all := lw_g (lw_at lw_m6 122 rfl) rfl
theorem q1390 : (Jvm.Cond.codeWith ({ cls := "DocumentaryCreditDeskLaw", name := "creditOf", desc := "(LDocumentaryCreditDesk;I[J)I" } : Jvm.MethodName) method_14_code (4 : Nat) (Option.some Jvm.ClassFile.FieldType.int) [((0 : Nat), (9 : Nat), (12 : Nat), (32 : Nat))]) ∈ lw_all := lw_g (lw_at lw_m6 123 rfl) rfl
theorem q1391 : (Jvm.Cond.methodLink "DocumentaryCreditDeskLaw" (50 : Nat) ({ cls := "DocumentaryCreditDesk", name := "creditOf", desc := "(I)I" } : Jvm.MethodName)) ∈ lw_all := lw_g (lw_at lw_m6 124 rfl) rfl
theorem q1399 : (Jvm.Cond.methodLink "DocumentaryCreditDeskLaw" (168 : Nat) ({ cls := "DocumentaryCreditDeskLaw", name := "state", desc := "(LDocumentaryCreditDesk;I[J)I" } : Jvm.MethodName)) ∈ lw_all := lw_g (lw_at lw_m6 132 rfl) rfl
theorem q1400 : (Jvm.Cond.static ({ cls := "DocumentaryCreditDeskLaw", name := "state", desc := "(LDocumentaryCreditDesk;I[J)I" } : Jvm.MethodName)) ∈ lw_all := lw_g (lw_at lw_m6 133 rfl) rfl
theorem q1401 : (Jvm.Cond.codeWith ({ cls := "DocumentaryCreditDeskLaw", name := "state", desc := "(LDocumentaryCreditDesk;I[J)I" } : Jvm.MethodName) method_15_code (4 : Nat) (Option.some Jvm.ClassFile.FieldType.int) [((0 : Nat), (9 : Nat), (12 : Nat), (32 : Nat))]) ∈ lw_all := lw_g (lw_at lw_m6 134 rfl) rfl
theorem q1402 : (Jvm.Cond.methodLink "DocumentaryCreditDeskLaw" (53 : Nat) ({ cls := "DocumentaryCreditDesk", name := "state", desc := "(I)I" } : Jvm.MethodName)) ∈ lw_all := lw_g (lw_at lw_m6 135 rfl) rfl
theorem q1406 : (Jvm.Cond.methodLink "DocumentaryCreditDeskLaw" (171 : Nat) ({ cls := "DocumentaryCreditDeskLaw", name := "discrepancies", desc := "(LDocumentaryCreditDesk;I[J)I" } : Jvm.MethodName)) ∈ lw_all := lw_g (lw_at lw_m6 139 rfl) rfl
theorem q1407 : (Jvm.Cond.static ({ cls := "DocumentaryCreditDeskLaw", name := "discrepancies", desc := "(LDocumentaryCreditDesk;I[J)I" } : Jvm.MethodName)) ∈ lw_all := lw_g (lw_at lw_m6 140 rfl) rfl
theorem q1408 : (Jvm.Cond.codeWith ({ cls := "DocumentaryCreditDeskLaw", name := "discrepancies", desc := "(LDocumentaryCreditDesk;I[J)I" } : Jvm.MethodName) method_16_code (4 : Nat) (Option.some Jvm.ClassFile.FieldType.int) [((0 : Nat), (9 : Nat), (12 : Nat), (32 : Nat))]) ∈ lw_all := lw_g (lw_at lw_m6 141 rfl) rfl
theorem q1409 : (Jvm.Cond.methodLink "DocumentaryCreditDeskLaw" (56 : Nat) ({ cls := "DocumentaryCreditDesk", name := "discrepancies", desc := "(I)I" } : Jvm.MethodName)) ∈ lw_all := lw_g (lw_at lw_m6 142 rfl) rfl
theorem q1413 : (Jvm.Cond.methodLink "DocumentaryCreditDeskLaw" (174 : Nat) ({ cls := "DocumentaryCreditDeskLaw", name := "deadline", desc := "(LDocumentaryCreditDesk;I[J)I" } : Jvm.MethodName)) ∈ lw_all := lw_g (lw_at lw_m6 146 rfl) rfl
theorem q1414 : (Jvm.Cond.static ({ cls := "DocumentaryCreditDeskLaw", name := "deadline", desc := "(LDocumentaryCreditDesk;I[J)I" } : Jvm.MethodName)) ∈ lw_all := lw_g (lw_at lw_m6 147 rfl) rfl
theorem q1415 : (Jvm.Cond.codeWith ({ cls := "DocumentaryCreditDeskLaw", name := "deadline", desc := "(LDocumentaryCreditDesk;I[J)I" } : Jvm.MethodName) method_17_code (4 : Nat) (Option.some Jvm.ClassFile.FieldType.int) [((0 : Nat), (9 : Nat), (12 : Nat), (32 : Nat))]) ∈ lw_all := lw_g (lw_at lw_m6 148 rfl) rfl
theorem q1416 : (Jvm.Cond.methodLink "DocumentaryCreditDeskLaw" (59 : Nat) ({ cls := "DocumentaryCreditDesk", name := "deadline", desc := "(I)I" } : Jvm.MethodName)) ∈ lw_all := lw_g (lw_at lw_m6 149 rfl) rfl
theorem q1425 : (Jvm.Cond.methodLink "DocumentaryCreditDeskLaw" (177 : Nat) ({ cls := "DocumentaryCreditDeskLaw", name := "dueDay", desc := "(LDocumentaryCreditDesk;I[J)I" } : Jvm.MethodName)) ∈ lw_all := lw_g (lw_at lw_m6 158 rfl) rfl
theorem q1426 : (Jvm.Cond.static ({ cls := "DocumentaryCreditDeskLaw", name := "dueDay", desc := "(LDocumentaryCreditDesk;I[J)I" } : Jvm.MethodName)) ∈ lw_all := lw_g (lw_at lw_m6 159 rfl) rfl
theorem q1427 : (Jvm.Cond.codeWith ({ cls := "DocumentaryCreditDeskLaw", name := "dueDay", desc := "(LDocumentaryCreditDesk;I[J)I" } : Jvm.MethodName) method_18_code (4 : Nat) (Option.some Jvm.ClassFile.FieldType.int) [((0 : Nat), (9 : Nat), (12 : Nat), (32 : Nat))]) ∈ lw_all := lw_g (lw_at lw_m6 160 rfl) rfl
theorem q1428 : (Jvm.Cond.methodLink "DocumentaryCreditDeskLaw" (62 : Nat) ({ cls := "DocumentaryCreditDesk", name := "dueDay", desc := "(I)I" } : Jvm.MethodName)) ∈ lw_all := lw_g (lw_at lw_m6 161 rfl) rfl
theorem q1432 : (Jvm.Cond.methodLink "DocumentaryCreditDeskLaw" (180 : Nat) ({ cls := "DocumentaryCreditDeskLaw", name := "fee", desc := "(LDocumentaryCreditDesk;I[J)I" } : Jvm.MethodName)) ∈ lw_all := lw_g (lw_at lw_m6 165 rfl) rfl
theorem q1433 : (Jvm.Cond.static ({ cls := "DocumentaryCreditDeskLaw", name := "fee", desc := "(LDocumentaryCreditDesk;I[J)I" } : Jvm.MethodName)) ∈ lw_all := lw_g (lw_at lw_m6 166 rfl) rfl
theorem q1434 : (Jvm.Cond.codeWith ({ cls := "DocumentaryCreditDeskLaw", name := "fee", desc := "(LDocumentaryCreditDesk;I[J)I" } : Jvm.MethodName) method_19_code (4 : Nat) (Option.some Jvm.ClassFile.FieldType.int) [((0 : Nat), (9 : Nat), (12 : Nat), (32 : Nat))]) ∈ lw_all := lw_g (lw_at lw_m6 167 rfl) rfl
theorem q1435 : (Jvm.Cond.methodLink "DocumentaryCreditDeskLaw" (65 : Nat) ({ cls := "DocumentaryCreditDesk", name := "fee", desc := "(I)I" } : Jvm.MethodName)) ∈ lw_all := lw_g (lw_at lw_m6 168 rfl) rfl
theorem q1454 : (Jvm.Cond.methodLink "DocumentaryCreditDeskLaw" (188 : Nat) ({ cls := "DocumentaryCreditDeskLaw", name := "check", desc := "(LDocumentaryCreditDesk;IIIII[J)I" } : Jvm.MethodName)) ∈ lw_all := lw_g (lw_at lw_m6 187 rfl) rfl
theorem q1455 : (Jvm.Cond.static ({ cls := "DocumentaryCreditDeskLaw", name := "check", desc := "(LDocumentaryCreditDesk;IIIII[J)I" } : Jvm.MethodName)) ∈ lw_all := lw_g (lw_at lw_m6 188 rfl) rfl
theorem q1456 : (Jvm.Cond.codeWith ({ cls := "DocumentaryCreditDeskLaw", name := "check", desc := "(LDocumentaryCreditDesk;IIIII[J)I" } : Jvm.MethodName) method_20_code (8 : Nat) (Option.some Jvm.ClassFile.FieldType.int) [((0 : Nat), (16 : Nat), (19 : Nat), (32 : Nat)), ((0 : Nat), (16 : Nat), (23 : Nat), (13 : Nat))]) ∈ lw_all := lw_g (lw_at lw_m6 189 rfl) rfl
theorem q1457 : (Jvm.Cond.methodLink "DocumentaryCreditDeskLaw" (68 : Nat) ({ cls := "DocumentaryCreditDesk", name := "check", desc := "(IIIII)I" } : Jvm.MethodName)) ∈ lw_all := lw_g (lw_at lw_m6 190 rfl) rfl
theorem q1486 : (Jvm.Cond.methodLink "DocumentaryCreditDeskLaw" (192 : Nat) ({ cls := "DocumentaryCreditDeskLaw", name := "lastDay", desc := "(LDocumentaryCreditDesk;II[J)I" } : Jvm.MethodName)) ∈ lw_all := lw_g (lw_at lw_m6 219 rfl) rfl
theorem q1487 : (Jvm.Cond.static ({ cls := "DocumentaryCreditDeskLaw", name := "lastDay", desc := "(LDocumentaryCreditDesk;II[J)I" } : Jvm.MethodName)) ∈ lw_all := lw_g (lw_at lw_m6 220 rfl) rfl
theorem q1488 : (Jvm.Cond.codeWith ({ cls := "DocumentaryCreditDeskLaw", name := "lastDay", desc := "(LDocumentaryCreditDesk;II[J)I" } : Jvm.MethodName) method_21_code (5 : Nat) (Option.some Jvm.ClassFile.FieldType.int) [((0 : Nat), (10 : Nat), (13 : Nat), (32 : Nat)), ((0 : Nat), (10 : Nat), (17 : Nat), (13 : Nat))]) ∈ lw_all := lw_g (lw_at lw_m6 221 rfl) rfl
theorem q1489 : (Jvm.Cond.methodLink "DocumentaryCreditDeskLaw" (72 : Nat) ({ cls := "DocumentaryCreditDesk", name := "lastDay", desc := "(II)I" } : Jvm.MethodName)) ∈ lw_all := lw_g (lw_at lw_m6 222 rfl) rfl
theorem q1494 : (Jvm.Cond.methodLink "DocumentaryCreditDeskLaw" (195 : Nat) ({ cls := "DocumentaryCreditDeskLaw", name := "bestFit", desc := "(LDocumentaryCreditDesk;I[J)I" } : Jvm.MethodName)) ∈ lw_all := lw_g (lw_at lw_m6 227 rfl) rfl
theorem q1495 : (Jvm.Cond.static ({ cls := "DocumentaryCreditDeskLaw", name := "bestFit", desc := "(LDocumentaryCreditDesk;I[J)I" } : Jvm.MethodName)) ∈ lw_all := lw_g (lw_at lw_m6 228 rfl) rfl
theorem q1496 : (Jvm.Cond.codeWith ({ cls := "DocumentaryCreditDeskLaw", name := "bestFit", desc := "(LDocumentaryCreditDesk;I[J)I" } : Jvm.MethodName) method_22_code (4 : Nat) (Option.some Jvm.ClassFile.FieldType.int) [((0 : Nat), (9 : Nat), (12 : Nat), (32 : Nat))]) ∈ lw_all := lw_g (lw_at lw_m6 229 rfl) rfl
theorem q1497 : (Jvm.Cond.methodLink "DocumentaryCreditDeskLaw" (75 : Nat) ({ cls := "DocumentaryCreditDesk", name := "bestFit", desc := "(I)I" } : Jvm.MethodName)) ∈ lw_all := lw_g (lw_at lw_m6 230 rfl) rfl
theorem q1505 : (Jvm.Cond.methodLink "DocumentaryCreditDeskLaw" (198 : Nat) ({ cls := "DocumentaryCreditDeskLaw", name := "present", desc := "(LDocumentaryCreditDesk;IIIII[J)I" } : Jvm.MethodName)) ∈ lw_all := lw_g (lw_at lw_m6 238 rfl) rfl
theorem q1506 : (Jvm.Cond.static ({ cls := "DocumentaryCreditDeskLaw", name := "present", desc := "(LDocumentaryCreditDesk;IIIII[J)I" } : Jvm.MethodName)) ∈ lw_all := lw_g (lw_at lw_m6 239 rfl) rfl
theorem q1507 : (Jvm.Cond.codeWith ({ cls := "DocumentaryCreditDeskLaw", name := "present", desc := "(LDocumentaryCreditDesk;IIIII[J)I" } : Jvm.MethodName) method_23_code (8 : Nat) (Option.some Jvm.ClassFile.FieldType.int) [((0 : Nat), (16 : Nat), (19 : Nat), (32 : Nat)), ((0 : Nat), (16 : Nat), (23 : Nat), (13 : Nat)), ((0 : Nat), (16 : Nat), (27 : Nat), (81 : Nat))]) ∈ lw_all := lw_g (lw_at lw_m7 0 rfl) rfl
theorem q1508 : (Jvm.Cond.classLink "DocumentaryCreditDeskLaw" (81 : Nat) "java/lang/IllegalStateException") ∈ lw_all := lw_g (lw_at lw_m7 1 rfl) rfl
theorem q1509 : (Jvm.Cond.methodLink "DocumentaryCreditDeskLaw" (78 : Nat) ({ cls := "DocumentaryCreditDesk", name := "present", desc := "(IIIII)I" } : Jvm.MethodName)) ∈ lw_all := lw_g (lw_at lw_m7 2 rfl) rfl
theorem q1573 : (Jvm.Cond.methodLink "DocumentaryCreditDeskLaw" (201 : Nat) ({ cls := "DocumentaryCreditDeskLaw", name := "examine", desc := "(LDocumentaryCreditDesk;I[J)I" } : Jvm.MethodName)) ∈ lw_all := lw_g (lw_at lw_m7 66 rfl) rfl
theorem q1574 : (Jvm.Cond.static ({ cls := "DocumentaryCreditDeskLaw", name := "examine", desc := "(LDocumentaryCreditDesk;I[J)I" } : Jvm.MethodName)) ∈ lw_all := lw_g (lw_at lw_m7 67 rfl) rfl
theorem q1575 : (Jvm.Cond.codeWith ({ cls := "DocumentaryCreditDeskLaw", name := "examine", desc := "(LDocumentaryCreditDesk;I[J)I" } : Jvm.MethodName) method_24_code (4 : Nat) (Option.some Jvm.ClassFile.FieldType.int) [((0 : Nat), (9 : Nat), (12 : Nat), (32 : Nat)), ((0 : Nat), (9 : Nat), (15 : Nat), (81 : Nat))]) ∈ lw_all := lw_g (lw_at lw_m7 68 rfl) rfl
theorem q1576 : (Jvm.Cond.methodLink "DocumentaryCreditDeskLaw" (83 : Nat) ({ cls := "DocumentaryCreditDesk", name := "examine", desc := "(I)I" } : Jvm.MethodName)) ∈ lw_all := lw_g (lw_at lw_m7 69 rfl) rfl
theorem q1613 : (Jvm.Cond.methodLink "DocumentaryCreditDeskLaw" (204 : Nat) ({ cls := "DocumentaryCreditDeskLaw", name := "waive", desc := "(LDocumentaryCreditDesk;I[J)I" } : Jvm.MethodName)) ∈ lw_all := lw_g (lw_at lw_m7 106 rfl) rfl
theorem q1614 : (Jvm.Cond.static ({ cls := "DocumentaryCreditDeskLaw", name := "waive", desc := "(LDocumentaryCreditDesk;I[J)I" } : Jvm.MethodName)) ∈ lw_all := lw_g (lw_at lw_m7 107 rfl) rfl
theorem q1615 : (Jvm.Cond.codeWith ({ cls := "DocumentaryCreditDeskLaw", name := "waive", desc := "(LDocumentaryCreditDesk;I[J)I" } : Jvm.MethodName) method_25_code (4 : Nat) (Option.some Jvm.ClassFile.FieldType.int) [((0 : Nat), (9 : Nat), (12 : Nat), (32 : Nat)), ((0 : Nat), (9 : Nat), (15 : Nat), (81 : Nat))]) ∈ lw_all := lw_g (lw_at lw_m7 108 rfl) rfl
theorem q1616 : (Jvm.Cond.methodLink "DocumentaryCreditDeskLaw" (86 : Nat) ({ cls := "DocumentaryCreditDesk", name := "waive", desc := "(I)I" } : Jvm.MethodName)) ∈ lw_all := lw_g (lw_at lw_m7 109 rfl) rfl
theorem q1622 : (Jvm.Cond.methodLink "DocumentaryCreditDeskLaw" (207 : Nat) ({ cls := "DocumentaryCreditDeskLaw", name := "refuse", desc := "(LDocumentaryCreditDesk;I[J)I" } : Jvm.MethodName)) ∈ lw_all := lw_g (lw_at lw_m7 115 rfl) rfl
theorem q1623 : (Jvm.Cond.static ({ cls := "DocumentaryCreditDeskLaw", name := "refuse", desc := "(LDocumentaryCreditDesk;I[J)I" } : Jvm.MethodName)) ∈ lw_all := lw_g (lw_at lw_m7 116 rfl) rfl
theorem q1624 : (Jvm.Cond.codeWith ({ cls := "DocumentaryCreditDeskLaw", name := "refuse", desc := "(LDocumentaryCreditDesk;I[J)I" } : Jvm.MethodName) method_26_code (4 : Nat) (Option.some Jvm.ClassFile.FieldType.int) [((0 : Nat), (9 : Nat), (12 : Nat), (32 : Nat)), ((0 : Nat), (9 : Nat), (15 : Nat), (81 : Nat))]) ∈ lw_all := lw_g (lw_at lw_m7 117 rfl) rfl
theorem q1625 : (Jvm.Cond.methodLink "DocumentaryCreditDeskLaw" (89 : Nat) ({ cls := "DocumentaryCreditDesk", name := "refuse", desc := "(I)I" } : Jvm.MethodName)) ∈ lw_all := lw_g (lw_at lw_m7 118 rfl) rfl
theorem q1631 : (Jvm.Cond.methodLink "DocumentaryCreditDeskLaw" (210 : Nat) ({ cls := "DocumentaryCreditDeskLaw", name := "transfer", desc := "(LDocumentaryCreditDesk;III[J)I" } : Jvm.MethodName)) ∈ lw_all := lw_g (lw_at lw_m7 124 rfl) rfl
theorem q1632 : (Jvm.Cond.static ({ cls := "DocumentaryCreditDeskLaw", name := "transfer", desc := "(LDocumentaryCreditDesk;III[J)I" } : Jvm.MethodName)) ∈ lw_all := lw_g (lw_at lw_m7 125 rfl) rfl
theorem q1633 : (Jvm.Cond.codeWith ({ cls := "DocumentaryCreditDeskLaw", name := "transfer", desc := "(LDocumentaryCreditDesk;III[J)I" } : Jvm.MethodName) method_27_code (6 : Nat) (Option.some Jvm.ClassFile.FieldType.int) [((0 : Nat), (12 : Nat), (15 : Nat), (32 : Nat)), ((0 : Nat), (12 : Nat), (19 : Nat), (13 : Nat)), ((0 : Nat), (12 : Nat), (23 : Nat), (81 : Nat))]) ∈ lw_all := lw_g (lw_at lw_m7 126 rfl) rfl
theorem q1634 : (Jvm.Cond.methodLink "DocumentaryCreditDeskLaw" (92 : Nat) ({ cls := "DocumentaryCreditDesk", name := "transfer", desc := "(III)I" } : Jvm.MethodName)) ∈ lw_all := lw_g (lw_at lw_m7 127 rfl) rfl
theorem q1646 : (Jvm.Cond.methodLink "DocumentaryCreditDeskLaw" (214 : Nat) ({ cls := "DocumentaryCreditDeskLaw", name := "pass", desc := "(LDocumentaryCreditDesk;I[J)I" } : Jvm.MethodName)) ∈ lw_all := lw_g (lw_at lw_m7 139 rfl) rfl
theorem q1647 : (Jvm.Cond.static ({ cls := "DocumentaryCreditDeskLaw", name := "pass", desc := "(LDocumentaryCreditDesk;I[J)I" } : Jvm.MethodName)) ∈ lw_all := lw_g (lw_at lw_m7 140 rfl) rfl
theorem q1648 : (Jvm.Cond.codeWith ({ cls := "DocumentaryCreditDeskLaw", name := "pass", desc := "(LDocumentaryCreditDesk;I[J)I" } : Jvm.MethodName) method_28_code (4 : Nat) (Option.some Jvm.ClassFile.FieldType.int) [((0 : Nat), (9 : Nat), (12 : Nat), (13 : Nat)), ((0 : Nat), (9 : Nat), (15 : Nat), (81 : Nat))]) ∈ lw_all := lw_g (lw_at lw_m7 141 rfl) rfl
theorem q1649 : (Jvm.Cond.methodLink "DocumentaryCreditDeskLaw" (96 : Nat) ({ cls := "DocumentaryCreditDesk", name := "pass", desc := "(I)I" } : Jvm.MethodName)) ∈ lw_all := lw_g (lw_at lw_m7 142 rfl) rfl
theorem q1654 : (Jvm.Cond.classLink "DocumentaryCreditDeskLaw" (100 : Nat) "DocumentaryCreditDeskModel") ∈ lw_all := lw_g (lw_at lw_m7 147 rfl) rfl
theorem q1656 : (Jvm.Cond.methodLink "DocumentaryCreditDeskLaw" (102 : Nat) ({ cls := "DocumentaryCreditDeskModel", name := "<init>", desc := "()V" } : Jvm.MethodName)) ∈ lw_all := lw_g (lw_at lw_m7 149 rfl) rfl
theorem q1712 : (Jvm.Cond.methodLink "DocumentaryCreditDeskLaw" (113 : Nat) ({ cls := "DocumentaryCreditDeskModel", name := "thrown", desc := "()I" } : Jvm.MethodName)) ∈ lw_all := lw_g (lw_at lw_m7 205 rfl) rfl
theorem q1716 : (Jvm.Cond.methodLink "DocumentaryCreditDeskLaw" (106 : Nat) ({ cls := "DocumentaryCreditDeskModel", name := "append", desc := "(IIIII)I" } : Jvm.MethodName)) ∈ lw_all := lw_g (lw_at lw_m7 209 rfl) rfl
theorem q1720 : (Jvm.Cond.methodLink "DocumentaryCreditDeskLaw" (112 : Nat) ({ cls := "DocumentaryCreditDeskModel", name := "load", desc := "(I)I" } : Jvm.MethodName)) ∈ lw_all := lw_g (lw_at lw_m7 213 rfl) rfl
theorem q1834 : (Jvm.Cond.methodLink "DocumentaryCreditDeskLaw" (120 : Nat) ({ cls := "DocumentaryCreditDeskModel", name := "errorOffset", desc := "()I" } : Jvm.MethodName)) ∈ lw_all := lw_g (lw_at lw_m8 87 rfl) rfl
theorem q1838 : (Jvm.Cond.methodLink "DocumentaryCreditDeskLaw" (132 : Nat) ({ cls := "DocumentaryCreditDeskModel", name := "today", desc := "()I" } : Jvm.MethodName)) ∈ lw_all := lw_g (lw_at lw_m8 91 rfl) rfl
theorem q1842 : (Jvm.Cond.methodLink "DocumentaryCreditDeskLaw" (135 : Nat) ({ cls := "DocumentaryCreditDeskModel", name := "isBusinessDay", desc := "(I)Z" } : Jvm.MethodName)) ∈ lw_all := lw_g (lw_at lw_m8 95 rfl) rfl
theorem q1853 : (Jvm.Cond.methodLink "DocumentaryCreditDeskLaw" (138 : Nat) ({ cls := "DocumentaryCreditDeskModel", name := "extended", desc := "(I)I" } : Jvm.MethodName)) ∈ lw_all := lw_g (lw_at lw_m8 106 rfl) rfl
theorem q1861 : (Jvm.Cond.methodLink "DocumentaryCreditDeskLaw" (142 : Nat) ({ cls := "DocumentaryCreditDeskModel", name := "addBusinessDays", desc := "(II)I" } : Jvm.MethodName)) ∈ lw_all := lw_g (lw_at lw_m8 114 rfl) rfl
theorem q1869 : (Jvm.Cond.methodLink "DocumentaryCreditDeskLaw" (145 : Nat) ({ cls := "DocumentaryCreditDeskModel", name := "businessDays", desc := "(II)I" } : Jvm.MethodName)) ∈ lw_all := lw_g (lw_at lw_m8 122 rfl) rfl
theorem q1873 : (Jvm.Cond.methodLink "DocumentaryCreditDeskLaw" (124 : Nat) ({ cls := "DocumentaryCreditDeskModel", name := "creditCount", desc := "()I" } : Jvm.MethodName)) ∈ lw_all := lw_g (lw_at lw_m8 126 rfl) rfl
theorem q1877 : (Jvm.Cond.methodLink "DocumentaryCreditDeskLaw" (128 : Nat) ({ cls := "DocumentaryCreditDeskModel", name := "presentationCount", desc := "()I" } : Jvm.MethodName)) ∈ lw_all := lw_g (lw_at lw_m8 130 rfl) rfl
theorem q1881 : (Jvm.Cond.methodLink "DocumentaryCreditDeskLaw" (148 : Nat) ({ cls := "DocumentaryCreditDeskModel", name := "parent", desc := "(I)I" } : Jvm.MethodName)) ∈ lw_all := lw_g (lw_at lw_m8 134 rfl) rfl
theorem q1889 : (Jvm.Cond.methodLink "DocumentaryCreditDeskLaw" (152 : Nat) ({ cls := "DocumentaryCreditDeskModel", name := "bound", desc := "(IZ)I" } : Jvm.MethodName)) ∈ lw_all := lw_g (lw_at lw_m8 142 rfl) rfl
theorem q1901 : (Jvm.Cond.methodLink "DocumentaryCreditDeskLaw" (155 : Nat) ({ cls := "DocumentaryCreditDeskModel", name := "expiry", desc := "(I)I" } : Jvm.MethodName)) ∈ lw_all := lw_g (lw_at lw_m8 154 rfl) rfl
theorem q1905 : (Jvm.Cond.methodLink "DocumentaryCreditDeskLaw" (158 : Nat) ({ cls := "DocumentaryCreditDeskModel", name := "drawn", desc := "(I)I" } : Jvm.MethodName)) ∈ lw_all := lw_g (lw_at lw_m8 158 rfl) rfl
theorem q1920 : (Jvm.Cond.methodLink "DocumentaryCreditDeskLaw" (161 : Nat) ({ cls := "DocumentaryCreditDeskModel", name := "transferred", desc := "(I)I" } : Jvm.MethodName)) ∈ lw_all := lw_g (lw_at lw_m8 173 rfl) rfl
theorem q1928 : (Jvm.Cond.methodLink "DocumentaryCreditDeskLaw" (164 : Nat) ({ cls := "DocumentaryCreditDeskModel", name := "available", desc := "(I)I" } : Jvm.MethodName)) ∈ lw_all := lw_g (lw_at lw_m8 181 rfl) rfl
theorem q1936 : (Jvm.Cond.methodLink "DocumentaryCreditDeskLaw" (191 : Nat) ({ cls := "DocumentaryCreditDeskModel", name := "check", desc := "(IIIII)I" } : Jvm.MethodName)) ∈ lw_all := lw_g (lw_at lw_m8 189 rfl) rfl
theorem q1953 : (Jvm.Cond.methodLink "DocumentaryCreditDeskLaw" (194 : Nat) ({ cls := "DocumentaryCreditDeskModel", name := "lastDay", desc := "(II)I" } : Jvm.MethodName)) ∈ lw_all := lw_g (lw_at lw_m8 206 rfl) rfl
theorem q1957 : (Jvm.Cond.methodLink "DocumentaryCreditDeskLaw" (167 : Nat) ({ cls := "DocumentaryCreditDeskModel", name := "creditOf", desc := "(I)I" } : Jvm.MethodName)) ∈ lw_all := lw_g (lw_at lw_m8 210 rfl) rfl
theorem q1965 : (Jvm.Cond.methodLink "DocumentaryCreditDeskLaw" (170 : Nat) ({ cls := "DocumentaryCreditDeskModel", name := "state", desc := "(I)I" } : Jvm.MethodName)) ∈ lw_all := lw_g (lw_at lw_m8 218 rfl) rfl
theorem q1969 : (Jvm.Cond.methodLink "DocumentaryCreditDeskLaw" (173 : Nat) ({ cls := "DocumentaryCreditDeskModel", name := "discrepancies", desc := "(I)I" } : Jvm.MethodName)) ∈ lw_all := lw_g (lw_at lw_m8 222 rfl) rfl
theorem q1973 : (Jvm.Cond.methodLink "DocumentaryCreditDeskLaw" (176 : Nat) ({ cls := "DocumentaryCreditDeskModel", name := "deadline", desc := "(I)I" } : Jvm.MethodName)) ∈ lw_all := lw_g (lw_at lw_m8 226 rfl) rfl
theorem q1981 : (Jvm.Cond.methodLink "DocumentaryCreditDeskLaw" (179 : Nat) ({ cls := "DocumentaryCreditDeskModel", name := "dueDay", desc := "(I)I" } : Jvm.MethodName)) ∈ lw_all := lw_g (lw_at lw_m8 234 rfl) rfl
theorem q1989 : (Jvm.Cond.methodLink "DocumentaryCreditDeskLaw" (187 : Nat) ({ cls := "DocumentaryCreditDeskModel", name := "dueBetween", desc := "(II)J" } : Jvm.MethodName)) ∈ lw_all := lw_g (lw_at lw_m9 2 rfl) rfl
theorem q1993 : (Jvm.Cond.methodLink "DocumentaryCreditDeskLaw" (182 : Nat) ({ cls := "DocumentaryCreditDeskModel", name := "fee", desc := "(I)I" } : Jvm.MethodName)) ∈ lw_all := lw_g (lw_at lw_m9 6 rfl) rfl
theorem q2010 : (Jvm.Cond.methodLink "DocumentaryCreditDeskLaw" (197 : Nat) ({ cls := "DocumentaryCreditDeskModel", name := "bestFit", desc := "(I)I" } : Jvm.MethodName)) ∈ lw_all := lw_g (lw_at lw_m9 23 rfl) rfl
theorem q2014 : (Jvm.Cond.methodLink "DocumentaryCreditDeskLaw" (200 : Nat) ({ cls := "DocumentaryCreditDeskModel", name := "present", desc := "(IIIII)I" } : Jvm.MethodName)) ∈ lw_all := lw_g (lw_at lw_m9 27 rfl) rfl
theorem q2018 : (Jvm.Cond.methodLink "DocumentaryCreditDeskLaw" (203 : Nat) ({ cls := "DocumentaryCreditDeskModel", name := "examine", desc := "(I)I" } : Jvm.MethodName)) ∈ lw_all := lw_g (lw_at lw_m9 31 rfl) rfl
theorem q2026 : (Jvm.Cond.methodLink "DocumentaryCreditDeskLaw" (206 : Nat) ({ cls := "DocumentaryCreditDeskModel", name := "waive", desc := "(I)I" } : Jvm.MethodName)) ∈ lw_all := lw_g (lw_at lw_m9 39 rfl) rfl
theorem q2030 : (Jvm.Cond.methodLink "DocumentaryCreditDeskLaw" (209 : Nat) ({ cls := "DocumentaryCreditDeskModel", name := "refuse", desc := "(I)I" } : Jvm.MethodName)) ∈ lw_all := lw_g (lw_at lw_m9 43 rfl) rfl
theorem q2034 : (Jvm.Cond.methodLink "DocumentaryCreditDeskLaw" (213 : Nat) ({ cls := "DocumentaryCreditDeskModel", name := "transfer", desc := "(III)I" } : Jvm.MethodName)) ∈ lw_all := lw_g (lw_at lw_m9 47 rfl) rfl
theorem q2038 : (Jvm.Cond.methodLink "DocumentaryCreditDeskLaw" (216 : Nat) ({ cls := "DocumentaryCreditDeskModel", name := "pass", desc := "(I)I" } : Jvm.MethodName)) ∈ lw_all := lw_g (lw_at lw_m9 51 rfl) rfl
theorem q2042 : (Jvm.Cond.methodLink "DocumentaryCreditDeskLaw" (220 : Nat) ({ cls := "DocumentaryCreditDeskModel", name := "undo", desc := "()I" } : Jvm.MethodName)) ∈ lw_all := lw_g (lw_at lw_m9 55 rfl) rfl
theorem q2046 : (Jvm.Cond.methodLink "DocumentaryCreditDeskLaw" (225 : Nat) ({ cls := "DocumentaryCreditDeskModel", name := "checksum", desc := "()J" } : Jvm.MethodName)) ∈ lw_all := lw_g (lw_at lw_m9 59 rfl) rfl
/-! DocumentaryCreditDesk -/
set_option maxRecDepth 100000
def RX1 : String := "DocumentaryCreditDesk"
def TX1 : u_T := fun k => match k with
  | 0 => ("DocumentaryCreditDesk", "buffer", "[B", true)
  | 1 => ("DocumentaryCreditDesk", "history", "Ljava/util/ArrayDeque;", true)
  | 2 => ("DocumentaryCreditDesk", "current", "LDocumentaryCreditDesk$Desk;", false)
  | 3 => ("DocumentaryCreditDesk", "bufferLength", "I", false)
  | _ => ("DocumentaryCreditDesk", "errorOffset", "I", false)
def tyX1 : Nat → FieldType := fun k => match k with
  | 0 => .array .byte
  | 1 => .object "java/util/ArrayDeque"
  | 2 => .object "DocumentaryCreditDesk$Desk"
  | 3 => .int
  | _ => .int
abbrev wsX10 : List Cond := u_ws RX1 TX1 5
theorem nmX1 : ∀ a, a < 5 → ∀ b, b < 5 → a ≠ b → (TX1 a).2.1 ≠ (TX1 b).2.1 := by decide +kernel
theorem tyX1_ok : ∀ k, k < 5 → parseFieldDescriptor (TX1 k).2.2.1 = some (tyX1 k) := by decide +kernel
abbrev cX1_init : ByteArray := prog_1_method_3_code
def yX1_init : MethodName := ⟨RX1, "<init>", "()V"⟩
def dkwX1_init_1 : List UInt8 := [42, 187, 0, 24, 89, 187, 0, 26, 89, 183, 0, 28, 183, 0, 29, 181, 0, 32, 42, 2, 181, 0, 36, 177]
abbrev dktX1_init_1 : List UInt8 := dkwX1_init_1 ++ []
def dkwX1_init_0 : List UInt8 := [42, 183, 0, 5, 42, 17, 3, 132, 188, 8, 181, 0, 13, 42, 187, 0, 17, 89, 183, 0, 19, 181, 0, 20]
abbrev dktX1_init_0 : List UInt8 := dkwX1_init_0 ++ dktX1_init_1
theorem dksX1_init_0 : cX1_init.data.toList.drop 0 = dktX1_init_0 := by decide +kernel
theorem dksX1_init_1 : cX1_init.data.toList.drop 24 = dktX1_init_1 := dk_seg dksX1_init_0 24 rfl rfl
theorem dX1_init_0 : decode cX1_init 0 = .ok (.aload_n 0, 1) := dk_42 (dk_at dksX1_init_0 0 rfl rfl)
theorem dX1_init_1 : decode cX1_init 1 = .ok (.invokespecial 5, 3) := dk_183 0 5 (dk_at dksX1_init_0 1 rfl rfl)
theorem dX1_init_4 : decode cX1_init 4 = .ok (.aload_n 0, 1) := dk_42 (dk_at dksX1_init_0 4 rfl rfl)
theorem dX1_init_5 : decode cX1_init 5 = .ok (.sipush 900, 3) := dk_17 3 132 (dk_at dksX1_init_0 5 rfl rfl)
theorem dX1_init_8 : decode cX1_init 8 = .ok (.newarray .byte, 2) := dk_188_8 (dk_at dksX1_init_0 8 rfl rfl)
theorem dX1_init_10 : decode cX1_init 10 = .ok (.putfield 13, 3) := dk_181 0 13 (dk_at dksX1_init_0 10 rfl rfl)
theorem dX1_init_13 : decode cX1_init 13 = .ok (.aload_n 0, 1) := dk_42 (dk_at dksX1_init_0 13 rfl rfl)
theorem dX1_init_14 : decode cX1_init 14 = .ok (.new 17, 3) := dk_187 0 17 (dk_at dksX1_init_0 14 rfl rfl)
theorem dX1_init_17 : decode cX1_init 17 = .ok (.dup, 1) := dk_89 (dk_at dksX1_init_0 17 rfl rfl)
theorem dX1_init_18 : decode cX1_init 18 = .ok (.invokespecial 19, 3) := dk_183 0 19 (dk_at dksX1_init_0 18 rfl rfl)
theorem dX1_init_21 : decode cX1_init 21 = .ok (.putfield 20, 3) := dk_181 0 20 (dk_at dksX1_init_0 21 rfl rfl)
theorem dX1_init_24 : decode cX1_init 24 = .ok (.aload_n 0, 1) := dk_42 (dk_at dksX1_init_1 0 rfl rfl)
theorem dX1_init_25 : decode cX1_init 25 = .ok (.new 24, 3) := dk_187 0 24 (dk_at dksX1_init_1 1 rfl rfl)
theorem dX1_init_28 : decode cX1_init 28 = .ok (.dup, 1) := dk_89 (dk_at dksX1_init_1 4 rfl rfl)
theorem dX1_init_29 : decode cX1_init 29 = .ok (.new 26, 3) := dk_187 0 26 (dk_at dksX1_init_1 5 rfl rfl)
theorem dX1_init_32 : decode cX1_init 32 = .ok (.dup, 1) := dk_89 (dk_at dksX1_init_1 8 rfl rfl)
theorem dX1_init_33 : decode cX1_init 33 = .ok (.invokespecial 28, 3) := dk_183 0 28 (dk_at dksX1_init_1 9 rfl rfl)
theorem dX1_init_36 : decode cX1_init 36 = .ok (.invokespecial 29, 3) := dk_183 0 29 (dk_at dksX1_init_1 12 rfl rfl)
theorem dX1_init_39 : decode cX1_init 39 = .ok (.putfield 32, 3) := dk_181 0 32 (dk_at dksX1_init_1 15 rfl rfl)
theorem dX1_init_42 : decode cX1_init 42 = .ok (.aload_n 0, 1) := dk_42 (dk_at dksX1_init_1 18 rfl rfl)
theorem dX1_init_43 : decode cX1_init 43 = .ok (.iconst (-1), 1) := dk_2 (dk_at dksX1_init_1 19 rfl rfl)
theorem dX1_init_44 : decode cX1_init 44 = .ok (.putfield 36, 3) := dk_181 0 36 (dk_at dksX1_init_1 20 rfl rfl)
theorem dX1_init_47 : decode cX1_init 47 = .ok (.return_, 1) := dk_177 (dk_at dksX1_init_1 23 rfl rfl)
abbrev cX1_append : ByteArray := prog_1_method_15_code
def yX1_append : MethodName := ⟨RX1, "append", "(IIIII)I"⟩
def dkwX1_append_2 : List UInt8 := [172]
abbrev dktX1_append_2 : List UInt8 := dkwX1_append_2 ++ []
def dkwX1_append_1 : List UInt8 := [182, 0, 112, 42, 29, 182, 0, 112, 42, 21, 4, 182, 0, 112, 42, 21, 5, 182, 0, 112, 42, 180, 0, 109]
abbrev dktX1_append_1 : List UInt8 := dkwX1_append_1 ++ dktX1_append_2
def dkwX1_append_0 : List UInt8 := [42, 180, 0, 109, 16, 20, 96, 17, 3, 132, 164, 0, 5, 2, 172, 42, 27, 182, 0, 112, 42, 28]
abbrev dktX1_append_0 : List UInt8 := dkwX1_append_0 ++ dktX1_append_1
theorem dksX1_append_0 : cX1_append.data.toList.drop 0 = dktX1_append_0 := by decide +kernel
theorem dksX1_append_1 : cX1_append.data.toList.drop 22 = dktX1_append_1 := dk_seg dksX1_append_0 22 rfl rfl
theorem dksX1_append_2 : cX1_append.data.toList.drop 46 = dktX1_append_2 := dk_seg dksX1_append_1 24 rfl rfl
theorem dX1_append_0 : decode cX1_append 0 = .ok (.aload_n 0, 1) := dk_42 (dk_at dksX1_append_0 0 rfl rfl)
theorem dX1_append_1 : decode cX1_append 1 = .ok (.getfield 109, 3) := dk_180 0 109 (dk_at dksX1_append_0 1 rfl rfl)
theorem dX1_append_4 : decode cX1_append 4 = .ok (.bipush 20, 2) := dk_16 20 (dk_at dksX1_append_0 4 rfl rfl)
theorem dX1_append_6 : decode cX1_append 6 = .ok (.iadd, 1) := dk_96 (dk_at dksX1_append_0 6 rfl rfl)
theorem dX1_append_7 : decode cX1_append 7 = .ok (.sipush 900, 3) := dk_17 3 132 (dk_at dksX1_append_0 7 rfl rfl)
theorem dX1_append_10 : decode cX1_append 10 = .ok (.if_icmp .le 5, 3) := dk_164 0 5 (dk_at dksX1_append_0 10 rfl rfl)
theorem dX1_append_13 : decode cX1_append 13 = .ok (.iconst (-1), 1) := dk_2 (dk_at dksX1_append_0 13 rfl rfl)
theorem dX1_append_14 : decode cX1_append 14 = .ok (.ireturn, 1) := dk_172 (dk_at dksX1_append_0 14 rfl rfl)
theorem dX1_append_15 : decode cX1_append 15 = .ok (.aload_n 0, 1) := dk_42 (dk_at dksX1_append_0 15 rfl rfl)
theorem dX1_append_16 : decode cX1_append 16 = .ok (.iload_n 1, 1) := dk_27 (dk_at dksX1_append_0 16 rfl rfl)
theorem dX1_append_17 : decode cX1_append 17 = .ok (.invokevirtual 112, 3) := dk_182 0 112 (dk_at dksX1_append_0 17 rfl rfl)
theorem dX1_append_20 : decode cX1_append 20 = .ok (.aload_n 0, 1) := dk_42 (dk_at dksX1_append_0 20 rfl rfl)
theorem dX1_append_21 : decode cX1_append 21 = .ok (.iload_n 2, 1) := dk_28 (dk_at dksX1_append_0 21 rfl rfl)
theorem dX1_append_22 : decode cX1_append 22 = .ok (.invokevirtual 112, 3) := dk_182 0 112 (dk_at dksX1_append_1 0 rfl rfl)
theorem dX1_append_25 : decode cX1_append 25 = .ok (.aload_n 0, 1) := dk_42 (dk_at dksX1_append_1 3 rfl rfl)
theorem dX1_append_26 : decode cX1_append 26 = .ok (.iload_n 3, 1) := dk_29 (dk_at dksX1_append_1 4 rfl rfl)
theorem dX1_append_27 : decode cX1_append 27 = .ok (.invokevirtual 112, 3) := dk_182 0 112 (dk_at dksX1_append_1 5 rfl rfl)
theorem dX1_append_30 : decode cX1_append 30 = .ok (.aload_n 0, 1) := dk_42 (dk_at dksX1_append_1 8 rfl rfl)
theorem dX1_append_31 : decode cX1_append 31 = .ok (.iload 4, 2) := dk_21 4 (dk_at dksX1_append_1 9 rfl rfl)
theorem dX1_append_33 : decode cX1_append 33 = .ok (.invokevirtual 112, 3) := dk_182 0 112 (dk_at dksX1_append_1 11 rfl rfl)
theorem dX1_append_36 : decode cX1_append 36 = .ok (.aload_n 0, 1) := dk_42 (dk_at dksX1_append_1 14 rfl rfl)
theorem dX1_append_37 : decode cX1_append 37 = .ok (.iload 5, 2) := dk_21 5 (dk_at dksX1_append_1 15 rfl rfl)
theorem dX1_append_39 : decode cX1_append 39 = .ok (.invokevirtual 112, 3) := dk_182 0 112 (dk_at dksX1_append_1 17 rfl rfl)
theorem dX1_append_42 : decode cX1_append 42 = .ok (.aload_n 0, 1) := dk_42 (dk_at dksX1_append_1 20 rfl rfl)
theorem dX1_append_43 : decode cX1_append 43 = .ok (.getfield 109, 3) := dk_180 0 109 (dk_at dksX1_append_1 21 rfl rfl)
theorem dX1_append_46 : decode cX1_append 46 = .ok (.ireturn, 1) := dk_172 (dk_at dksX1_append_2 0 rfl rfl)
abbrev cX1_put : ByteArray := prog_1_method_14_code
def yX1_put : MethodName := ⟨RX1, "put", "(I)V"⟩
def dkwX1_put_1 : List UInt8 := [180, 0, 109, 4, 96, 181, 0, 109, 132, 2, 248, 167, 255, 226, 177]
abbrev dktX1_put_1 : List UInt8 := dkwX1_put_1 ++ []
def dkwX1_put_0 : List UInt8 := [16, 24, 61, 28, 155, 0, 32, 42, 180, 0, 13, 42, 180, 0, 109, 27, 28, 122, 145, 84, 42, 89]
abbrev dktX1_put_0 : List UInt8 := dkwX1_put_0 ++ dktX1_put_1
theorem dksX1_put_0 : cX1_put.data.toList.drop 0 = dktX1_put_0 := by decide +kernel
theorem dksX1_put_1 : cX1_put.data.toList.drop 22 = dktX1_put_1 := dk_seg dksX1_put_0 22 rfl rfl
theorem dX1_put_0 : decode cX1_put 0 = .ok (.bipush 24, 2) := dk_16 24 (dk_at dksX1_put_0 0 rfl rfl)
theorem dX1_put_2 : decode cX1_put 2 = .ok (.istore_n 2, 1) := dk_61 (dk_at dksX1_put_0 2 rfl rfl)
theorem dX1_put_3 : decode cX1_put 3 = .ok (.iload_n 2, 1) := dk_28 (dk_at dksX1_put_0 3 rfl rfl)
theorem dX1_put_4 : decode cX1_put 4 = .ok (.ifCond .lt 32, 3) := dk_155 0 32 (dk_at dksX1_put_0 4 rfl rfl)
theorem dX1_put_7 : decode cX1_put 7 = .ok (.aload_n 0, 1) := dk_42 (dk_at dksX1_put_0 7 rfl rfl)
theorem dX1_put_8 : decode cX1_put 8 = .ok (.getfield 13, 3) := dk_180 0 13 (dk_at dksX1_put_0 8 rfl rfl)
theorem dX1_put_11 : decode cX1_put 11 = .ok (.aload_n 0, 1) := dk_42 (dk_at dksX1_put_0 11 rfl rfl)
theorem dX1_put_12 : decode cX1_put 12 = .ok (.getfield 109, 3) := dk_180 0 109 (dk_at dksX1_put_0 12 rfl rfl)
theorem dX1_put_15 : decode cX1_put 15 = .ok (.iload_n 1, 1) := dk_27 (dk_at dksX1_put_0 15 rfl rfl)
theorem dX1_put_16 : decode cX1_put 16 = .ok (.iload_n 2, 1) := dk_28 (dk_at dksX1_put_0 16 rfl rfl)
theorem dX1_put_17 : decode cX1_put 17 = .ok (.ishr, 1) := dk_122 (dk_at dksX1_put_0 17 rfl rfl)
theorem dX1_put_18 : decode cX1_put 18 = .ok (.i2b, 1) := dk_145 (dk_at dksX1_put_0 18 rfl rfl)
theorem dX1_put_19 : decode cX1_put 19 = .ok (.bastore, 1) := dk_84 (dk_at dksX1_put_0 19 rfl rfl)
theorem dX1_put_20 : decode cX1_put 20 = .ok (.aload_n 0, 1) := dk_42 (dk_at dksX1_put_0 20 rfl rfl)
theorem dX1_put_21 : decode cX1_put 21 = .ok (.dup, 1) := dk_89 (dk_at dksX1_put_0 21 rfl rfl)
theorem dX1_put_22 : decode cX1_put 22 = .ok (.getfield 109, 3) := dk_180 0 109 (dk_at dksX1_put_1 0 rfl rfl)
theorem dX1_put_25 : decode cX1_put 25 = .ok (.iconst 1, 1) := dk_4 (dk_at dksX1_put_1 3 rfl rfl)
theorem dX1_put_26 : decode cX1_put 26 = .ok (.iadd, 1) := dk_96 (dk_at dksX1_put_1 4 rfl rfl)
theorem dX1_put_27 : decode cX1_put 27 = .ok (.putfield 109, 3) := dk_181 0 109 (dk_at dksX1_put_1 5 rfl rfl)
theorem dX1_put_30 : decode cX1_put 30 = .ok (.iinc 2 (-8), 3) := dk_132 2 248 (dk_at dksX1_put_1 8 rfl rfl)
theorem dX1_put_33 : decode cX1_put 33 = .ok (.goto (-30), 3) := dk_167 255 226 (dk_at dksX1_put_1 11 rfl rfl)
theorem dX1_put_36 : decode cX1_put 36 = .ok (.return_, 1) := dk_177 (dk_at dksX1_put_1 14 rfl rfl)
abbrev cX1_errorOffset : ByteArray := prog_1_method_17_code
def yX1_errorOffset : MethodName := ⟨RX1, "errorOffset", "()I"⟩
theorem dX1_errorOffset_0 : decode cX1_errorOffset 0 = .ok (.aload_n 0, 1) := by decide +kernel
theorem dX1_errorOffset_1 : decode cX1_errorOffset 1 = .ok (.getfield 36, 3) := by decide +kernel
theorem dX1_errorOffset_4 : decode cX1_errorOffset 4 = .ok (.ireturn, 1) := by decide +kernel
abbrev cX1_creditCount : ByteArray := prog_1_method_18_code
def yX1_creditCount : MethodName := ⟨RX1, "creditCount", "()I"⟩
def dkwX1_creditCount_0 : List UInt8 := [42, 180, 0, 32, 180, 0, 59, 182, 0, 63, 172]
abbrev dktX1_creditCount_0 : List UInt8 := dkwX1_creditCount_0 ++ []
theorem dksX1_creditCount_0 : cX1_creditCount.data.toList.drop 0 = dktX1_creditCount_0 := by decide +kernel
theorem dX1_creditCount_0 : decode cX1_creditCount 0 = .ok (.aload_n 0, 1) := dk_42 (dk_at dksX1_creditCount_0 0 rfl rfl)
theorem dX1_creditCount_1 : decode cX1_creditCount 1 = .ok (.getfield 32, 3) := dk_180 0 32 (dk_at dksX1_creditCount_0 1 rfl rfl)
theorem dX1_creditCount_4 : decode cX1_creditCount 4 = .ok (.getfield 59, 3) := dk_180 0 59 (dk_at dksX1_creditCount_0 4 rfl rfl)
theorem dX1_creditCount_7 : decode cX1_creditCount 7 = .ok (.invokevirtual 63, 3) := dk_182 0 63 (dk_at dksX1_creditCount_0 7 rfl rfl)
theorem dX1_creditCount_10 : decode cX1_creditCount 10 = .ok (.ireturn, 1) := dk_172 (dk_at dksX1_creditCount_0 10 rfl rfl)
abbrev cX1_presentationCount : ByteArray := prog_1_method_19_code
def yX1_presentationCount : MethodName := ⟨RX1, "presentationCount", "()I"⟩
def dkwX1_presentationCount_0 : List UInt8 := [42, 180, 0, 32, 180, 0, 87, 182, 0, 63, 172]
abbrev dktX1_presentationCount_0 : List UInt8 := dkwX1_presentationCount_0 ++ []
theorem dksX1_presentationCount_0 : cX1_presentationCount.data.toList.drop 0 = dktX1_presentationCount_0 := by decide +kernel
theorem dX1_presentationCount_0 : decode cX1_presentationCount 0 = .ok (.aload_n 0, 1) := dk_42 (dk_at dksX1_presentationCount_0 0 rfl rfl)
theorem dX1_presentationCount_1 : decode cX1_presentationCount 1 = .ok (.getfield 32, 3) := dk_180 0 32 (dk_at dksX1_presentationCount_0 1 rfl rfl)
theorem dX1_presentationCount_4 : decode cX1_presentationCount 4 = .ok (.getfield 87, 3) := dk_180 0 87 (dk_at dksX1_presentationCount_0 4 rfl rfl)
theorem dX1_presentationCount_7 : decode cX1_presentationCount 7 = .ok (.invokevirtual 63, 3) := dk_182 0 63 (dk_at dksX1_presentationCount_0 7 rfl rfl)
theorem dX1_presentationCount_10 : decode cX1_presentationCount 10 = .ok (.ireturn, 1) := dk_172 (dk_at dksX1_presentationCount_0 10 rfl rfl)
abbrev cX1_today : ByteArray := prog_1_method_20_code
def yX1_today : MethodName := ⟨RX1, "today", "()I"⟩
def dkwX1_today_0 : List UInt8 := [42, 180, 0, 32, 180, 0, 135, 172]
abbrev dktX1_today_0 : List UInt8 := dkwX1_today_0 ++ []
theorem dksX1_today_0 : cX1_today.data.toList.drop 0 = dktX1_today_0 := by decide +kernel
theorem dX1_today_0 : decode cX1_today 0 = .ok (.aload_n 0, 1) := dk_42 (dk_at dksX1_today_0 0 rfl rfl)
theorem dX1_today_1 : decode cX1_today 1 = .ok (.getfield 32, 3) := dk_180 0 32 (dk_at dksX1_today_0 1 rfl rfl)
theorem dX1_today_4 : decode cX1_today 4 = .ok (.getfield 135, 3) := dk_180 0 135 (dk_at dksX1_today_0 4 rfl rfl)
theorem dX1_today_7 : decode cX1_today 7 = .ok (.ireturn, 1) := dk_172 (dk_at dksX1_today_0 7 rfl rfl)
abbrev cX1_dueBetween : ByteArray := prog_1_method_37_code
def yX1_dueBetween : MethodName := ⟨RX1, "dueBetween", "(II)J"⟩
def dkwX1_dueBetween_3 : List UInt8 := [167, 0, 4, 9, 97, 66, 132, 5, 1, 167, 255, 183, 33, 173]
abbrev dktX1_dueBetween_3 : List UInt8 := dkwX1_dueBetween_3 ++ []
def dkwX1_dueBetween_2 : List UInt8 := [25, 6, 180, 0, 201, 133, 27, 133, 28, 133, 184, 0, 40, 153, 0, 12, 25, 6, 180, 0, 207, 133]
abbrev dktX1_dueBetween_2 : List UInt8 := dkwX1_dueBetween_2 ++ dktX1_dueBetween_3
def dkwX1_dueBetween_1 : List UInt8 := [180, 0, 87, 21, 5, 182, 0, 81, 192, 0, 90, 58, 6, 33, 25, 6, 180, 0, 191, 5, 160, 0, 28]
abbrev dktX1_dueBetween_1 : List UInt8 := dkwX1_dueBetween_1 ++ dktX1_dueBetween_2
def dkwX1_dueBetween_0 : List UInt8 := [9, 66, 3, 54, 5, 21, 5, 42, 180, 0, 32, 180, 0, 87, 182, 0, 63, 162, 0, 64, 42, 180, 0, 32]
abbrev dktX1_dueBetween_0 : List UInt8 := dkwX1_dueBetween_0 ++ dktX1_dueBetween_1
theorem dksX1_dueBetween_0 : cX1_dueBetween.data.toList.drop 0 = dktX1_dueBetween_0 := by decide +kernel
theorem dksX1_dueBetween_1 : cX1_dueBetween.data.toList.drop 24 = dktX1_dueBetween_1 := dk_seg dksX1_dueBetween_0 24 rfl rfl
theorem dksX1_dueBetween_2 : cX1_dueBetween.data.toList.drop 47 = dktX1_dueBetween_2 := dk_seg dksX1_dueBetween_1 23 rfl rfl
theorem dksX1_dueBetween_3 : cX1_dueBetween.data.toList.drop 69 = dktX1_dueBetween_3 := dk_seg dksX1_dueBetween_2 22 rfl rfl
theorem dX1_dueBetween_0 : decode cX1_dueBetween 0 = .ok (.lconst 0, 1) := dk_9 (dk_at dksX1_dueBetween_0 0 rfl rfl)
theorem dX1_dueBetween_1 : decode cX1_dueBetween 1 = .ok (.lstore_n 3, 1) := dk_66 (dk_at dksX1_dueBetween_0 1 rfl rfl)
theorem dX1_dueBetween_2 : decode cX1_dueBetween 2 = .ok (.iconst 0, 1) := dk_3 (dk_at dksX1_dueBetween_0 2 rfl rfl)
theorem dX1_dueBetween_3 : decode cX1_dueBetween 3 = .ok (.istore 5, 2) := dk_54 5 (dk_at dksX1_dueBetween_0 3 rfl rfl)
theorem dX1_dueBetween_5 : decode cX1_dueBetween 5 = .ok (.iload 5, 2) := dk_21 5 (dk_at dksX1_dueBetween_0 5 rfl rfl)
theorem dX1_dueBetween_7 : decode cX1_dueBetween 7 = .ok (.aload_n 0, 1) := dk_42 (dk_at dksX1_dueBetween_0 7 rfl rfl)
theorem dX1_dueBetween_8 : decode cX1_dueBetween 8 = .ok (.getfield 32, 3) := dk_180 0 32 (dk_at dksX1_dueBetween_0 8 rfl rfl)
theorem dX1_dueBetween_11 : decode cX1_dueBetween 11 = .ok (.getfield 87, 3) := dk_180 0 87 (dk_at dksX1_dueBetween_0 11 rfl rfl)
theorem dX1_dueBetween_14 : decode cX1_dueBetween 14 = .ok (.invokevirtual 63, 3) := dk_182 0 63 (dk_at dksX1_dueBetween_0 14 rfl rfl)
theorem dX1_dueBetween_17 : decode cX1_dueBetween 17 = .ok (.if_icmp .ge 64, 3) := dk_162 0 64 (dk_at dksX1_dueBetween_0 17 rfl rfl)
theorem dX1_dueBetween_20 : decode cX1_dueBetween 20 = .ok (.aload_n 0, 1) := dk_42 (dk_at dksX1_dueBetween_0 20 rfl rfl)
theorem dX1_dueBetween_21 : decode cX1_dueBetween 21 = .ok (.getfield 32, 3) := dk_180 0 32 (dk_at dksX1_dueBetween_0 21 rfl rfl)
theorem dX1_dueBetween_24 : decode cX1_dueBetween 24 = .ok (.getfield 87, 3) := dk_180 0 87 (dk_at dksX1_dueBetween_1 0 rfl rfl)
theorem dX1_dueBetween_27 : decode cX1_dueBetween 27 = .ok (.iload 5, 2) := dk_21 5 (dk_at dksX1_dueBetween_1 3 rfl rfl)
theorem dX1_dueBetween_29 : decode cX1_dueBetween 29 = .ok (.invokevirtual 81, 3) := dk_182 0 81 (dk_at dksX1_dueBetween_1 5 rfl rfl)
theorem dX1_dueBetween_32 : decode cX1_dueBetween 32 = .ok (.checkcast 90, 3) := dk_192 0 90 (dk_at dksX1_dueBetween_1 8 rfl rfl)
theorem dX1_dueBetween_35 : decode cX1_dueBetween 35 = .ok (.astore 6, 2) := dk_58 6 (dk_at dksX1_dueBetween_1 11 rfl rfl)
theorem dX1_dueBetween_37 : decode cX1_dueBetween 37 = .ok (.lload_n 3, 1) := dk_33 (dk_at dksX1_dueBetween_1 13 rfl rfl)
theorem dX1_dueBetween_38 : decode cX1_dueBetween 38 = .ok (.aload 6, 2) := dk_25 6 (dk_at dksX1_dueBetween_1 14 rfl rfl)
theorem dX1_dueBetween_40 : decode cX1_dueBetween 40 = .ok (.getfield 191, 3) := dk_180 0 191 (dk_at dksX1_dueBetween_1 16 rfl rfl)
theorem dX1_dueBetween_43 : decode cX1_dueBetween 43 = .ok (.iconst 2, 1) := dk_5 (dk_at dksX1_dueBetween_1 19 rfl rfl)
theorem dX1_dueBetween_44 : decode cX1_dueBetween 44 = .ok (.if_icmp .ne 28, 3) := dk_160 0 28 (dk_at dksX1_dueBetween_1 20 rfl rfl)
theorem dX1_dueBetween_47 : decode cX1_dueBetween 47 = .ok (.aload 6, 2) := dk_25 6 (dk_at dksX1_dueBetween_2 0 rfl rfl)
theorem dX1_dueBetween_49 : decode cX1_dueBetween 49 = .ok (.getfield 201, 3) := dk_180 0 201 (dk_at dksX1_dueBetween_2 2 rfl rfl)
theorem dX1_dueBetween_52 : decode cX1_dueBetween 52 = .ok (.i2l, 1) := dk_133 (dk_at dksX1_dueBetween_2 5 rfl rfl)
theorem dX1_dueBetween_53 : decode cX1_dueBetween 53 = .ok (.iload_n 1, 1) := dk_27 (dk_at dksX1_dueBetween_2 6 rfl rfl)
theorem dX1_dueBetween_54 : decode cX1_dueBetween 54 = .ok (.i2l, 1) := dk_133 (dk_at dksX1_dueBetween_2 7 rfl rfl)
theorem dX1_dueBetween_55 : decode cX1_dueBetween 55 = .ok (.iload_n 2, 1) := dk_28 (dk_at dksX1_dueBetween_2 8 rfl rfl)
theorem dX1_dueBetween_56 : decode cX1_dueBetween 56 = .ok (.i2l, 1) := dk_133 (dk_at dksX1_dueBetween_2 9 rfl rfl)
theorem dX1_dueBetween_57 : decode cX1_dueBetween 57 = .ok (.invokestatic 40, 3) := dk_184 0 40 (dk_at dksX1_dueBetween_2 10 rfl rfl)
theorem dX1_dueBetween_60 : decode cX1_dueBetween 60 = .ok (.ifCond .eq 12, 3) := dk_153 0 12 (dk_at dksX1_dueBetween_2 13 rfl rfl)
theorem dX1_dueBetween_63 : decode cX1_dueBetween 63 = .ok (.aload 6, 2) := dk_25 6 (dk_at dksX1_dueBetween_2 16 rfl rfl)
theorem dX1_dueBetween_65 : decode cX1_dueBetween 65 = .ok (.getfield 207, 3) := dk_180 0 207 (dk_at dksX1_dueBetween_2 18 rfl rfl)
theorem dX1_dueBetween_68 : decode cX1_dueBetween 68 = .ok (.i2l, 1) := dk_133 (dk_at dksX1_dueBetween_2 21 rfl rfl)
theorem dX1_dueBetween_69 : decode cX1_dueBetween 69 = .ok (.goto 4, 3) := dk_167 0 4 (dk_at dksX1_dueBetween_3 0 rfl rfl)
theorem dX1_dueBetween_72 : decode cX1_dueBetween 72 = .ok (.lconst 0, 1) := dk_9 (dk_at dksX1_dueBetween_3 3 rfl rfl)
theorem dX1_dueBetween_73 : decode cX1_dueBetween 73 = .ok (.ladd, 1) := dk_97 (dk_at dksX1_dueBetween_3 4 rfl rfl)
theorem dX1_dueBetween_74 : decode cX1_dueBetween 74 = .ok (.lstore_n 3, 1) := dk_66 (dk_at dksX1_dueBetween_3 5 rfl rfl)
theorem dX1_dueBetween_75 : decode cX1_dueBetween 75 = .ok (.iinc 5 1, 3) := dk_132 5 1 (dk_at dksX1_dueBetween_3 6 rfl rfl)
theorem dX1_dueBetween_78 : decode cX1_dueBetween 78 = .ok (.goto (-73), 3) := dk_167 255 183 (dk_at dksX1_dueBetween_3 9 rfl rfl)
theorem dX1_dueBetween_81 : decode cX1_dueBetween 81 = .ok (.lload_n 3, 1) := dk_33 (dk_at dksX1_dueBetween_3 12 rfl rfl)
theorem dX1_dueBetween_82 : decode cX1_dueBetween 82 = .ok (.lreturn, 1) := dk_173 (dk_at dksX1_dueBetween_3 13 rfl rfl)
abbrev cX1_isBetween : ByteArray := prog_1_method_1_code
def yX1_isBetween : MethodName := ⟨RX1, "isBetween", "(JJJ)Z"⟩
def dkwX1_isBetween_0 : List UInt8 := [30, 32, 148, 155, 0, 14, 30, 22, 4, 148, 157, 0, 7, 4, 167, 0, 4, 3, 172]
abbrev dktX1_isBetween_0 : List UInt8 := dkwX1_isBetween_0 ++ []
theorem dksX1_isBetween_0 : cX1_isBetween.data.toList.drop 0 = dktX1_isBetween_0 := by decide +kernel
theorem dX1_isBetween_0 : decode cX1_isBetween 0 = .ok (.lload_n 0, 1) := dk_30 (dk_at dksX1_isBetween_0 0 rfl rfl)
theorem dX1_isBetween_1 : decode cX1_isBetween 1 = .ok (.lload_n 2, 1) := dk_32 (dk_at dksX1_isBetween_0 1 rfl rfl)
theorem dX1_isBetween_2 : decode cX1_isBetween 2 = .ok (.lcmp, 1) := dk_148 (dk_at dksX1_isBetween_0 2 rfl rfl)
theorem dX1_isBetween_3 : decode cX1_isBetween 3 = .ok (.ifCond .lt 14, 3) := dk_155 0 14 (dk_at dksX1_isBetween_0 3 rfl rfl)
theorem dX1_isBetween_6 : decode cX1_isBetween 6 = .ok (.lload_n 0, 1) := dk_30 (dk_at dksX1_isBetween_0 6 rfl rfl)
theorem dX1_isBetween_7 : decode cX1_isBetween 7 = .ok (.lload 4, 2) := dk_22 4 (dk_at dksX1_isBetween_0 7 rfl rfl)
theorem dX1_isBetween_9 : decode cX1_isBetween 9 = .ok (.lcmp, 1) := dk_148 (dk_at dksX1_isBetween_0 9 rfl rfl)
theorem dX1_isBetween_10 : decode cX1_isBetween 10 = .ok (.ifCond .gt 7, 3) := dk_157 0 7 (dk_at dksX1_isBetween_0 10 rfl rfl)
theorem dX1_isBetween_13 : decode cX1_isBetween 13 = .ok (.iconst 1, 1) := dk_4 (dk_at dksX1_isBetween_0 13 rfl rfl)
theorem dX1_isBetween_14 : decode cX1_isBetween 14 = .ok (.goto 4, 3) := dk_167 0 4 (dk_at dksX1_isBetween_0 14 rfl rfl)
theorem dX1_isBetween_17 : decode cX1_isBetween 17 = .ok (.iconst 0, 1) := dk_3 (dk_at dksX1_isBetween_0 17 rfl rfl)
theorem dX1_isBetween_18 : decode cX1_isBetween 18 = .ok (.ireturn, 1) := dk_172 (dk_at dksX1_isBetween_0 18 rfl rfl)
abbrev cX1_undo : ByteArray := prog_1_method_47_code
def yX1_undo : MethodName := ⟨RX1, "undo", "()I"⟩
def dkwX1_undo_1 : List UInt8 := [181, 0, 32, 42, 180, 0, 20, 182, 0, 92, 172]
abbrev dktX1_undo_1 : List UInt8 := dkwX1_undo_1 ++ []
def dkwX1_undo_0 : List UInt8 := [42, 180, 0, 20, 182, 1, 16, 153, 0, 5, 2, 172, 42, 42, 180, 0, 20, 182, 1, 19, 192, 0, 24]
abbrev dktX1_undo_0 : List UInt8 := dkwX1_undo_0 ++ dktX1_undo_1
theorem dksX1_undo_0 : cX1_undo.data.toList.drop 0 = dktX1_undo_0 := by decide +kernel
theorem dksX1_undo_1 : cX1_undo.data.toList.drop 23 = dktX1_undo_1 := dk_seg dksX1_undo_0 23 rfl rfl
theorem dX1_undo_0 : decode cX1_undo 0 = .ok (.aload_n 0, 1) := dk_42 (dk_at dksX1_undo_0 0 rfl rfl)
theorem dX1_undo_1 : decode cX1_undo 1 = .ok (.getfield 20, 3) := dk_180 0 20 (dk_at dksX1_undo_0 1 rfl rfl)
theorem dX1_undo_4 : decode cX1_undo 4 = .ok (.invokevirtual 272, 3) := dk_182 1 16 (dk_at dksX1_undo_0 4 rfl rfl)
theorem dX1_undo_7 : decode cX1_undo 7 = .ok (.ifCond .eq 5, 3) := dk_153 0 5 (dk_at dksX1_undo_0 7 rfl rfl)
theorem dX1_undo_10 : decode cX1_undo 10 = .ok (.iconst (-1), 1) := dk_2 (dk_at dksX1_undo_0 10 rfl rfl)
theorem dX1_undo_11 : decode cX1_undo 11 = .ok (.ireturn, 1) := dk_172 (dk_at dksX1_undo_0 11 rfl rfl)
theorem dX1_undo_12 : decode cX1_undo 12 = .ok (.aload_n 0, 1) := dk_42 (dk_at dksX1_undo_0 12 rfl rfl)
theorem dX1_undo_13 : decode cX1_undo 13 = .ok (.aload_n 0, 1) := dk_42 (dk_at dksX1_undo_0 13 rfl rfl)
theorem dX1_undo_14 : decode cX1_undo 14 = .ok (.getfield 20, 3) := dk_180 0 20 (dk_at dksX1_undo_0 14 rfl rfl)
theorem dX1_undo_17 : decode cX1_undo 17 = .ok (.invokevirtual 275, 3) := dk_182 1 19 (dk_at dksX1_undo_0 17 rfl rfl)
theorem dX1_undo_20 : decode cX1_undo 20 = .ok (.checkcast 24, 3) := dk_192 0 24 (dk_at dksX1_undo_0 20 rfl rfl)
theorem dX1_undo_23 : decode cX1_undo 23 = .ok (.putfield 32, 3) := dk_181 0 32 (dk_at dksX1_undo_1 0 rfl rfl)
theorem dX1_undo_26 : decode cX1_undo 26 = .ok (.aload_n 0, 1) := dk_42 (dk_at dksX1_undo_1 3 rfl rfl)
theorem dX1_undo_27 : decode cX1_undo 27 = .ok (.getfield 20, 3) := dk_180 0 20 (dk_at dksX1_undo_1 4 rfl rfl)
theorem dX1_undo_30 : decode cX1_undo 30 = .ok (.invokevirtual 92, 3) := dk_182 0 92 (dk_at dksX1_undo_1 7 rfl rfl)
theorem dX1_undo_33 : decode cX1_undo 33 = .ok (.ireturn, 1) := dk_172 (dk_at dksX1_undo_1 10 rfl rfl)
abbrev cX1_checksum : ByteArray := prog_1_method_49_code
def yX1_checksum : MethodName := ⟨RX1, "checksum", "()J"⟩
def dkwX1_checksum_6 : List UInt8 := [184, 1, 24, 25, 4, 180, 0, 201, 133, 184, 1, 24, 64, 132, 3, 1, 167, 255, 185, 31, 173]
abbrev dktX1_checksum_6 : List UInt8 := dkwX1_checksum_6 ++ []
def dkwX1_checksum_5 : List UInt8 := [180, 0, 188, 133, 184, 1, 24, 25, 4, 180, 0, 191, 133, 184, 1, 24, 25, 4, 180, 0, 194, 133]
abbrev dktX1_checksum_5 : List UInt8 := dkwX1_checksum_5 ++ dktX1_checksum_6
def dkwX1_checksum_4 : List UInt8 := [162, 0, 63, 42, 180, 0, 32, 180, 0, 87, 29, 182, 0, 81, 192, 0, 90, 58, 4, 31, 25, 4]
abbrev dktX1_checksum_4 : List UInt8 := dkwX1_checksum_4 ++ dktX1_checksum_5
def dkwX1_checksum_3 : List UInt8 := [184, 1, 24, 64, 132, 3, 1, 167, 255, 192, 3, 62, 29, 42, 180, 0, 32, 180, 0, 87, 182, 0, 63]
abbrev dktX1_checksum_3 : List UInt8 := dkwX1_checksum_3 ++ dktX1_checksum_4
def dkwX1_checksum_2 : List UInt8 := [184, 1, 24, 42, 180, 0, 32, 29, 182, 0, 175, 133, 184, 1, 24, 42, 180, 0, 32, 29, 182, 0, 181, 133]
abbrev dktX1_checksum_2 : List UInt8 := dkwX1_checksum_2 ++ dktX1_checksum_3
def dkwX1_checksum_1 : List UInt8 := [162, 0, 56, 31, 42, 180, 0, 32, 180, 0, 59, 29, 182, 0, 81, 192, 0, 85, 180, 0, 163, 133]
abbrev dktX1_checksum_1 : List UInt8 := dkwX1_checksum_1 ++ dktX1_checksum_2
def dkwX1_checksum_0 : List UInt8 := [42, 180, 0, 32, 180, 0, 135, 133, 64, 3, 62, 29, 42, 180, 0, 32, 180, 0, 59, 182, 0, 63]
abbrev dktX1_checksum_0 : List UInt8 := dkwX1_checksum_0 ++ dktX1_checksum_1
theorem dksX1_checksum_0 : cX1_checksum.data.toList.drop 0 = dktX1_checksum_0 := by decide +kernel
theorem dksX1_checksum_1 : cX1_checksum.data.toList.drop 22 = dktX1_checksum_1 := dk_seg dksX1_checksum_0 22 rfl rfl
theorem dksX1_checksum_2 : cX1_checksum.data.toList.drop 44 = dktX1_checksum_2 := dk_seg dksX1_checksum_1 22 rfl rfl
theorem dksX1_checksum_3 : cX1_checksum.data.toList.drop 68 = dktX1_checksum_3 := dk_seg dksX1_checksum_2 24 rfl rfl
theorem dksX1_checksum_4 : cX1_checksum.data.toList.drop 91 = dktX1_checksum_4 := dk_seg dksX1_checksum_3 23 rfl rfl
theorem dksX1_checksum_5 : cX1_checksum.data.toList.drop 113 = dktX1_checksum_5 := dk_seg dksX1_checksum_4 22 rfl rfl
theorem dksX1_checksum_6 : cX1_checksum.data.toList.drop 135 = dktX1_checksum_6 := dk_seg dksX1_checksum_5 22 rfl rfl
theorem dX1_checksum_0 : decode cX1_checksum 0 = .ok (.aload_n 0, 1) := dk_42 (dk_at dksX1_checksum_0 0 rfl rfl)
theorem dX1_checksum_1 : decode cX1_checksum 1 = .ok (.getfield 32, 3) := dk_180 0 32 (dk_at dksX1_checksum_0 1 rfl rfl)
theorem dX1_checksum_4 : decode cX1_checksum 4 = .ok (.getfield 135, 3) := dk_180 0 135 (dk_at dksX1_checksum_0 4 rfl rfl)
theorem dX1_checksum_7 : decode cX1_checksum 7 = .ok (.i2l, 1) := dk_133 (dk_at dksX1_checksum_0 7 rfl rfl)
theorem dX1_checksum_8 : decode cX1_checksum 8 = .ok (.lstore_n 1, 1) := dk_64 (dk_at dksX1_checksum_0 8 rfl rfl)
theorem dX1_checksum_9 : decode cX1_checksum 9 = .ok (.iconst 0, 1) := dk_3 (dk_at dksX1_checksum_0 9 rfl rfl)
theorem dX1_checksum_10 : decode cX1_checksum 10 = .ok (.istore_n 3, 1) := dk_62 (dk_at dksX1_checksum_0 10 rfl rfl)
theorem dX1_checksum_11 : decode cX1_checksum 11 = .ok (.iload_n 3, 1) := dk_29 (dk_at dksX1_checksum_0 11 rfl rfl)
theorem dX1_checksum_12 : decode cX1_checksum 12 = .ok (.aload_n 0, 1) := dk_42 (dk_at dksX1_checksum_0 12 rfl rfl)
theorem dX1_checksum_13 : decode cX1_checksum 13 = .ok (.getfield 32, 3) := dk_180 0 32 (dk_at dksX1_checksum_0 13 rfl rfl)
theorem dX1_checksum_16 : decode cX1_checksum 16 = .ok (.getfield 59, 3) := dk_180 0 59 (dk_at dksX1_checksum_0 16 rfl rfl)
theorem dX1_checksum_19 : decode cX1_checksum 19 = .ok (.invokevirtual 63, 3) := dk_182 0 63 (dk_at dksX1_checksum_0 19 rfl rfl)
theorem dX1_checksum_22 : decode cX1_checksum 22 = .ok (.if_icmp .ge 56, 3) := dk_162 0 56 (dk_at dksX1_checksum_1 0 rfl rfl)
theorem dX1_checksum_25 : decode cX1_checksum 25 = .ok (.lload_n 1, 1) := dk_31 (dk_at dksX1_checksum_1 3 rfl rfl)
theorem dX1_checksum_26 : decode cX1_checksum 26 = .ok (.aload_n 0, 1) := dk_42 (dk_at dksX1_checksum_1 4 rfl rfl)
theorem dX1_checksum_27 : decode cX1_checksum 27 = .ok (.getfield 32, 3) := dk_180 0 32 (dk_at dksX1_checksum_1 5 rfl rfl)
theorem dX1_checksum_30 : decode cX1_checksum 30 = .ok (.getfield 59, 3) := dk_180 0 59 (dk_at dksX1_checksum_1 8 rfl rfl)
theorem dX1_checksum_33 : decode cX1_checksum 33 = .ok (.iload_n 3, 1) := dk_29 (dk_at dksX1_checksum_1 11 rfl rfl)
theorem dX1_checksum_34 : decode cX1_checksum 34 = .ok (.invokevirtual 81, 3) := dk_182 0 81 (dk_at dksX1_checksum_1 12 rfl rfl)
theorem dX1_checksum_37 : decode cX1_checksum 37 = .ok (.checkcast 85, 3) := dk_192 0 85 (dk_at dksX1_checksum_1 15 rfl rfl)
theorem dX1_checksum_40 : decode cX1_checksum 40 = .ok (.getfield 163, 3) := dk_180 0 163 (dk_at dksX1_checksum_1 18 rfl rfl)
theorem dX1_checksum_43 : decode cX1_checksum 43 = .ok (.i2l, 1) := dk_133 (dk_at dksX1_checksum_1 21 rfl rfl)
theorem dX1_checksum_44 : decode cX1_checksum 44 = .ok (.invokestatic 280, 3) := dk_184 1 24 (dk_at dksX1_checksum_2 0 rfl rfl)
theorem dX1_checksum_47 : decode cX1_checksum 47 = .ok (.aload_n 0, 1) := dk_42 (dk_at dksX1_checksum_2 3 rfl rfl)
theorem dX1_checksum_48 : decode cX1_checksum 48 = .ok (.getfield 32, 3) := dk_180 0 32 (dk_at dksX1_checksum_2 4 rfl rfl)
theorem dX1_checksum_51 : decode cX1_checksum 51 = .ok (.iload_n 3, 1) := dk_29 (dk_at dksX1_checksum_2 7 rfl rfl)
theorem dX1_checksum_52 : decode cX1_checksum 52 = .ok (.invokevirtual 175, 3) := dk_182 0 175 (dk_at dksX1_checksum_2 8 rfl rfl)
theorem dX1_checksum_55 : decode cX1_checksum 55 = .ok (.i2l, 1) := dk_133 (dk_at dksX1_checksum_2 11 rfl rfl)
theorem dX1_checksum_56 : decode cX1_checksum 56 = .ok (.invokestatic 280, 3) := dk_184 1 24 (dk_at dksX1_checksum_2 12 rfl rfl)
theorem dX1_checksum_59 : decode cX1_checksum 59 = .ok (.aload_n 0, 1) := dk_42 (dk_at dksX1_checksum_2 15 rfl rfl)
theorem dX1_checksum_60 : decode cX1_checksum 60 = .ok (.getfield 32, 3) := dk_180 0 32 (dk_at dksX1_checksum_2 16 rfl rfl)
theorem dX1_checksum_63 : decode cX1_checksum 63 = .ok (.iload_n 3, 1) := dk_29 (dk_at dksX1_checksum_2 19 rfl rfl)
theorem dX1_checksum_64 : decode cX1_checksum 64 = .ok (.invokevirtual 181, 3) := dk_182 0 181 (dk_at dksX1_checksum_2 20 rfl rfl)
theorem dX1_checksum_67 : decode cX1_checksum 67 = .ok (.i2l, 1) := dk_133 (dk_at dksX1_checksum_2 23 rfl rfl)
theorem dX1_checksum_68 : decode cX1_checksum 68 = .ok (.invokestatic 280, 3) := dk_184 1 24 (dk_at dksX1_checksum_3 0 rfl rfl)
theorem dX1_checksum_71 : decode cX1_checksum 71 = .ok (.lstore_n 1, 1) := dk_64 (dk_at dksX1_checksum_3 3 rfl rfl)
theorem dX1_checksum_72 : decode cX1_checksum 72 = .ok (.iinc 3 1, 3) := dk_132 3 1 (dk_at dksX1_checksum_3 4 rfl rfl)
theorem dX1_checksum_75 : decode cX1_checksum 75 = .ok (.goto (-64), 3) := dk_167 255 192 (dk_at dksX1_checksum_3 7 rfl rfl)
theorem dX1_checksum_78 : decode cX1_checksum 78 = .ok (.iconst 0, 1) := dk_3 (dk_at dksX1_checksum_3 10 rfl rfl)
theorem dX1_checksum_79 : decode cX1_checksum 79 = .ok (.istore_n 3, 1) := dk_62 (dk_at dksX1_checksum_3 11 rfl rfl)
theorem dX1_checksum_80 : decode cX1_checksum 80 = .ok (.iload_n 3, 1) := dk_29 (dk_at dksX1_checksum_3 12 rfl rfl)
theorem dX1_checksum_81 : decode cX1_checksum 81 = .ok (.aload_n 0, 1) := dk_42 (dk_at dksX1_checksum_3 13 rfl rfl)
theorem dX1_checksum_82 : decode cX1_checksum 82 = .ok (.getfield 32, 3) := dk_180 0 32 (dk_at dksX1_checksum_3 14 rfl rfl)
theorem dX1_checksum_85 : decode cX1_checksum 85 = .ok (.getfield 87, 3) := dk_180 0 87 (dk_at dksX1_checksum_3 17 rfl rfl)
theorem dX1_checksum_88 : decode cX1_checksum 88 = .ok (.invokevirtual 63, 3) := dk_182 0 63 (dk_at dksX1_checksum_3 20 rfl rfl)
theorem dX1_checksum_91 : decode cX1_checksum 91 = .ok (.if_icmp .ge 63, 3) := dk_162 0 63 (dk_at dksX1_checksum_4 0 rfl rfl)
theorem dX1_checksum_94 : decode cX1_checksum 94 = .ok (.aload_n 0, 1) := dk_42 (dk_at dksX1_checksum_4 3 rfl rfl)
theorem dX1_checksum_95 : decode cX1_checksum 95 = .ok (.getfield 32, 3) := dk_180 0 32 (dk_at dksX1_checksum_4 4 rfl rfl)
theorem dX1_checksum_98 : decode cX1_checksum 98 = .ok (.getfield 87, 3) := dk_180 0 87 (dk_at dksX1_checksum_4 7 rfl rfl)
theorem dX1_checksum_101 : decode cX1_checksum 101 = .ok (.iload_n 3, 1) := dk_29 (dk_at dksX1_checksum_4 10 rfl rfl)
theorem dX1_checksum_102 : decode cX1_checksum 102 = .ok (.invokevirtual 81, 3) := dk_182 0 81 (dk_at dksX1_checksum_4 11 rfl rfl)
theorem dX1_checksum_105 : decode cX1_checksum 105 = .ok (.checkcast 90, 3) := dk_192 0 90 (dk_at dksX1_checksum_4 14 rfl rfl)
theorem dX1_checksum_108 : decode cX1_checksum 108 = .ok (.astore 4, 2) := dk_58 4 (dk_at dksX1_checksum_4 17 rfl rfl)
theorem dX1_checksum_110 : decode cX1_checksum 110 = .ok (.lload_n 1, 1) := dk_31 (dk_at dksX1_checksum_4 19 rfl rfl)
theorem dX1_checksum_111 : decode cX1_checksum 111 = .ok (.aload 4, 2) := dk_25 4 (dk_at dksX1_checksum_4 20 rfl rfl)
theorem dX1_checksum_113 : decode cX1_checksum 113 = .ok (.getfield 188, 3) := dk_180 0 188 (dk_at dksX1_checksum_5 0 rfl rfl)
theorem dX1_checksum_116 : decode cX1_checksum 116 = .ok (.i2l, 1) := dk_133 (dk_at dksX1_checksum_5 3 rfl rfl)
theorem dX1_checksum_117 : decode cX1_checksum 117 = .ok (.invokestatic 280, 3) := dk_184 1 24 (dk_at dksX1_checksum_5 4 rfl rfl)
theorem dX1_checksum_120 : decode cX1_checksum 120 = .ok (.aload 4, 2) := dk_25 4 (dk_at dksX1_checksum_5 7 rfl rfl)
theorem dX1_checksum_122 : decode cX1_checksum 122 = .ok (.getfield 191, 3) := dk_180 0 191 (dk_at dksX1_checksum_5 9 rfl rfl)
theorem dX1_checksum_125 : decode cX1_checksum 125 = .ok (.i2l, 1) := dk_133 (dk_at dksX1_checksum_5 12 rfl rfl)
theorem dX1_checksum_126 : decode cX1_checksum 126 = .ok (.invokestatic 280, 3) := dk_184 1 24 (dk_at dksX1_checksum_5 13 rfl rfl)
theorem dX1_checksum_129 : decode cX1_checksum 129 = .ok (.aload 4, 2) := dk_25 4 (dk_at dksX1_checksum_5 16 rfl rfl)
theorem dX1_checksum_131 : decode cX1_checksum 131 = .ok (.getfield 194, 3) := dk_180 0 194 (dk_at dksX1_checksum_5 18 rfl rfl)
theorem dX1_checksum_134 : decode cX1_checksum 134 = .ok (.i2l, 1) := dk_133 (dk_at dksX1_checksum_5 21 rfl rfl)
theorem dX1_checksum_135 : decode cX1_checksum 135 = .ok (.invokestatic 280, 3) := dk_184 1 24 (dk_at dksX1_checksum_6 0 rfl rfl)
theorem dX1_checksum_138 : decode cX1_checksum 138 = .ok (.aload 4, 2) := dk_25 4 (dk_at dksX1_checksum_6 3 rfl rfl)
theorem dX1_checksum_140 : decode cX1_checksum 140 = .ok (.getfield 201, 3) := dk_180 0 201 (dk_at dksX1_checksum_6 5 rfl rfl)
theorem dX1_checksum_143 : decode cX1_checksum 143 = .ok (.i2l, 1) := dk_133 (dk_at dksX1_checksum_6 8 rfl rfl)
theorem dX1_checksum_144 : decode cX1_checksum 144 = .ok (.invokestatic 280, 3) := dk_184 1 24 (dk_at dksX1_checksum_6 9 rfl rfl)
theorem dX1_checksum_147 : decode cX1_checksum 147 = .ok (.lstore_n 1, 1) := dk_64 (dk_at dksX1_checksum_6 12 rfl rfl)
theorem dX1_checksum_148 : decode cX1_checksum 148 = .ok (.iinc 3 1, 3) := dk_132 3 1 (dk_at dksX1_checksum_6 13 rfl rfl)
theorem dX1_checksum_151 : decode cX1_checksum 151 = .ok (.goto (-71), 3) := dk_167 255 185 (dk_at dksX1_checksum_6 16 rfl rfl)
theorem dX1_checksum_154 : decode cX1_checksum 154 = .ok (.lload_n 1, 1) := dk_31 (dk_at dksX1_checksum_6 19 rfl rfl)
theorem dX1_checksum_155 : decode cX1_checksum 155 = .ok (.lreturn, 1) := dk_173 (dk_at dksX1_checksum_6 20 rfl rfl)
abbrev cX1_hash : ByteArray := prog_1_method_48_code
def yX1_hash : MethodName := ⟨RX1, "hash", "(JJ)J"⟩
def dkwX1_hash_0 : List UInt8 := [20, 1, 22, 30, 105, 32, 97, 173]
abbrev dktX1_hash_0 : List UInt8 := dkwX1_hash_0 ++ []
theorem dksX1_hash_0 : cX1_hash.data.toList.drop 0 = dktX1_hash_0 := by decide +kernel
theorem dX1_hash_0 : decode cX1_hash 0 = .ok (.ldc2_w 278, 3) := dk_20 1 22 (dk_at dksX1_hash_0 0 rfl rfl)
theorem dX1_hash_3 : decode cX1_hash 3 = .ok (.lload_n 0, 1) := dk_30 (dk_at dksX1_hash_0 3 rfl rfl)
theorem dX1_hash_4 : decode cX1_hash 4 = .ok (.lmul, 1) := dk_105 (dk_at dksX1_hash_0 4 rfl rfl)
theorem dX1_hash_5 : decode cX1_hash 5 = .ok (.lload_n 2, 1) := dk_32 (dk_at dksX1_hash_0 5 rfl rfl)
theorem dX1_hash_6 : decode cX1_hash 6 = .ok (.ladd, 1) := dk_97 (dk_at dksX1_hash_0 6 rfl rfl)
theorem dX1_hash_7 : decode cX1_hash 7 = .ok (.lreturn, 1) := dk_173 (dk_at dksX1_hash_0 7 rfl rfl)
abbrev cX1_load : ByteArray := prog_1_method_16_code
def yX1_load : MethodName := ⟨RX1, "load", "(I)I"⟩
def dkwX1_load_2 : List UInt8 := [182, 0, 63, 172, 77, 42, 44, 180, 0, 127, 181, 0, 36, 44, 182, 0, 132, 172]
abbrev dktX1_load_2 : List UInt8 := dkwX1_load_2 ++ []
def dkwX1_load_1 : List UInt8 := [42, 187, 0, 115, 89, 42, 27, 183, 0, 117, 182, 0, 120, 182, 0, 105, 42, 180, 0, 32, 180, 0, 59]
abbrev dktX1_load_1 : List UInt8 := dkwX1_load_1 ++ dktX1_load_2
def dkwX1_load_0 : List UInt8 := [27, 133, 9, 42, 180, 0, 109, 133, 184, 0, 40, 184, 0, 55, 42, 3, 181, 0, 109, 42, 2, 181, 0, 36]
abbrev dktX1_load_0 : List UInt8 := dkwX1_load_0 ++ dktX1_load_1
theorem dksX1_load_0 : cX1_load.data.toList.drop 0 = dktX1_load_0 := by decide +kernel
theorem dksX1_load_1 : cX1_load.data.toList.drop 24 = dktX1_load_1 := dk_seg dksX1_load_0 24 rfl rfl
theorem dksX1_load_2 : cX1_load.data.toList.drop 47 = dktX1_load_2 := dk_seg dksX1_load_1 23 rfl rfl
theorem dX1_load_0 : decode cX1_load 0 = .ok (.iload_n 1, 1) := dk_27 (dk_at dksX1_load_0 0 rfl rfl)
theorem dX1_load_1 : decode cX1_load 1 = .ok (.i2l, 1) := dk_133 (dk_at dksX1_load_0 1 rfl rfl)
theorem dX1_load_2 : decode cX1_load 2 = .ok (.lconst 0, 1) := dk_9 (dk_at dksX1_load_0 2 rfl rfl)
theorem dX1_load_3 : decode cX1_load 3 = .ok (.aload_n 0, 1) := dk_42 (dk_at dksX1_load_0 3 rfl rfl)
theorem dX1_load_4 : decode cX1_load 4 = .ok (.getfield 109, 3) := dk_180 0 109 (dk_at dksX1_load_0 4 rfl rfl)
theorem dX1_load_7 : decode cX1_load 7 = .ok (.i2l, 1) := dk_133 (dk_at dksX1_load_0 7 rfl rfl)
theorem dX1_load_8 : decode cX1_load 8 = .ok (.invokestatic 40, 3) := dk_184 0 40 (dk_at dksX1_load_0 8 rfl rfl)
theorem dX1_load_11 : decode cX1_load 11 = .ok (.invokestatic 55, 3) := dk_184 0 55 (dk_at dksX1_load_0 11 rfl rfl)
theorem dX1_load_14 : decode cX1_load 14 = .ok (.aload_n 0, 1) := dk_42 (dk_at dksX1_load_0 14 rfl rfl)
theorem dX1_load_15 : decode cX1_load 15 = .ok (.iconst 0, 1) := dk_3 (dk_at dksX1_load_0 15 rfl rfl)
theorem dX1_load_16 : decode cX1_load 16 = .ok (.putfield 109, 3) := dk_181 0 109 (dk_at dksX1_load_0 16 rfl rfl)
theorem dX1_load_19 : decode cX1_load 19 = .ok (.aload_n 0, 1) := dk_42 (dk_at dksX1_load_0 19 rfl rfl)
theorem dX1_load_20 : decode cX1_load 20 = .ok (.iconst (-1), 1) := dk_2 (dk_at dksX1_load_0 20 rfl rfl)
theorem dX1_load_21 : decode cX1_load 21 = .ok (.putfield 36, 3) := dk_181 0 36 (dk_at dksX1_load_0 21 rfl rfl)
theorem dX1_load_24 : decode cX1_load 24 = .ok (.aload_n 0, 1) := dk_42 (dk_at dksX1_load_1 0 rfl rfl)
theorem dX1_load_25 : decode cX1_load 25 = .ok (.new 115, 3) := dk_187 0 115 (dk_at dksX1_load_1 1 rfl rfl)
theorem dX1_load_28 : decode cX1_load 28 = .ok (.dup, 1) := dk_89 (dk_at dksX1_load_1 4 rfl rfl)
theorem dX1_load_29 : decode cX1_load 29 = .ok (.aload_n 0, 1) := dk_42 (dk_at dksX1_load_1 5 rfl rfl)
theorem dX1_load_30 : decode cX1_load 30 = .ok (.iload_n 1, 1) := dk_27 (dk_at dksX1_load_1 6 rfl rfl)
theorem dX1_load_31 : decode cX1_load 31 = .ok (.invokespecial 117, 3) := dk_183 0 117 (dk_at dksX1_load_1 7 rfl rfl)
theorem dX1_load_34 : decode cX1_load 34 = .ok (.invokevirtual 120, 3) := dk_182 0 120 (dk_at dksX1_load_1 10 rfl rfl)
theorem dX1_load_37 : decode cX1_load 37 = .ok (.invokevirtual 105, 3) := dk_182 0 105 (dk_at dksX1_load_1 13 rfl rfl)
theorem dX1_load_40 : decode cX1_load 40 = .ok (.aload_n 0, 1) := dk_42 (dk_at dksX1_load_1 16 rfl rfl)
theorem dX1_load_41 : decode cX1_load 41 = .ok (.getfield 32, 3) := dk_180 0 32 (dk_at dksX1_load_1 17 rfl rfl)
theorem dX1_load_44 : decode cX1_load 44 = .ok (.getfield 59, 3) := dk_180 0 59 (dk_at dksX1_load_1 20 rfl rfl)
theorem dX1_load_47 : decode cX1_load 47 = .ok (.invokevirtual 63, 3) := dk_182 0 63 (dk_at dksX1_load_2 0 rfl rfl)
theorem dX1_load_50 : decode cX1_load 50 = .ok (.ireturn, 1) := dk_172 (dk_at dksX1_load_2 3 rfl rfl)
theorem dX1_load_51 : decode cX1_load 51 = .ok (.astore_n 2, 1) := dk_77 (dk_at dksX1_load_2 4 rfl rfl)
theorem dX1_load_52 : decode cX1_load 52 = .ok (.aload_n 0, 1) := dk_42 (dk_at dksX1_load_2 5 rfl rfl)
theorem dX1_load_53 : decode cX1_load 53 = .ok (.aload_n 2, 1) := dk_44 (dk_at dksX1_load_2 6 rfl rfl)
theorem dX1_load_54 : decode cX1_load 54 = .ok (.getfield 127, 3) := dk_180 0 127 (dk_at dksX1_load_2 7 rfl rfl)
theorem dX1_load_57 : decode cX1_load 57 = .ok (.putfield 36, 3) := dk_181 0 36 (dk_at dksX1_load_2 10 rfl rfl)
theorem dX1_load_60 : decode cX1_load 60 = .ok (.aload_n 2, 1) := dk_44 (dk_at dksX1_load_2 13 rfl rfl)
theorem dX1_load_61 : decode cX1_load 61 = .ok (.invokevirtual 132, 3) := dk_182 0 132 (dk_at dksX1_load_2 14 rfl rfl)
theorem dX1_load_64 : decode cX1_load 64 = .ok (.ireturn, 1) := dk_172 (dk_at dksX1_load_2 17 rfl rfl)
abbrev cX1_requireArgument : ByteArray := prog_1_method_5_code
def yX1_requireArgument : MethodName := ⟨RX1, "requireArgument", "(Z)V"⟩
def dkwX1_requireArgument_0 : List UInt8 := [26, 154, 0, 11, 187, 0, 47, 89, 183, 0, 49, 191, 177]
abbrev dktX1_requireArgument_0 : List UInt8 := dkwX1_requireArgument_0 ++ []
theorem dksX1_requireArgument_0 : cX1_requireArgument.data.toList.drop 0 = dktX1_requireArgument_0 := by decide +kernel
theorem dX1_requireArgument_0 : decode cX1_requireArgument 0 = .ok (.iload_n 0, 1) := dk_26 (dk_at dksX1_requireArgument_0 0 rfl rfl)
theorem dX1_requireArgument_1 : decode cX1_requireArgument 1 = .ok (.ifCond .ne 11, 3) := dk_154 0 11 (dk_at dksX1_requireArgument_0 1 rfl rfl)
theorem dX1_requireArgument_4 : decode cX1_requireArgument 4 = .ok (.new 47, 3) := dk_187 0 47 (dk_at dksX1_requireArgument_0 4 rfl rfl)
theorem dX1_requireArgument_7 : decode cX1_requireArgument 7 = .ok (.dup, 1) := dk_89 (dk_at dksX1_requireArgument_0 7 rfl rfl)
theorem dX1_requireArgument_8 : decode cX1_requireArgument 8 = .ok (.invokespecial 49, 3) := dk_183 0 49 (dk_at dksX1_requireArgument_0 8 rfl rfl)
theorem dX1_requireArgument_11 : decode cX1_requireArgument 11 = .ok (.athrow, 1) := dk_191 (dk_at dksX1_requireArgument_0 11 rfl rfl)
theorem dX1_requireArgument_12 : decode cX1_requireArgument 12 = .ok (.return_, 1) := dk_177 (dk_at dksX1_requireArgument_0 12 rfl rfl)
abbrev cX1_operation : ByteArray := prog_1_method_2_code
def yX1_operation : MethodName := ⟨RX1, "operation", "(ILDocumentaryCreditDesk$Fee;LDocumentaryCreditDesk$Fee;)LDocumentaryCreditDesk$Fee;"⟩
def dkwX1_operation_0 : List UInt8 := [43, 44, 26, 186, 0, 1, 0, 0, 176]
abbrev dktX1_operation_0 : List UInt8 := dkwX1_operation_0 ++ []
theorem dksX1_operation_0 : cX1_operation.data.toList.drop 0 = dktX1_operation_0 := by decide +kernel
theorem dX1_operation_0 : decode cX1_operation 0 = .ok (.aload_n 1, 1) := dk_43 (dk_at dksX1_operation_0 0 rfl rfl)
theorem dX1_operation_1 : decode cX1_operation 1 = .ok (.aload_n 2, 1) := dk_44 (dk_at dksX1_operation_0 1 rfl rfl)
theorem dX1_operation_2 : decode cX1_operation 2 = .ok (.iload_n 0, 1) := dk_26 (dk_at dksX1_operation_0 2 rfl rfl)
theorem dX1_operation_3 : decode cX1_operation 3 = .ok (.invokedynamic 1, 5) := by decide +kernel
theorem dX1_operation_8 : decode cX1_operation 8 = .ok (.areturn, 1) := dk_176 (dk_at dksX1_operation_0 8 rfl rfl)
abbrev cX1_lambda_operation_0 : ByteArray := prog_1_method_50_code
def yX1_lambda_operation_0 : MethodName := ⟨RX1, "lambda$operation$0", "(LDocumentaryCreditDesk$Fee;LDocumentaryCreditDesk$Fee;IJJJ)J"⟩
def dkwX1_lambda_operation_0_4 : List UInt8 := [184, 1, 37, 184, 1, 41, 173]
abbrev dktX1_lambda_operation_0_4 : List UInt8 := dkwX1_lambda_operation_0_4 ++ []
def dkwX1_lambda_operation_0_3 : List UInt8 := [154, 0, 7, 9, 167, 0, 8, 22, 9, 22, 11, 109, 55, 13, 20, 1, 33, 20, 1, 35, 22, 13]
abbrev dktX1_lambda_operation_0_3 : List UInt8 := dkwX1_lambda_operation_0_3 ++ dktX1_lambda_operation_0_4
def dkwX1_lambda_operation_0_2 : List UInt8 := [22, 11, 101, 167, 0, 33, 28, 16, 42, 160, 0, 11, 22, 9, 22, 11, 105, 167, 0, 19, 22, 11, 9, 148]
abbrev dktX1_lambda_operation_0_2 : List UInt8 := dkwX1_lambda_operation_0_2 ++ dktX1_lambda_operation_0_3
def dkwX1_lambda_operation_0_1 : List UInt8 := [55, 11, 28, 16, 43, 160, 0, 11, 22, 9, 22, 11, 97, 167, 0, 47, 28, 16, 45, 160, 0, 11, 22, 9]
abbrev dktX1_lambda_operation_0_1 : List UInt8 := dkwX1_lambda_operation_0_1 ++ dktX1_lambda_operation_0_2
def dkwX1_lambda_operation_0_0 : List UInt8 := [42, 33, 22, 5, 22, 7, 185, 1, 28, 7, 0, 55, 9, 43, 33, 22, 5, 22, 7, 185, 1, 28, 7, 0]
abbrev dktX1_lambda_operation_0_0 : List UInt8 := dkwX1_lambda_operation_0_0 ++ dktX1_lambda_operation_0_1
theorem dksX1_lambda_operation_0_0 : cX1_lambda_operation_0.data.toList.drop 0 = dktX1_lambda_operation_0_0 := by decide +kernel
theorem dksX1_lambda_operation_0_1 : cX1_lambda_operation_0.data.toList.drop 24 = dktX1_lambda_operation_0_1 := dk_seg dksX1_lambda_operation_0_0 24 rfl rfl
theorem dksX1_lambda_operation_0_2 : cX1_lambda_operation_0.data.toList.drop 48 = dktX1_lambda_operation_0_2 := dk_seg dksX1_lambda_operation_0_1 24 rfl rfl
theorem dksX1_lambda_operation_0_3 : cX1_lambda_operation_0.data.toList.drop 72 = dktX1_lambda_operation_0_3 := dk_seg dksX1_lambda_operation_0_2 24 rfl rfl
theorem dksX1_lambda_operation_0_4 : cX1_lambda_operation_0.data.toList.drop 94 = dktX1_lambda_operation_0_4 := dk_seg dksX1_lambda_operation_0_3 22 rfl rfl
theorem dX1_lambda_operation_0_0 : decode cX1_lambda_operation_0 0 = .ok (.aload_n 0, 1) := dk_42 (dk_at dksX1_lambda_operation_0_0 0 rfl rfl)
theorem dX1_lambda_operation_0_1 : decode cX1_lambda_operation_0 1 = .ok (.lload_n 3, 1) := dk_33 (dk_at dksX1_lambda_operation_0_0 1 rfl rfl)
theorem dX1_lambda_operation_0_2 : decode cX1_lambda_operation_0 2 = .ok (.lload 5, 2) := dk_22 5 (dk_at dksX1_lambda_operation_0_0 2 rfl rfl)
theorem dX1_lambda_operation_0_4 : decode cX1_lambda_operation_0 4 = .ok (.lload 7, 2) := dk_22 7 (dk_at dksX1_lambda_operation_0_0 4 rfl rfl)
theorem dX1_lambda_operation_0_6 : decode cX1_lambda_operation_0 6 = .ok (.invokeinterface 284 7, 5) := by decide +kernel
theorem dX1_lambda_operation_0_11 : decode cX1_lambda_operation_0 11 = .ok (.lstore 9, 2) := dk_55 9 (dk_at dksX1_lambda_operation_0_0 11 rfl rfl)
theorem dX1_lambda_operation_0_13 : decode cX1_lambda_operation_0 13 = .ok (.aload_n 1, 1) := dk_43 (dk_at dksX1_lambda_operation_0_0 13 rfl rfl)
theorem dX1_lambda_operation_0_14 : decode cX1_lambda_operation_0 14 = .ok (.lload_n 3, 1) := dk_33 (dk_at dksX1_lambda_operation_0_0 14 rfl rfl)
theorem dX1_lambda_operation_0_15 : decode cX1_lambda_operation_0 15 = .ok (.lload 5, 2) := dk_22 5 (dk_at dksX1_lambda_operation_0_0 15 rfl rfl)
theorem dX1_lambda_operation_0_17 : decode cX1_lambda_operation_0 17 = .ok (.lload 7, 2) := dk_22 7 (dk_at dksX1_lambda_operation_0_0 17 rfl rfl)
theorem dX1_lambda_operation_0_19 : decode cX1_lambda_operation_0 19 = .ok (.invokeinterface 284 7, 5) := by decide +kernel
theorem dX1_lambda_operation_0_24 : decode cX1_lambda_operation_0 24 = .ok (.lstore 11, 2) := dk_55 11 (dk_at dksX1_lambda_operation_0_1 0 rfl rfl)
theorem dX1_lambda_operation_0_26 : decode cX1_lambda_operation_0 26 = .ok (.iload_n 2, 1) := dk_28 (dk_at dksX1_lambda_operation_0_1 2 rfl rfl)
theorem dX1_lambda_operation_0_27 : decode cX1_lambda_operation_0 27 = .ok (.bipush 43, 2) := dk_16 43 (dk_at dksX1_lambda_operation_0_1 3 rfl rfl)
theorem dX1_lambda_operation_0_29 : decode cX1_lambda_operation_0 29 = .ok (.if_icmp .ne 11, 3) := dk_160 0 11 (dk_at dksX1_lambda_operation_0_1 5 rfl rfl)
theorem dX1_lambda_operation_0_32 : decode cX1_lambda_operation_0 32 = .ok (.lload 9, 2) := dk_22 9 (dk_at dksX1_lambda_operation_0_1 8 rfl rfl)
theorem dX1_lambda_operation_0_34 : decode cX1_lambda_operation_0 34 = .ok (.lload 11, 2) := dk_22 11 (dk_at dksX1_lambda_operation_0_1 10 rfl rfl)
theorem dX1_lambda_operation_0_36 : decode cX1_lambda_operation_0 36 = .ok (.ladd, 1) := dk_97 (dk_at dksX1_lambda_operation_0_1 12 rfl rfl)
theorem dX1_lambda_operation_0_37 : decode cX1_lambda_operation_0 37 = .ok (.goto 47, 3) := dk_167 0 47 (dk_at dksX1_lambda_operation_0_1 13 rfl rfl)
theorem dX1_lambda_operation_0_40 : decode cX1_lambda_operation_0 40 = .ok (.iload_n 2, 1) := dk_28 (dk_at dksX1_lambda_operation_0_1 16 rfl rfl)
theorem dX1_lambda_operation_0_41 : decode cX1_lambda_operation_0 41 = .ok (.bipush 45, 2) := dk_16 45 (dk_at dksX1_lambda_operation_0_1 17 rfl rfl)
theorem dX1_lambda_operation_0_43 : decode cX1_lambda_operation_0 43 = .ok (.if_icmp .ne 11, 3) := dk_160 0 11 (dk_at dksX1_lambda_operation_0_1 19 rfl rfl)
theorem dX1_lambda_operation_0_46 : decode cX1_lambda_operation_0 46 = .ok (.lload 9, 2) := dk_22 9 (dk_at dksX1_lambda_operation_0_1 22 rfl rfl)
theorem dX1_lambda_operation_0_48 : decode cX1_lambda_operation_0 48 = .ok (.lload 11, 2) := dk_22 11 (dk_at dksX1_lambda_operation_0_2 0 rfl rfl)
theorem dX1_lambda_operation_0_50 : decode cX1_lambda_operation_0 50 = .ok (.lsub, 1) := dk_101 (dk_at dksX1_lambda_operation_0_2 2 rfl rfl)
theorem dX1_lambda_operation_0_51 : decode cX1_lambda_operation_0 51 = .ok (.goto 33, 3) := dk_167 0 33 (dk_at dksX1_lambda_operation_0_2 3 rfl rfl)
theorem dX1_lambda_operation_0_54 : decode cX1_lambda_operation_0 54 = .ok (.iload_n 2, 1) := dk_28 (dk_at dksX1_lambda_operation_0_2 6 rfl rfl)
theorem dX1_lambda_operation_0_55 : decode cX1_lambda_operation_0 55 = .ok (.bipush 42, 2) := dk_16 42 (dk_at dksX1_lambda_operation_0_2 7 rfl rfl)
theorem dX1_lambda_operation_0_57 : decode cX1_lambda_operation_0 57 = .ok (.if_icmp .ne 11, 3) := dk_160 0 11 (dk_at dksX1_lambda_operation_0_2 9 rfl rfl)
theorem dX1_lambda_operation_0_60 : decode cX1_lambda_operation_0 60 = .ok (.lload 9, 2) := dk_22 9 (dk_at dksX1_lambda_operation_0_2 12 rfl rfl)
theorem dX1_lambda_operation_0_62 : decode cX1_lambda_operation_0 62 = .ok (.lload 11, 2) := dk_22 11 (dk_at dksX1_lambda_operation_0_2 14 rfl rfl)
theorem dX1_lambda_operation_0_64 : decode cX1_lambda_operation_0 64 = .ok (.lmul, 1) := dk_105 (dk_at dksX1_lambda_operation_0_2 16 rfl rfl)
theorem dX1_lambda_operation_0_65 : decode cX1_lambda_operation_0 65 = .ok (.goto 19, 3) := dk_167 0 19 (dk_at dksX1_lambda_operation_0_2 17 rfl rfl)
theorem dX1_lambda_operation_0_68 : decode cX1_lambda_operation_0 68 = .ok (.lload 11, 2) := dk_22 11 (dk_at dksX1_lambda_operation_0_2 20 rfl rfl)
theorem dX1_lambda_operation_0_70 : decode cX1_lambda_operation_0 70 = .ok (.lconst 0, 1) := dk_9 (dk_at dksX1_lambda_operation_0_2 22 rfl rfl)
theorem dX1_lambda_operation_0_71 : decode cX1_lambda_operation_0 71 = .ok (.lcmp, 1) := dk_148 (dk_at dksX1_lambda_operation_0_2 23 rfl rfl)
theorem dX1_lambda_operation_0_72 : decode cX1_lambda_operation_0 72 = .ok (.ifCond .ne 7, 3) := dk_154 0 7 (dk_at dksX1_lambda_operation_0_3 0 rfl rfl)
theorem dX1_lambda_operation_0_75 : decode cX1_lambda_operation_0 75 = .ok (.lconst 0, 1) := dk_9 (dk_at dksX1_lambda_operation_0_3 3 rfl rfl)
theorem dX1_lambda_operation_0_76 : decode cX1_lambda_operation_0 76 = .ok (.goto 8, 3) := dk_167 0 8 (dk_at dksX1_lambda_operation_0_3 4 rfl rfl)
theorem dX1_lambda_operation_0_79 : decode cX1_lambda_operation_0 79 = .ok (.lload 9, 2) := dk_22 9 (dk_at dksX1_lambda_operation_0_3 7 rfl rfl)
theorem dX1_lambda_operation_0_81 : decode cX1_lambda_operation_0 81 = .ok (.lload 11, 2) := dk_22 11 (dk_at dksX1_lambda_operation_0_3 9 rfl rfl)
theorem dX1_lambda_operation_0_83 : decode cX1_lambda_operation_0 83 = .ok (.ldiv, 1) := dk_109 (dk_at dksX1_lambda_operation_0_3 11 rfl rfl)
theorem dX1_lambda_operation_0_84 : decode cX1_lambda_operation_0 84 = .ok (.lstore 13, 2) := dk_55 13 (dk_at dksX1_lambda_operation_0_3 12 rfl rfl)
theorem dX1_lambda_operation_0_86 : decode cX1_lambda_operation_0 86 = .ok (.ldc2_w 289, 3) := dk_20 1 33 (dk_at dksX1_lambda_operation_0_3 14 rfl rfl)
theorem dX1_lambda_operation_0_89 : decode cX1_lambda_operation_0 89 = .ok (.ldc2_w 291, 3) := dk_20 1 35 (dk_at dksX1_lambda_operation_0_3 17 rfl rfl)
theorem dX1_lambda_operation_0_92 : decode cX1_lambda_operation_0 92 = .ok (.lload 13, 2) := dk_22 13 (dk_at dksX1_lambda_operation_0_3 20 rfl rfl)
theorem dX1_lambda_operation_0_94 : decode cX1_lambda_operation_0 94 = .ok (.invokestatic 293, 3) := dk_184 1 37 (dk_at dksX1_lambda_operation_0_4 0 rfl rfl)
theorem dX1_lambda_operation_0_97 : decode cX1_lambda_operation_0 97 = .ok (.invokestatic 297, 3) := dk_184 1 41 (dk_at dksX1_lambda_operation_0_4 3 rfl rfl)
theorem dX1_lambda_operation_0_100 : decode cX1_lambda_operation_0 100 = .ok (.lreturn, 1) := dk_173 (dk_at dksX1_lambda_operation_0_4 6 rfl rfl)
abbrev cX1_replace : ByteArray := prog_1_method_12_code
def yX1_replace : MethodName := ⟨RX1, "replace", "(LDocumentaryCreditDesk$Desk;)V"⟩
def dkwX1_replace_1 : List UInt8 := [42, 180, 0, 32, 182, 0, 97, 42, 43, 181, 0, 32, 177]
abbrev dktX1_replace_1 : List UInt8 := dkwX1_replace_1 ++ []
def dkwX1_replace_0 : List UInt8 := [42, 180, 0, 20, 182, 0, 92, 16, 8, 160, 0, 11, 42, 180, 0, 20, 182, 0, 93, 87, 42, 180, 0, 20]
abbrev dktX1_replace_0 : List UInt8 := dkwX1_replace_0 ++ dktX1_replace_1
theorem dksX1_replace_0 : cX1_replace.data.toList.drop 0 = dktX1_replace_0 := by decide +kernel
theorem dksX1_replace_1 : cX1_replace.data.toList.drop 24 = dktX1_replace_1 := dk_seg dksX1_replace_0 24 rfl rfl
theorem dX1_replace_0 : decode cX1_replace 0 = .ok (.aload_n 0, 1) := dk_42 (dk_at dksX1_replace_0 0 rfl rfl)
theorem dX1_replace_1 : decode cX1_replace 1 = .ok (.getfield 20, 3) := dk_180 0 20 (dk_at dksX1_replace_0 1 rfl rfl)
theorem dX1_replace_4 : decode cX1_replace 4 = .ok (.invokevirtual 92, 3) := dk_182 0 92 (dk_at dksX1_replace_0 4 rfl rfl)
theorem dX1_replace_7 : decode cX1_replace 7 = .ok (.bipush 8, 2) := dk_16 8 (dk_at dksX1_replace_0 7 rfl rfl)
theorem dX1_replace_9 : decode cX1_replace 9 = .ok (.if_icmp .ne 11, 3) := dk_160 0 11 (dk_at dksX1_replace_0 9 rfl rfl)
theorem dX1_replace_12 : decode cX1_replace 12 = .ok (.aload_n 0, 1) := dk_42 (dk_at dksX1_replace_0 12 rfl rfl)
theorem dX1_replace_13 : decode cX1_replace 13 = .ok (.getfield 20, 3) := dk_180 0 20 (dk_at dksX1_replace_0 13 rfl rfl)
theorem dX1_replace_16 : decode cX1_replace 16 = .ok (.invokevirtual 93, 3) := dk_182 0 93 (dk_at dksX1_replace_0 16 rfl rfl)
theorem dX1_replace_19 : decode cX1_replace 19 = .ok (.pop, 1) := dk_87 (dk_at dksX1_replace_0 19 rfl rfl)
theorem dX1_replace_20 : decode cX1_replace 20 = .ok (.aload_n 0, 1) := dk_42 (dk_at dksX1_replace_0 20 rfl rfl)
theorem dX1_replace_21 : decode cX1_replace 21 = .ok (.getfield 20, 3) := dk_180 0 20 (dk_at dksX1_replace_0 21 rfl rfl)
theorem dX1_replace_24 : decode cX1_replace 24 = .ok (.aload_n 0, 1) := dk_42 (dk_at dksX1_replace_1 0 rfl rfl)
theorem dX1_replace_25 : decode cX1_replace 25 = .ok (.getfield 32, 3) := dk_180 0 32 (dk_at dksX1_replace_1 1 rfl rfl)
theorem dX1_replace_28 : decode cX1_replace 28 = .ok (.invokevirtual 97, 3) := dk_182 0 97 (dk_at dksX1_replace_1 4 rfl rfl)
theorem dX1_replace_31 : decode cX1_replace 31 = .ok (.aload_n 0, 1) := dk_42 (dk_at dksX1_replace_1 7 rfl rfl)
theorem dX1_replace_32 : decode cX1_replace 32 = .ok (.aload_n 1, 1) := dk_43 (dk_at dksX1_replace_1 8 rfl rfl)
theorem dX1_replace_33 : decode cX1_replace 33 = .ok (.putfield 32, 3) := dk_181 0 32 (dk_at dksX1_replace_1 9 rfl rfl)
theorem dX1_replace_36 : decode cX1_replace 36 = .ok (.return_, 1) := dk_177 (dk_at dksX1_replace_1 12 rfl rfl)
abbrev cX1_isBusinessDay : ByteArray := prog_1_method_21_code
def yX1_isBusinessDay : MethodName := ⟨RX1, "isBusinessDay", "(I)Z"⟩
def dkwX1_isBusinessDay_0 : List UInt8 := [27, 184, 0, 138, 42, 180, 0, 32, 180, 0, 141, 27, 182, 0, 145, 172]
abbrev dktX1_isBusinessDay_0 : List UInt8 := dkwX1_isBusinessDay_0 ++ []
theorem dksX1_isBusinessDay_0 : cX1_isBusinessDay.data.toList.drop 0 = dktX1_isBusinessDay_0 := by decide +kernel
theorem dX1_isBusinessDay_0 : decode cX1_isBusinessDay 0 = .ok (.iload_n 1, 1) := dk_27 (dk_at dksX1_isBusinessDay_0 0 rfl rfl)
theorem dX1_isBusinessDay_1 : decode cX1_isBusinessDay 1 = .ok (.invokestatic 138, 3) := dk_184 0 138 (dk_at dksX1_isBusinessDay_0 1 rfl rfl)
theorem dX1_isBusinessDay_4 : decode cX1_isBusinessDay 4 = .ok (.aload_n 0, 1) := dk_42 (dk_at dksX1_isBusinessDay_0 4 rfl rfl)
theorem dX1_isBusinessDay_5 : decode cX1_isBusinessDay 5 = .ok (.getfield 32, 3) := dk_180 0 32 (dk_at dksX1_isBusinessDay_0 5 rfl rfl)
theorem dX1_isBusinessDay_8 : decode cX1_isBusinessDay 8 = .ok (.getfield 141, 3) := dk_180 0 141 (dk_at dksX1_isBusinessDay_0 8 rfl rfl)
theorem dX1_isBusinessDay_11 : decode cX1_isBusinessDay 11 = .ok (.iload_n 1, 1) := dk_27 (dk_at dksX1_isBusinessDay_0 11 rfl rfl)
theorem dX1_isBusinessDay_12 : decode cX1_isBusinessDay 12 = .ok (.invokevirtual 145, 3) := dk_182 0 145 (dk_at dksX1_isBusinessDay_0 12 rfl rfl)
theorem dX1_isBusinessDay_15 : decode cX1_isBusinessDay 15 = .ok (.ireturn, 1) := dk_172 (dk_at dksX1_isBusinessDay_0 15 rfl rfl)
abbrev cX1_requireDay : ByteArray := prog_1_method_7_code
def yX1_requireDay : MethodName := ⟨RX1, "requireDay", "(I)V"⟩
def dkwX1_requireDay_0 : List UInt8 := [26, 133, 9, 20, 0, 53, 184, 0, 40, 184, 0, 55, 177]
abbrev dktX1_requireDay_0 : List UInt8 := dkwX1_requireDay_0 ++ []
theorem dksX1_requireDay_0 : cX1_requireDay.data.toList.drop 0 = dktX1_requireDay_0 := by decide +kernel
theorem dX1_requireDay_0 : decode cX1_requireDay 0 = .ok (.iload_n 0, 1) := dk_26 (dk_at dksX1_requireDay_0 0 rfl rfl)
theorem dX1_requireDay_1 : decode cX1_requireDay 1 = .ok (.i2l, 1) := dk_133 (dk_at dksX1_requireDay_0 1 rfl rfl)
theorem dX1_requireDay_2 : decode cX1_requireDay 2 = .ok (.lconst 0, 1) := dk_9 (dk_at dksX1_requireDay_0 2 rfl rfl)
theorem dX1_requireDay_3 : decode cX1_requireDay 3 = .ok (.ldc2_w 53, 3) := dk_20 0 53 (dk_at dksX1_requireDay_0 3 rfl rfl)
theorem dX1_requireDay_6 : decode cX1_requireDay 6 = .ok (.invokestatic 40, 3) := dk_184 0 40 (dk_at dksX1_requireDay_0 6 rfl rfl)
theorem dX1_requireDay_9 : decode cX1_requireDay 9 = .ok (.invokestatic 55, 3) := dk_184 0 55 (dk_at dksX1_requireDay_0 9 rfl rfl)
theorem dX1_requireDay_12 : decode cX1_requireDay 12 = .ok (.return_, 1) := dk_177 (dk_at dksX1_requireDay_0 12 rfl rfl)
abbrev cX1_extended : ByteArray := prog_1_method_22_code
def yX1_extended : MethodName := ⟨RX1, "extended", "(I)I"⟩
def dkwX1_extended_0 : List UInt8 := [27, 184, 0, 138, 42, 180, 0, 32, 180, 0, 141, 27, 182, 0, 149, 172]
abbrev dktX1_extended_0 : List UInt8 := dkwX1_extended_0 ++ []
theorem dksX1_extended_0 : cX1_extended.data.toList.drop 0 = dktX1_extended_0 := by decide +kernel
theorem dX1_extended_0 : decode cX1_extended 0 = .ok (.iload_n 1, 1) := dk_27 (dk_at dksX1_extended_0 0 rfl rfl)
theorem dX1_extended_1 : decode cX1_extended 1 = .ok (.invokestatic 138, 3) := dk_184 0 138 (dk_at dksX1_extended_0 1 rfl rfl)
theorem dX1_extended_4 : decode cX1_extended 4 = .ok (.aload_n 0, 1) := dk_42 (dk_at dksX1_extended_0 4 rfl rfl)
theorem dX1_extended_5 : decode cX1_extended 5 = .ok (.getfield 32, 3) := dk_180 0 32 (dk_at dksX1_extended_0 5 rfl rfl)
theorem dX1_extended_8 : decode cX1_extended 8 = .ok (.getfield 141, 3) := dk_180 0 141 (dk_at dksX1_extended_0 8 rfl rfl)
theorem dX1_extended_11 : decode cX1_extended 11 = .ok (.iload_n 1, 1) := dk_27 (dk_at dksX1_extended_0 11 rfl rfl)
theorem dX1_extended_12 : decode cX1_extended 12 = .ok (.invokevirtual 149, 3) := dk_182 0 149 (dk_at dksX1_extended_0 12 rfl rfl)
theorem dX1_extended_15 : decode cX1_extended 15 = .ok (.ireturn, 1) := dk_172 (dk_at dksX1_extended_0 15 rfl rfl)
abbrev cX1_addBusinessDays : ByteArray := prog_1_method_23_code
def yX1_addBusinessDays : MethodName := ⟨RX1, "addBusinessDays", "(II)I"⟩
def dkwX1_addBusinessDays_1 : List UInt8 := [28, 182, 0, 155, 172]
abbrev dktX1_addBusinessDays_1 : List UInt8 := dkwX1_addBusinessDays_1 ++ []
def dkwX1_addBusinessDays_0 : List UInt8 := [27, 184, 0, 138, 28, 133, 9, 20, 0, 153, 184, 0, 40, 184, 0, 55, 42, 180, 0, 32, 180, 0, 141, 27]
abbrev dktX1_addBusinessDays_0 : List UInt8 := dkwX1_addBusinessDays_0 ++ dktX1_addBusinessDays_1
theorem dksX1_addBusinessDays_0 : cX1_addBusinessDays.data.toList.drop 0 = dktX1_addBusinessDays_0 := by decide +kernel
theorem dksX1_addBusinessDays_1 : cX1_addBusinessDays.data.toList.drop 24 = dktX1_addBusinessDays_1 := dk_seg dksX1_addBusinessDays_0 24 rfl rfl
theorem dX1_addBusinessDays_0 : decode cX1_addBusinessDays 0 = .ok (.iload_n 1, 1) := dk_27 (dk_at dksX1_addBusinessDays_0 0 rfl rfl)
theorem dX1_addBusinessDays_1 : decode cX1_addBusinessDays 1 = .ok (.invokestatic 138, 3) := dk_184 0 138 (dk_at dksX1_addBusinessDays_0 1 rfl rfl)
theorem dX1_addBusinessDays_4 : decode cX1_addBusinessDays 4 = .ok (.iload_n 2, 1) := dk_28 (dk_at dksX1_addBusinessDays_0 4 rfl rfl)
theorem dX1_addBusinessDays_5 : decode cX1_addBusinessDays 5 = .ok (.i2l, 1) := dk_133 (dk_at dksX1_addBusinessDays_0 5 rfl rfl)
theorem dX1_addBusinessDays_6 : decode cX1_addBusinessDays 6 = .ok (.lconst 0, 1) := dk_9 (dk_at dksX1_addBusinessDays_0 6 rfl rfl)
theorem dX1_addBusinessDays_7 : decode cX1_addBusinessDays 7 = .ok (.ldc2_w 153, 3) := dk_20 0 153 (dk_at dksX1_addBusinessDays_0 7 rfl rfl)
theorem dX1_addBusinessDays_10 : decode cX1_addBusinessDays 10 = .ok (.invokestatic 40, 3) := dk_184 0 40 (dk_at dksX1_addBusinessDays_0 10 rfl rfl)
theorem dX1_addBusinessDays_13 : decode cX1_addBusinessDays 13 = .ok (.invokestatic 55, 3) := dk_184 0 55 (dk_at dksX1_addBusinessDays_0 13 rfl rfl)
theorem dX1_addBusinessDays_16 : decode cX1_addBusinessDays 16 = .ok (.aload_n 0, 1) := dk_42 (dk_at dksX1_addBusinessDays_0 16 rfl rfl)
theorem dX1_addBusinessDays_17 : decode cX1_addBusinessDays 17 = .ok (.getfield 32, 3) := dk_180 0 32 (dk_at dksX1_addBusinessDays_0 17 rfl rfl)
theorem dX1_addBusinessDays_20 : decode cX1_addBusinessDays 20 = .ok (.getfield 141, 3) := dk_180 0 141 (dk_at dksX1_addBusinessDays_0 20 rfl rfl)
theorem dX1_addBusinessDays_23 : decode cX1_addBusinessDays 23 = .ok (.iload_n 1, 1) := dk_27 (dk_at dksX1_addBusinessDays_0 23 rfl rfl)
theorem dX1_addBusinessDays_24 : decode cX1_addBusinessDays 24 = .ok (.iload_n 2, 1) := dk_28 (dk_at dksX1_addBusinessDays_1 0 rfl rfl)
theorem dX1_addBusinessDays_25 : decode cX1_addBusinessDays 25 = .ok (.invokevirtual 155, 3) := dk_182 0 155 (dk_at dksX1_addBusinessDays_1 1 rfl rfl)
theorem dX1_addBusinessDays_28 : decode cX1_addBusinessDays 28 = .ok (.ireturn, 1) := dk_172 (dk_at dksX1_addBusinessDays_1 4 rfl rfl)
abbrev cX1_businessDays : ByteArray := prog_1_method_24_code
def yX1_businessDays : MethodName := ⟨RX1, "businessDays", "(II)I"⟩
def dkwX1_businessDays_2 : List UInt8 := [29, 172]
abbrev dktX1_businessDays_2 : List UInt8 := dkwX1_businessDays_2 ++ []
def dkwX1_businessDays_1 : List UInt8 := [180, 0, 141, 21, 4, 182, 0, 145, 153, 0, 7, 4, 167, 0, 4, 3, 96, 62, 132, 4, 1, 167, 255, 224]
abbrev dktX1_businessDays_1 : List UInt8 := dkwX1_businessDays_1 ++ dktX1_businessDays_2
def dkwX1_businessDays_0 : List UInt8 := [27, 184, 0, 138, 28, 184, 0, 138, 3, 62, 27, 54, 4, 21, 4, 28, 162, 0, 32, 29, 42, 180, 0, 32]
abbrev dktX1_businessDays_0 : List UInt8 := dkwX1_businessDays_0 ++ dktX1_businessDays_1
theorem dksX1_businessDays_0 : cX1_businessDays.data.toList.drop 0 = dktX1_businessDays_0 := by decide +kernel
theorem dksX1_businessDays_1 : cX1_businessDays.data.toList.drop 24 = dktX1_businessDays_1 := dk_seg dksX1_businessDays_0 24 rfl rfl
theorem dksX1_businessDays_2 : cX1_businessDays.data.toList.drop 48 = dktX1_businessDays_2 := dk_seg dksX1_businessDays_1 24 rfl rfl
theorem dX1_businessDays_0 : decode cX1_businessDays 0 = .ok (.iload_n 1, 1) := dk_27 (dk_at dksX1_businessDays_0 0 rfl rfl)
theorem dX1_businessDays_1 : decode cX1_businessDays 1 = .ok (.invokestatic 138, 3) := dk_184 0 138 (dk_at dksX1_businessDays_0 1 rfl rfl)
theorem dX1_businessDays_4 : decode cX1_businessDays 4 = .ok (.iload_n 2, 1) := dk_28 (dk_at dksX1_businessDays_0 4 rfl rfl)
theorem dX1_businessDays_5 : decode cX1_businessDays 5 = .ok (.invokestatic 138, 3) := dk_184 0 138 (dk_at dksX1_businessDays_0 5 rfl rfl)
theorem dX1_businessDays_8 : decode cX1_businessDays 8 = .ok (.iconst 0, 1) := dk_3 (dk_at dksX1_businessDays_0 8 rfl rfl)
theorem dX1_businessDays_9 : decode cX1_businessDays 9 = .ok (.istore_n 3, 1) := dk_62 (dk_at dksX1_businessDays_0 9 rfl rfl)
theorem dX1_businessDays_10 : decode cX1_businessDays 10 = .ok (.iload_n 1, 1) := dk_27 (dk_at dksX1_businessDays_0 10 rfl rfl)
theorem dX1_businessDays_11 : decode cX1_businessDays 11 = .ok (.istore 4, 2) := dk_54 4 (dk_at dksX1_businessDays_0 11 rfl rfl)
theorem dX1_businessDays_13 : decode cX1_businessDays 13 = .ok (.iload 4, 2) := dk_21 4 (dk_at dksX1_businessDays_0 13 rfl rfl)
theorem dX1_businessDays_15 : decode cX1_businessDays 15 = .ok (.iload_n 2, 1) := dk_28 (dk_at dksX1_businessDays_0 15 rfl rfl)
theorem dX1_businessDays_16 : decode cX1_businessDays 16 = .ok (.if_icmp .ge 32, 3) := dk_162 0 32 (dk_at dksX1_businessDays_0 16 rfl rfl)
theorem dX1_businessDays_19 : decode cX1_businessDays 19 = .ok (.iload_n 3, 1) := dk_29 (dk_at dksX1_businessDays_0 19 rfl rfl)
theorem dX1_businessDays_20 : decode cX1_businessDays 20 = .ok (.aload_n 0, 1) := dk_42 (dk_at dksX1_businessDays_0 20 rfl rfl)
theorem dX1_businessDays_21 : decode cX1_businessDays 21 = .ok (.getfield 32, 3) := dk_180 0 32 (dk_at dksX1_businessDays_0 21 rfl rfl)
theorem dX1_businessDays_24 : decode cX1_businessDays 24 = .ok (.getfield 141, 3) := dk_180 0 141 (dk_at dksX1_businessDays_1 0 rfl rfl)
theorem dX1_businessDays_27 : decode cX1_businessDays 27 = .ok (.iload 4, 2) := dk_21 4 (dk_at dksX1_businessDays_1 3 rfl rfl)
theorem dX1_businessDays_29 : decode cX1_businessDays 29 = .ok (.invokevirtual 145, 3) := dk_182 0 145 (dk_at dksX1_businessDays_1 5 rfl rfl)
theorem dX1_businessDays_32 : decode cX1_businessDays 32 = .ok (.ifCond .eq 7, 3) := dk_153 0 7 (dk_at dksX1_businessDays_1 8 rfl rfl)
theorem dX1_businessDays_35 : decode cX1_businessDays 35 = .ok (.iconst 1, 1) := dk_4 (dk_at dksX1_businessDays_1 11 rfl rfl)
theorem dX1_businessDays_36 : decode cX1_businessDays 36 = .ok (.goto 4, 3) := dk_167 0 4 (dk_at dksX1_businessDays_1 12 rfl rfl)
theorem dX1_businessDays_39 : decode cX1_businessDays 39 = .ok (.iconst 0, 1) := dk_3 (dk_at dksX1_businessDays_1 15 rfl rfl)
theorem dX1_businessDays_40 : decode cX1_businessDays 40 = .ok (.iadd, 1) := dk_96 (dk_at dksX1_businessDays_1 16 rfl rfl)
theorem dX1_businessDays_41 : decode cX1_businessDays 41 = .ok (.istore_n 3, 1) := dk_62 (dk_at dksX1_businessDays_1 17 rfl rfl)
theorem dX1_businessDays_42 : decode cX1_businessDays 42 = .ok (.iinc 4 1, 3) := dk_132 4 1 (dk_at dksX1_businessDays_1 18 rfl rfl)
theorem dX1_businessDays_45 : decode cX1_businessDays 45 = .ok (.goto (-32), 3) := dk_167 255 224 (dk_at dksX1_businessDays_1 21 rfl rfl)
theorem dX1_businessDays_48 : decode cX1_businessDays 48 = .ok (.iload_n 3, 1) := dk_29 (dk_at dksX1_businessDays_2 0 rfl rfl)
theorem dX1_businessDays_49 : decode cX1_businessDays 49 = .ok (.ireturn, 1) := dk_172 (dk_at dksX1_businessDays_2 1 rfl rfl)
abbrev cX1_parent : ByteArray := prog_1_method_25_code
def yX1_parent : MethodName := ⟨RX1, "parent", "(I)I"⟩
def dkwX1_parent_0 : List UInt8 := [42, 27, 182, 0, 159, 180, 0, 163, 172]
abbrev dktX1_parent_0 : List UInt8 := dkwX1_parent_0 ++ []
theorem dksX1_parent_0 : cX1_parent.data.toList.drop 0 = dktX1_parent_0 := by decide +kernel
theorem dX1_parent_0 : decode cX1_parent 0 = .ok (.aload_n 0, 1) := dk_42 (dk_at dksX1_parent_0 0 rfl rfl)
theorem dX1_parent_1 : decode cX1_parent 1 = .ok (.iload_n 1, 1) := dk_27 (dk_at dksX1_parent_0 1 rfl rfl)
theorem dX1_parent_2 : decode cX1_parent 2 = .ok (.invokevirtual 159, 3) := dk_182 0 159 (dk_at dksX1_parent_0 2 rfl rfl)
theorem dX1_parent_5 : decode cX1_parent 5 = .ok (.getfield 163, 3) := dk_180 0 163 (dk_at dksX1_parent_0 5 rfl rfl)
theorem dX1_parent_8 : decode cX1_parent 8 = .ok (.ireturn, 1) := dk_172 (dk_at dksX1_parent_0 8 rfl rfl)
abbrev cX1_creditAt : ByteArray := prog_1_method_10_code
def yX1_creditAt : MethodName := ⟨RX1, "creditAt", "(I)LDocumentaryCreditDesk$Credit;"⟩
def dkwX1_creditAt_0 : List UInt8 := [42, 27, 182, 0, 73, 42, 180, 0, 32, 180, 0, 59, 27, 182, 0, 81, 192, 0, 85, 176]
abbrev dktX1_creditAt_0 : List UInt8 := dkwX1_creditAt_0 ++ []
theorem dksX1_creditAt_0 : cX1_creditAt.data.toList.drop 0 = dktX1_creditAt_0 := by decide +kernel
theorem dX1_creditAt_0 : decode cX1_creditAt 0 = .ok (.aload_n 0, 1) := dk_42 (dk_at dksX1_creditAt_0 0 rfl rfl)
theorem dX1_creditAt_1 : decode cX1_creditAt 1 = .ok (.iload_n 1, 1) := dk_27 (dk_at dksX1_creditAt_0 1 rfl rfl)
theorem dX1_creditAt_2 : decode cX1_creditAt 2 = .ok (.invokevirtual 73, 3) := dk_182 0 73 (dk_at dksX1_creditAt_0 2 rfl rfl)
theorem dX1_creditAt_5 : decode cX1_creditAt 5 = .ok (.aload_n 0, 1) := dk_42 (dk_at dksX1_creditAt_0 5 rfl rfl)
theorem dX1_creditAt_6 : decode cX1_creditAt 6 = .ok (.getfield 32, 3) := dk_180 0 32 (dk_at dksX1_creditAt_0 6 rfl rfl)
theorem dX1_creditAt_9 : decode cX1_creditAt 9 = .ok (.getfield 59, 3) := dk_180 0 59 (dk_at dksX1_creditAt_0 9 rfl rfl)
theorem dX1_creditAt_12 : decode cX1_creditAt 12 = .ok (.iload_n 1, 1) := dk_27 (dk_at dksX1_creditAt_0 12 rfl rfl)
theorem dX1_creditAt_13 : decode cX1_creditAt 13 = .ok (.invokevirtual 81, 3) := dk_182 0 81 (dk_at dksX1_creditAt_0 13 rfl rfl)
theorem dX1_creditAt_16 : decode cX1_creditAt 16 = .ok (.checkcast 85, 3) := dk_192 0 85 (dk_at dksX1_creditAt_0 16 rfl rfl)
theorem dX1_creditAt_19 : decode cX1_creditAt 19 = .ok (.areturn, 1) := dk_176 (dk_at dksX1_creditAt_0 19 rfl rfl)
abbrev cX1_requireCredit : ByteArray := prog_1_method_8_code
def yX1_requireCredit : MethodName := ⟨RX1, "requireCredit", "(I)V"⟩
def dkwX1_requireCredit_0 : List UInt8 := [27, 42, 180, 0, 32, 180, 0, 59, 182, 0, 63, 184, 0, 69, 177]
abbrev dktX1_requireCredit_0 : List UInt8 := dkwX1_requireCredit_0 ++ []
theorem dksX1_requireCredit_0 : cX1_requireCredit.data.toList.drop 0 = dktX1_requireCredit_0 := by decide +kernel
theorem dX1_requireCredit_0 : decode cX1_requireCredit 0 = .ok (.iload_n 1, 1) := dk_27 (dk_at dksX1_requireCredit_0 0 rfl rfl)
theorem dX1_requireCredit_1 : decode cX1_requireCredit 1 = .ok (.aload_n 0, 1) := dk_42 (dk_at dksX1_requireCredit_0 1 rfl rfl)
theorem dX1_requireCredit_2 : decode cX1_requireCredit 2 = .ok (.getfield 32, 3) := dk_180 0 32 (dk_at dksX1_requireCredit_0 2 rfl rfl)
theorem dX1_requireCredit_5 : decode cX1_requireCredit 5 = .ok (.getfield 59, 3) := dk_180 0 59 (dk_at dksX1_requireCredit_0 5 rfl rfl)
theorem dX1_requireCredit_8 : decode cX1_requireCredit 8 = .ok (.invokevirtual 63, 3) := dk_182 0 63 (dk_at dksX1_requireCredit_0 8 rfl rfl)
theorem dX1_requireCredit_11 : decode cX1_requireCredit 11 = .ok (.invokestatic 69, 3) := dk_184 0 69 (dk_at dksX1_requireCredit_0 11 rfl rfl)
theorem dX1_requireCredit_14 : decode cX1_requireCredit 14 = .ok (.return_, 1) := dk_177 (dk_at dksX1_requireCredit_0 14 rfl rfl)
abbrev cX1_requireIndex : ByteArray := prog_1_method_4_code
def yX1_requireIndex : MethodName := ⟨RX1, "requireIndex", "(II)V"⟩
def dkwX1_requireIndex_0 : List UInt8 := [26, 133, 9, 27, 4, 100, 133, 184, 0, 40, 154, 0, 11, 187, 0, 44, 89, 183, 0, 46, 191, 177]
abbrev dktX1_requireIndex_0 : List UInt8 := dkwX1_requireIndex_0 ++ []
theorem dksX1_requireIndex_0 : cX1_requireIndex.data.toList.drop 0 = dktX1_requireIndex_0 := by decide +kernel
theorem dX1_requireIndex_0 : decode cX1_requireIndex 0 = .ok (.iload_n 0, 1) := dk_26 (dk_at dksX1_requireIndex_0 0 rfl rfl)
theorem dX1_requireIndex_1 : decode cX1_requireIndex 1 = .ok (.i2l, 1) := dk_133 (dk_at dksX1_requireIndex_0 1 rfl rfl)
theorem dX1_requireIndex_2 : decode cX1_requireIndex 2 = .ok (.lconst 0, 1) := dk_9 (dk_at dksX1_requireIndex_0 2 rfl rfl)
theorem dX1_requireIndex_3 : decode cX1_requireIndex 3 = .ok (.iload_n 1, 1) := dk_27 (dk_at dksX1_requireIndex_0 3 rfl rfl)
theorem dX1_requireIndex_4 : decode cX1_requireIndex 4 = .ok (.iconst 1, 1) := dk_4 (dk_at dksX1_requireIndex_0 4 rfl rfl)
theorem dX1_requireIndex_5 : decode cX1_requireIndex 5 = .ok (.isub, 1) := dk_100 (dk_at dksX1_requireIndex_0 5 rfl rfl)
theorem dX1_requireIndex_6 : decode cX1_requireIndex 6 = .ok (.i2l, 1) := dk_133 (dk_at dksX1_requireIndex_0 6 rfl rfl)
theorem dX1_requireIndex_7 : decode cX1_requireIndex 7 = .ok (.invokestatic 40, 3) := dk_184 0 40 (dk_at dksX1_requireIndex_0 7 rfl rfl)
theorem dX1_requireIndex_10 : decode cX1_requireIndex 10 = .ok (.ifCond .ne 11, 3) := dk_154 0 11 (dk_at dksX1_requireIndex_0 10 rfl rfl)
theorem dX1_requireIndex_13 : decode cX1_requireIndex 13 = .ok (.new 44, 3) := dk_187 0 44 (dk_at dksX1_requireIndex_0 13 rfl rfl)
theorem dX1_requireIndex_16 : decode cX1_requireIndex 16 = .ok (.dup, 1) := dk_89 (dk_at dksX1_requireIndex_0 16 rfl rfl)
theorem dX1_requireIndex_17 : decode cX1_requireIndex 17 = .ok (.invokespecial 46, 3) := dk_183 0 46 (dk_at dksX1_requireIndex_0 17 rfl rfl)
theorem dX1_requireIndex_20 : decode cX1_requireIndex 20 = .ok (.athrow, 1) := dk_191 (dk_at dksX1_requireIndex_0 20 rfl rfl)
theorem dX1_requireIndex_21 : decode cX1_requireIndex 21 = .ok (.return_, 1) := dk_177 (dk_at dksX1_requireIndex_0 21 rfl rfl)
abbrev cX1_bound : ByteArray := prog_1_method_26_code
def yX1_bound : MethodName := ⟨RX1, "bound", "(IZ)I"⟩
def dkwX1_bound_0 : List UInt8 := [28, 153, 0, 14, 42, 27, 182, 0, 159, 182, 0, 166, 167, 0, 11, 42, 27, 182, 0, 159, 182, 0, 169, 172]
abbrev dktX1_bound_0 : List UInt8 := dkwX1_bound_0 ++ []
theorem dksX1_bound_0 : cX1_bound.data.toList.drop 0 = dktX1_bound_0 := by decide +kernel
theorem dX1_bound_0 : decode cX1_bound 0 = .ok (.iload_n 2, 1) := dk_28 (dk_at dksX1_bound_0 0 rfl rfl)
theorem dX1_bound_1 : decode cX1_bound 1 = .ok (.ifCond .eq 14, 3) := dk_153 0 14 (dk_at dksX1_bound_0 1 rfl rfl)
theorem dX1_bound_4 : decode cX1_bound 4 = .ok (.aload_n 0, 1) := dk_42 (dk_at dksX1_bound_0 4 rfl rfl)
theorem dX1_bound_5 : decode cX1_bound 5 = .ok (.iload_n 1, 1) := dk_27 (dk_at dksX1_bound_0 5 rfl rfl)
theorem dX1_bound_6 : decode cX1_bound 6 = .ok (.invokevirtual 159, 3) := dk_182 0 159 (dk_at dksX1_bound_0 6 rfl rfl)
theorem dX1_bound_9 : decode cX1_bound 9 = .ok (.invokevirtual 166, 3) := dk_182 0 166 (dk_at dksX1_bound_0 9 rfl rfl)
theorem dX1_bound_12 : decode cX1_bound 12 = .ok (.goto 11, 3) := dk_167 0 11 (dk_at dksX1_bound_0 12 rfl rfl)
theorem dX1_bound_15 : decode cX1_bound 15 = .ok (.aload_n 0, 1) := dk_42 (dk_at dksX1_bound_0 15 rfl rfl)
theorem dX1_bound_16 : decode cX1_bound 16 = .ok (.iload_n 1, 1) := dk_27 (dk_at dksX1_bound_0 16 rfl rfl)
theorem dX1_bound_17 : decode cX1_bound 17 = .ok (.invokevirtual 159, 3) := dk_182 0 159 (dk_at dksX1_bound_0 17 rfl rfl)
theorem dX1_bound_20 : decode cX1_bound 20 = .ok (.invokevirtual 169, 3) := dk_182 0 169 (dk_at dksX1_bound_0 20 rfl rfl)
theorem dX1_bound_23 : decode cX1_bound 23 = .ok (.ireturn, 1) := dk_172 (dk_at dksX1_bound_0 23 rfl rfl)
abbrev cX1_expiry : ByteArray := prog_1_method_27_code
def yX1_expiry : MethodName := ⟨RX1, "expiry", "(I)I"⟩
def dkwX1_expiry_0 : List UInt8 := [42, 27, 182, 0, 159, 180, 0, 172, 172]
abbrev dktX1_expiry_0 : List UInt8 := dkwX1_expiry_0 ++ []
theorem dksX1_expiry_0 : cX1_expiry.data.toList.drop 0 = dktX1_expiry_0 := by decide +kernel
theorem dX1_expiry_0 : decode cX1_expiry 0 = .ok (.aload_n 0, 1) := dk_42 (dk_at dksX1_expiry_0 0 rfl rfl)
theorem dX1_expiry_1 : decode cX1_expiry 1 = .ok (.iload_n 1, 1) := dk_27 (dk_at dksX1_expiry_0 1 rfl rfl)
theorem dX1_expiry_2 : decode cX1_expiry 2 = .ok (.invokevirtual 159, 3) := dk_182 0 159 (dk_at dksX1_expiry_0 2 rfl rfl)
theorem dX1_expiry_5 : decode cX1_expiry 5 = .ok (.getfield 172, 3) := dk_180 0 172 (dk_at dksX1_expiry_0 5 rfl rfl)
theorem dX1_expiry_8 : decode cX1_expiry 8 = .ok (.ireturn, 1) := dk_172 (dk_at dksX1_expiry_0 8 rfl rfl)
abbrev cX1_drawn : ByteArray := prog_1_method_28_code
def yX1_drawn : MethodName := ⟨RX1, "drawn", "(I)I"⟩
def dkwX1_drawn_0 : List UInt8 := [42, 27, 182, 0, 73, 42, 180, 0, 32, 27, 182, 0, 175, 172]
abbrev dktX1_drawn_0 : List UInt8 := dkwX1_drawn_0 ++ []
theorem dksX1_drawn_0 : cX1_drawn.data.toList.drop 0 = dktX1_drawn_0 := by decide +kernel
theorem dX1_drawn_0 : decode cX1_drawn 0 = .ok (.aload_n 0, 1) := dk_42 (dk_at dksX1_drawn_0 0 rfl rfl)
theorem dX1_drawn_1 : decode cX1_drawn 1 = .ok (.iload_n 1, 1) := dk_27 (dk_at dksX1_drawn_0 1 rfl rfl)
theorem dX1_drawn_2 : decode cX1_drawn 2 = .ok (.invokevirtual 73, 3) := dk_182 0 73 (dk_at dksX1_drawn_0 2 rfl rfl)
theorem dX1_drawn_5 : decode cX1_drawn 5 = .ok (.aload_n 0, 1) := dk_42 (dk_at dksX1_drawn_0 5 rfl rfl)
theorem dX1_drawn_6 : decode cX1_drawn 6 = .ok (.getfield 32, 3) := dk_180 0 32 (dk_at dksX1_drawn_0 6 rfl rfl)
theorem dX1_drawn_9 : decode cX1_drawn 9 = .ok (.iload_n 1, 1) := dk_27 (dk_at dksX1_drawn_0 9 rfl rfl)
theorem dX1_drawn_10 : decode cX1_drawn 10 = .ok (.invokevirtual 175, 3) := dk_182 0 175 (dk_at dksX1_drawn_0 10 rfl rfl)
theorem dX1_drawn_13 : decode cX1_drawn 13 = .ok (.ireturn, 1) := dk_172 (dk_at dksX1_drawn_0 13 rfl rfl)
abbrev cX1_transferred : ByteArray := prog_1_method_29_code
def yX1_transferred : MethodName := ⟨RX1, "transferred", "(I)I"⟩
def dkwX1_transferred_0 : List UInt8 := [42, 27, 182, 0, 73, 42, 180, 0, 32, 27, 182, 0, 178, 172]
abbrev dktX1_transferred_0 : List UInt8 := dkwX1_transferred_0 ++ []
theorem dksX1_transferred_0 : cX1_transferred.data.toList.drop 0 = dktX1_transferred_0 := by decide +kernel
theorem dX1_transferred_0 : decode cX1_transferred 0 = .ok (.aload_n 0, 1) := dk_42 (dk_at dksX1_transferred_0 0 rfl rfl)
theorem dX1_transferred_1 : decode cX1_transferred 1 = .ok (.iload_n 1, 1) := dk_27 (dk_at dksX1_transferred_0 1 rfl rfl)
theorem dX1_transferred_2 : decode cX1_transferred 2 = .ok (.invokevirtual 73, 3) := dk_182 0 73 (dk_at dksX1_transferred_0 2 rfl rfl)
theorem dX1_transferred_5 : decode cX1_transferred 5 = .ok (.aload_n 0, 1) := dk_42 (dk_at dksX1_transferred_0 5 rfl rfl)
theorem dX1_transferred_6 : decode cX1_transferred 6 = .ok (.getfield 32, 3) := dk_180 0 32 (dk_at dksX1_transferred_0 6 rfl rfl)
theorem dX1_transferred_9 : decode cX1_transferred 9 = .ok (.iload_n 1, 1) := dk_27 (dk_at dksX1_transferred_0 9 rfl rfl)
theorem dX1_transferred_10 : decode cX1_transferred 10 = .ok (.invokevirtual 178, 3) := dk_182 0 178 (dk_at dksX1_transferred_0 10 rfl rfl)
theorem dX1_transferred_13 : decode cX1_transferred 13 = .ok (.ireturn, 1) := dk_172 (dk_at dksX1_transferred_0 13 rfl rfl)
abbrev cX1_available : ByteArray := prog_1_method_30_code
def yX1_available : MethodName := ⟨RX1, "available", "(I)I"⟩
def dkwX1_available_0 : List UInt8 := [42, 27, 182, 0, 73, 42, 180, 0, 32, 27, 182, 0, 181, 172]
abbrev dktX1_available_0 : List UInt8 := dkwX1_available_0 ++ []
theorem dksX1_available_0 : cX1_available.data.toList.drop 0 = dktX1_available_0 := by decide +kernel
theorem dX1_available_0 : decode cX1_available 0 = .ok (.aload_n 0, 1) := dk_42 (dk_at dksX1_available_0 0 rfl rfl)
theorem dX1_available_1 : decode cX1_available 1 = .ok (.iload_n 1, 1) := dk_27 (dk_at dksX1_available_0 1 rfl rfl)
theorem dX1_available_2 : decode cX1_available 2 = .ok (.invokevirtual 73, 3) := dk_182 0 73 (dk_at dksX1_available_0 2 rfl rfl)
theorem dX1_available_5 : decode cX1_available 5 = .ok (.aload_n 0, 1) := dk_42 (dk_at dksX1_available_0 5 rfl rfl)
theorem dX1_available_6 : decode cX1_available 6 = .ok (.getfield 32, 3) := dk_180 0 32 (dk_at dksX1_available_0 6 rfl rfl)
theorem dX1_available_9 : decode cX1_available 9 = .ok (.iload_n 1, 1) := dk_27 (dk_at dksX1_available_0 9 rfl rfl)
theorem dX1_available_10 : decode cX1_available 10 = .ok (.invokevirtual 181, 3) := dk_182 0 181 (dk_at dksX1_available_0 10 rfl rfl)
theorem dX1_available_13 : decode cX1_available 13 = .ok (.ireturn, 1) := dk_172 (dk_at dksX1_available_0 13 rfl rfl)
abbrev cX1_creditOf : ByteArray := prog_1_method_31_code
def yX1_creditOf : MethodName := ⟨RX1, "creditOf", "(I)I"⟩
def dkwX1_creditOf_0 : List UInt8 := [42, 27, 182, 0, 184, 180, 0, 188, 172]
abbrev dktX1_creditOf_0 : List UInt8 := dkwX1_creditOf_0 ++ []
theorem dksX1_creditOf_0 : cX1_creditOf.data.toList.drop 0 = dktX1_creditOf_0 := by decide +kernel
theorem dX1_creditOf_0 : decode cX1_creditOf 0 = .ok (.aload_n 0, 1) := dk_42 (dk_at dksX1_creditOf_0 0 rfl rfl)
theorem dX1_creditOf_1 : decode cX1_creditOf 1 = .ok (.iload_n 1, 1) := dk_27 (dk_at dksX1_creditOf_0 1 rfl rfl)
theorem dX1_creditOf_2 : decode cX1_creditOf 2 = .ok (.invokevirtual 184, 3) := dk_182 0 184 (dk_at dksX1_creditOf_0 2 rfl rfl)
theorem dX1_creditOf_5 : decode cX1_creditOf 5 = .ok (.getfield 188, 3) := dk_180 0 188 (dk_at dksX1_creditOf_0 5 rfl rfl)
theorem dX1_creditOf_8 : decode cX1_creditOf 8 = .ok (.ireturn, 1) := dk_172 (dk_at dksX1_creditOf_0 8 rfl rfl)
abbrev cX1_presentationAt : ByteArray := prog_1_method_11_code
def yX1_presentationAt : MethodName := ⟨RX1, "presentationAt", "(I)LDocumentaryCreditDesk$Presentation;"⟩
def dkwX1_presentationAt_1 : List UInt8 := [182, 0, 81, 192, 0, 90, 176]
abbrev dktX1_presentationAt_1 : List UInt8 := dkwX1_presentationAt_1 ++ []
def dkwX1_presentationAt_0 : List UInt8 := [27, 42, 180, 0, 32, 180, 0, 87, 182, 0, 63, 184, 0, 69, 42, 180, 0, 32, 180, 0, 87, 27]
abbrev dktX1_presentationAt_0 : List UInt8 := dkwX1_presentationAt_0 ++ dktX1_presentationAt_1
theorem dksX1_presentationAt_0 : cX1_presentationAt.data.toList.drop 0 = dktX1_presentationAt_0 := by decide +kernel
theorem dksX1_presentationAt_1 : cX1_presentationAt.data.toList.drop 22 = dktX1_presentationAt_1 := dk_seg dksX1_presentationAt_0 22 rfl rfl
theorem dX1_presentationAt_0 : decode cX1_presentationAt 0 = .ok (.iload_n 1, 1) := dk_27 (dk_at dksX1_presentationAt_0 0 rfl rfl)
theorem dX1_presentationAt_1 : decode cX1_presentationAt 1 = .ok (.aload_n 0, 1) := dk_42 (dk_at dksX1_presentationAt_0 1 rfl rfl)
theorem dX1_presentationAt_2 : decode cX1_presentationAt 2 = .ok (.getfield 32, 3) := dk_180 0 32 (dk_at dksX1_presentationAt_0 2 rfl rfl)
theorem dX1_presentationAt_5 : decode cX1_presentationAt 5 = .ok (.getfield 87, 3) := dk_180 0 87 (dk_at dksX1_presentationAt_0 5 rfl rfl)
theorem dX1_presentationAt_8 : decode cX1_presentationAt 8 = .ok (.invokevirtual 63, 3) := dk_182 0 63 (dk_at dksX1_presentationAt_0 8 rfl rfl)
theorem dX1_presentationAt_11 : decode cX1_presentationAt 11 = .ok (.invokestatic 69, 3) := dk_184 0 69 (dk_at dksX1_presentationAt_0 11 rfl rfl)
theorem dX1_presentationAt_14 : decode cX1_presentationAt 14 = .ok (.aload_n 0, 1) := dk_42 (dk_at dksX1_presentationAt_0 14 rfl rfl)
theorem dX1_presentationAt_15 : decode cX1_presentationAt 15 = .ok (.getfield 32, 3) := dk_180 0 32 (dk_at dksX1_presentationAt_0 15 rfl rfl)
theorem dX1_presentationAt_18 : decode cX1_presentationAt 18 = .ok (.getfield 87, 3) := dk_180 0 87 (dk_at dksX1_presentationAt_0 18 rfl rfl)
theorem dX1_presentationAt_21 : decode cX1_presentationAt 21 = .ok (.iload_n 1, 1) := dk_27 (dk_at dksX1_presentationAt_0 21 rfl rfl)
theorem dX1_presentationAt_22 : decode cX1_presentationAt 22 = .ok (.invokevirtual 81, 3) := dk_182 0 81 (dk_at dksX1_presentationAt_1 0 rfl rfl)
theorem dX1_presentationAt_25 : decode cX1_presentationAt 25 = .ok (.checkcast 90, 3) := dk_192 0 90 (dk_at dksX1_presentationAt_1 3 rfl rfl)
theorem dX1_presentationAt_28 : decode cX1_presentationAt 28 = .ok (.areturn, 1) := dk_176 (dk_at dksX1_presentationAt_1 6 rfl rfl)
abbrev cX1_state : ByteArray := prog_1_method_32_code
def yX1_state : MethodName := ⟨RX1, "state", "(I)I"⟩
def dkwX1_state_0 : List UInt8 := [42, 27, 182, 0, 184, 180, 0, 191, 172]
abbrev dktX1_state_0 : List UInt8 := dkwX1_state_0 ++ []
theorem dksX1_state_0 : cX1_state.data.toList.drop 0 = dktX1_state_0 := by decide +kernel
theorem dX1_state_0 : decode cX1_state 0 = .ok (.aload_n 0, 1) := dk_42 (dk_at dksX1_state_0 0 rfl rfl)
theorem dX1_state_1 : decode cX1_state 1 = .ok (.iload_n 1, 1) := dk_27 (dk_at dksX1_state_0 1 rfl rfl)
theorem dX1_state_2 : decode cX1_state 2 = .ok (.invokevirtual 184, 3) := dk_182 0 184 (dk_at dksX1_state_0 2 rfl rfl)
theorem dX1_state_5 : decode cX1_state 5 = .ok (.getfield 191, 3) := dk_180 0 191 (dk_at dksX1_state_0 5 rfl rfl)
theorem dX1_state_8 : decode cX1_state 8 = .ok (.ireturn, 1) := dk_172 (dk_at dksX1_state_0 8 rfl rfl)
abbrev cX1_discrepancies : ByteArray := prog_1_method_33_code
def yX1_discrepancies : MethodName := ⟨RX1, "discrepancies", "(I)I"⟩
def dkwX1_discrepancies_0 : List UInt8 := [42, 27, 182, 0, 184, 180, 0, 194, 172]
abbrev dktX1_discrepancies_0 : List UInt8 := dkwX1_discrepancies_0 ++ []
theorem dksX1_discrepancies_0 : cX1_discrepancies.data.toList.drop 0 = dktX1_discrepancies_0 := by decide +kernel
theorem dX1_discrepancies_0 : decode cX1_discrepancies 0 = .ok (.aload_n 0, 1) := dk_42 (dk_at dksX1_discrepancies_0 0 rfl rfl)
theorem dX1_discrepancies_1 : decode cX1_discrepancies 1 = .ok (.iload_n 1, 1) := dk_27 (dk_at dksX1_discrepancies_0 1 rfl rfl)
theorem dX1_discrepancies_2 : decode cX1_discrepancies 2 = .ok (.invokevirtual 184, 3) := dk_182 0 184 (dk_at dksX1_discrepancies_0 2 rfl rfl)
theorem dX1_discrepancies_5 : decode cX1_discrepancies 5 = .ok (.getfield 194, 3) := dk_180 0 194 (dk_at dksX1_discrepancies_0 5 rfl rfl)
theorem dX1_discrepancies_8 : decode cX1_discrepancies 8 = .ok (.ireturn, 1) := dk_172 (dk_at dksX1_discrepancies_0 8 rfl rfl)
abbrev cX1_deadline : ByteArray := prog_1_method_34_code
def yX1_deadline : MethodName := ⟨RX1, "deadline", "(I)I"⟩
def dkwX1_deadline_0 : List UInt8 := [42, 180, 0, 32, 42, 27, 182, 0, 184, 182, 0, 197, 172]
abbrev dktX1_deadline_0 : List UInt8 := dkwX1_deadline_0 ++ []
theorem dksX1_deadline_0 : cX1_deadline.data.toList.drop 0 = dktX1_deadline_0 := by decide +kernel
theorem dX1_deadline_0 : decode cX1_deadline 0 = .ok (.aload_n 0, 1) := dk_42 (dk_at dksX1_deadline_0 0 rfl rfl)
theorem dX1_deadline_1 : decode cX1_deadline 1 = .ok (.getfield 32, 3) := dk_180 0 32 (dk_at dksX1_deadline_0 1 rfl rfl)
theorem dX1_deadline_4 : decode cX1_deadline 4 = .ok (.aload_n 0, 1) := dk_42 (dk_at dksX1_deadline_0 4 rfl rfl)
theorem dX1_deadline_5 : decode cX1_deadline 5 = .ok (.iload_n 1, 1) := dk_27 (dk_at dksX1_deadline_0 5 rfl rfl)
theorem dX1_deadline_6 : decode cX1_deadline 6 = .ok (.invokevirtual 184, 3) := dk_182 0 184 (dk_at dksX1_deadline_0 6 rfl rfl)
theorem dX1_deadline_9 : decode cX1_deadline 9 = .ok (.invokevirtual 197, 3) := dk_182 0 197 (dk_at dksX1_deadline_0 9 rfl rfl)
theorem dX1_deadline_12 : decode cX1_deadline 12 = .ok (.ireturn, 1) := dk_172 (dk_at dksX1_deadline_0 12 rfl rfl)
abbrev cX1_dueDay : ByteArray := prog_1_method_35_code
def yX1_dueDay : MethodName := ⟨RX1, "dueDay", "(I)I"⟩
def dkwX1_dueDay_0 : List UInt8 := [42, 27, 182, 0, 184, 180, 0, 201, 172]
abbrev dktX1_dueDay_0 : List UInt8 := dkwX1_dueDay_0 ++ []
theorem dksX1_dueDay_0 : cX1_dueDay.data.toList.drop 0 = dktX1_dueDay_0 := by decide +kernel
theorem dX1_dueDay_0 : decode cX1_dueDay 0 = .ok (.aload_n 0, 1) := dk_42 (dk_at dksX1_dueDay_0 0 rfl rfl)
theorem dX1_dueDay_1 : decode cX1_dueDay 1 = .ok (.iload_n 1, 1) := dk_27 (dk_at dksX1_dueDay_0 1 rfl rfl)
theorem dX1_dueDay_2 : decode cX1_dueDay 2 = .ok (.invokevirtual 184, 3) := dk_182 0 184 (dk_at dksX1_dueDay_0 2 rfl rfl)
theorem dX1_dueDay_5 : decode cX1_dueDay 5 = .ok (.getfield 201, 3) := dk_180 0 201 (dk_at dksX1_dueDay_0 5 rfl rfl)
theorem dX1_dueDay_8 : decode cX1_dueDay 8 = .ok (.ireturn, 1) := dk_172 (dk_at dksX1_dueDay_0 8 rfl rfl)
abbrev cX1_fee : ByteArray := prog_1_method_36_code
def yX1_fee : MethodName := ⟨RX1, "fee", "(I)I"⟩
def dkwX1_fee_0 : List UInt8 := [42, 180, 0, 32, 42, 27, 182, 0, 184, 182, 0, 204, 172]
abbrev dktX1_fee_0 : List UInt8 := dkwX1_fee_0 ++ []
theorem dksX1_fee_0 : cX1_fee.data.toList.drop 0 = dktX1_fee_0 := by decide +kernel
theorem dX1_fee_0 : decode cX1_fee 0 = .ok (.aload_n 0, 1) := dk_42 (dk_at dksX1_fee_0 0 rfl rfl)
theorem dX1_fee_1 : decode cX1_fee 1 = .ok (.getfield 32, 3) := dk_180 0 32 (dk_at dksX1_fee_0 1 rfl rfl)
theorem dX1_fee_4 : decode cX1_fee 4 = .ok (.aload_n 0, 1) := dk_42 (dk_at dksX1_fee_0 4 rfl rfl)
theorem dX1_fee_5 : decode cX1_fee 5 = .ok (.iload_n 1, 1) := dk_27 (dk_at dksX1_fee_0 5 rfl rfl)
theorem dX1_fee_6 : decode cX1_fee 6 = .ok (.invokevirtual 184, 3) := dk_182 0 184 (dk_at dksX1_fee_0 6 rfl rfl)
theorem dX1_fee_9 : decode cX1_fee 9 = .ok (.invokevirtual 204, 3) := dk_182 0 204 (dk_at dksX1_fee_0 9 rfl rfl)
theorem dX1_fee_12 : decode cX1_fee 12 = .ok (.ireturn, 1) := dk_172 (dk_at dksX1_fee_0 12 rfl rfl)
abbrev cX1_check : ByteArray := prog_1_method_38_code
def yX1_check : MethodName := ⟨RX1, "check", "(IIIII)I"⟩
def dkwX1_check_1 : List UInt8 := [182, 0, 214, 172]
abbrev dktX1_check_1 : List UInt8 := dkwX1_check_1 ++ []
def dkwX1_check_0 : List UInt8 := [42, 27, 28, 29, 21, 4, 21, 5, 182, 0, 210, 42, 180, 0, 32, 27, 28, 29, 21, 4, 21, 5]
abbrev dktX1_check_0 : List UInt8 := dkwX1_check_0 ++ dktX1_check_1
theorem dksX1_check_0 : cX1_check.data.toList.drop 0 = dktX1_check_0 := by decide +kernel
theorem dksX1_check_1 : cX1_check.data.toList.drop 22 = dktX1_check_1 := dk_seg dksX1_check_0 22 rfl rfl
theorem dX1_check_0 : decode cX1_check 0 = .ok (.aload_n 0, 1) := dk_42 (dk_at dksX1_check_0 0 rfl rfl)
theorem dX1_check_1 : decode cX1_check 1 = .ok (.iload_n 1, 1) := dk_27 (dk_at dksX1_check_0 1 rfl rfl)
theorem dX1_check_2 : decode cX1_check 2 = .ok (.iload_n 2, 1) := dk_28 (dk_at dksX1_check_0 2 rfl rfl)
theorem dX1_check_3 : decode cX1_check 3 = .ok (.iload_n 3, 1) := dk_29 (dk_at dksX1_check_0 3 rfl rfl)
theorem dX1_check_4 : decode cX1_check 4 = .ok (.iload 4, 2) := dk_21 4 (dk_at dksX1_check_0 4 rfl rfl)
theorem dX1_check_6 : decode cX1_check 6 = .ok (.iload 5, 2) := dk_21 5 (dk_at dksX1_check_0 6 rfl rfl)
theorem dX1_check_8 : decode cX1_check 8 = .ok (.invokevirtual 210, 3) := dk_182 0 210 (dk_at dksX1_check_0 8 rfl rfl)
theorem dX1_check_11 : decode cX1_check 11 = .ok (.aload_n 0, 1) := dk_42 (dk_at dksX1_check_0 11 rfl rfl)
theorem dX1_check_12 : decode cX1_check 12 = .ok (.getfield 32, 3) := dk_180 0 32 (dk_at dksX1_check_0 12 rfl rfl)
theorem dX1_check_15 : decode cX1_check 15 = .ok (.iload_n 1, 1) := dk_27 (dk_at dksX1_check_0 15 rfl rfl)
theorem dX1_check_16 : decode cX1_check 16 = .ok (.iload_n 2, 1) := dk_28 (dk_at dksX1_check_0 16 rfl rfl)
theorem dX1_check_17 : decode cX1_check 17 = .ok (.iload_n 3, 1) := dk_29 (dk_at dksX1_check_0 17 rfl rfl)
theorem dX1_check_18 : decode cX1_check 18 = .ok (.iload 4, 2) := dk_21 4 (dk_at dksX1_check_0 18 rfl rfl)
theorem dX1_check_20 : decode cX1_check 20 = .ok (.iload 5, 2) := dk_21 5 (dk_at dksX1_check_0 20 rfl rfl)
theorem dX1_check_22 : decode cX1_check 22 = .ok (.invokevirtual 214, 3) := dk_182 0 214 (dk_at dksX1_check_1 0 rfl rfl)
theorem dX1_check_25 : decode cX1_check 25 = .ok (.ireturn, 1) := dk_172 (dk_at dksX1_check_1 3 rfl rfl)
abbrev cX1_requireDrawing : ByteArray := prog_1_method_9_code
def yX1_requireDrawing : MethodName := ⟨RX1, "requireDrawing", "(IIIII)V"⟩
def dkwX1_requireDrawing_2 : List UInt8 := [4, 167, 0, 4, 3, 184, 0, 55, 177]
abbrev dktX1_requireDrawing_2 : List UInt8 := dkwX1_requireDrawing_2 ++ []
def dkwX1_requireDrawing_1 : List UInt8 := [184, 0, 40, 153, 0, 25, 21, 4, 133, 9, 20, 0, 79, 184, 0, 40, 153, 0, 12, 21, 5, 155, 0, 7]
abbrev dktX1_requireDrawing_1 : List UInt8 := dkwX1_requireDrawing_1 ++ dktX1_requireDrawing_2
def dkwX1_requireDrawing_0 : List UInt8 := [42, 27, 182, 0, 73, 28, 133, 9, 20, 0, 53, 184, 0, 40, 153, 0, 37, 29, 133, 10, 20, 0, 77]
abbrev dktX1_requireDrawing_0 : List UInt8 := dkwX1_requireDrawing_0 ++ dktX1_requireDrawing_1
theorem dksX1_requireDrawing_0 : cX1_requireDrawing.data.toList.drop 0 = dktX1_requireDrawing_0 := by decide +kernel
theorem dksX1_requireDrawing_1 : cX1_requireDrawing.data.toList.drop 23 = dktX1_requireDrawing_1 := dk_seg dksX1_requireDrawing_0 23 rfl rfl
theorem dksX1_requireDrawing_2 : cX1_requireDrawing.data.toList.drop 47 = dktX1_requireDrawing_2 := dk_seg dksX1_requireDrawing_1 24 rfl rfl
theorem dX1_requireDrawing_0 : decode cX1_requireDrawing 0 = .ok (.aload_n 0, 1) := dk_42 (dk_at dksX1_requireDrawing_0 0 rfl rfl)
theorem dX1_requireDrawing_1 : decode cX1_requireDrawing 1 = .ok (.iload_n 1, 1) := dk_27 (dk_at dksX1_requireDrawing_0 1 rfl rfl)
theorem dX1_requireDrawing_2 : decode cX1_requireDrawing 2 = .ok (.invokevirtual 73, 3) := dk_182 0 73 (dk_at dksX1_requireDrawing_0 2 rfl rfl)
theorem dX1_requireDrawing_5 : decode cX1_requireDrawing 5 = .ok (.iload_n 2, 1) := dk_28 (dk_at dksX1_requireDrawing_0 5 rfl rfl)
theorem dX1_requireDrawing_6 : decode cX1_requireDrawing 6 = .ok (.i2l, 1) := dk_133 (dk_at dksX1_requireDrawing_0 6 rfl rfl)
theorem dX1_requireDrawing_7 : decode cX1_requireDrawing 7 = .ok (.lconst 0, 1) := dk_9 (dk_at dksX1_requireDrawing_0 7 rfl rfl)
theorem dX1_requireDrawing_8 : decode cX1_requireDrawing 8 = .ok (.ldc2_w 53, 3) := dk_20 0 53 (dk_at dksX1_requireDrawing_0 8 rfl rfl)
theorem dX1_requireDrawing_11 : decode cX1_requireDrawing 11 = .ok (.invokestatic 40, 3) := dk_184 0 40 (dk_at dksX1_requireDrawing_0 11 rfl rfl)
theorem dX1_requireDrawing_14 : decode cX1_requireDrawing 14 = .ok (.ifCond .eq 37, 3) := dk_153 0 37 (dk_at dksX1_requireDrawing_0 14 rfl rfl)
theorem dX1_requireDrawing_17 : decode cX1_requireDrawing 17 = .ok (.iload_n 3, 1) := dk_29 (dk_at dksX1_requireDrawing_0 17 rfl rfl)
theorem dX1_requireDrawing_18 : decode cX1_requireDrawing 18 = .ok (.i2l, 1) := dk_133 (dk_at dksX1_requireDrawing_0 18 rfl rfl)
theorem dX1_requireDrawing_19 : decode cX1_requireDrawing 19 = .ok (.lconst 1, 1) := dk_10 (dk_at dksX1_requireDrawing_0 19 rfl rfl)
theorem dX1_requireDrawing_20 : decode cX1_requireDrawing 20 = .ok (.ldc2_w 77, 3) := dk_20 0 77 (dk_at dksX1_requireDrawing_0 20 rfl rfl)
theorem dX1_requireDrawing_23 : decode cX1_requireDrawing 23 = .ok (.invokestatic 40, 3) := dk_184 0 40 (dk_at dksX1_requireDrawing_1 0 rfl rfl)
theorem dX1_requireDrawing_26 : decode cX1_requireDrawing 26 = .ok (.ifCond .eq 25, 3) := dk_153 0 25 (dk_at dksX1_requireDrawing_1 3 rfl rfl)
theorem dX1_requireDrawing_29 : decode cX1_requireDrawing 29 = .ok (.iload 4, 2) := dk_21 4 (dk_at dksX1_requireDrawing_1 6 rfl rfl)
theorem dX1_requireDrawing_31 : decode cX1_requireDrawing 31 = .ok (.i2l, 1) := dk_133 (dk_at dksX1_requireDrawing_1 8 rfl rfl)
theorem dX1_requireDrawing_32 : decode cX1_requireDrawing 32 = .ok (.lconst 0, 1) := dk_9 (dk_at dksX1_requireDrawing_1 9 rfl rfl)
theorem dX1_requireDrawing_33 : decode cX1_requireDrawing 33 = .ok (.ldc2_w 79, 3) := dk_20 0 79 (dk_at dksX1_requireDrawing_1 10 rfl rfl)
theorem dX1_requireDrawing_36 : decode cX1_requireDrawing 36 = .ok (.invokestatic 40, 3) := dk_184 0 40 (dk_at dksX1_requireDrawing_1 13 rfl rfl)
theorem dX1_requireDrawing_39 : decode cX1_requireDrawing 39 = .ok (.ifCond .eq 12, 3) := dk_153 0 12 (dk_at dksX1_requireDrawing_1 16 rfl rfl)
theorem dX1_requireDrawing_42 : decode cX1_requireDrawing 42 = .ok (.iload 5, 2) := dk_21 5 (dk_at dksX1_requireDrawing_1 19 rfl rfl)
theorem dX1_requireDrawing_44 : decode cX1_requireDrawing 44 = .ok (.ifCond .lt 7, 3) := dk_155 0 7 (dk_at dksX1_requireDrawing_1 21 rfl rfl)
theorem dX1_requireDrawing_47 : decode cX1_requireDrawing 47 = .ok (.iconst 1, 1) := dk_4 (dk_at dksX1_requireDrawing_2 0 rfl rfl)
theorem dX1_requireDrawing_48 : decode cX1_requireDrawing 48 = .ok (.goto 4, 3) := dk_167 0 4 (dk_at dksX1_requireDrawing_2 1 rfl rfl)
theorem dX1_requireDrawing_51 : decode cX1_requireDrawing 51 = .ok (.iconst 0, 1) := dk_3 (dk_at dksX1_requireDrawing_2 4 rfl rfl)
theorem dX1_requireDrawing_52 : decode cX1_requireDrawing 52 = .ok (.invokestatic 55, 3) := dk_184 0 55 (dk_at dksX1_requireDrawing_2 5 rfl rfl)
theorem dX1_requireDrawing_55 : decode cX1_requireDrawing 55 = .ok (.return_, 1) := dk_177 (dk_at dksX1_requireDrawing_2 8 rfl rfl)
abbrev cX1_lastDay : ByteArray := prog_1_method_39_code
def yX1_lastDay : MethodName := ⟨RX1, "lastDay", "(II)I"⟩
def dkwX1_lastDay_0 : List UInt8 := [42, 27, 182, 0, 73, 28, 184, 0, 138, 42, 180, 0, 32, 27, 28, 182, 0, 218, 172]
abbrev dktX1_lastDay_0 : List UInt8 := dkwX1_lastDay_0 ++ []
theorem dksX1_lastDay_0 : cX1_lastDay.data.toList.drop 0 = dktX1_lastDay_0 := by decide +kernel
theorem dX1_lastDay_0 : decode cX1_lastDay 0 = .ok (.aload_n 0, 1) := dk_42 (dk_at dksX1_lastDay_0 0 rfl rfl)
theorem dX1_lastDay_1 : decode cX1_lastDay 1 = .ok (.iload_n 1, 1) := dk_27 (dk_at dksX1_lastDay_0 1 rfl rfl)
theorem dX1_lastDay_2 : decode cX1_lastDay 2 = .ok (.invokevirtual 73, 3) := dk_182 0 73 (dk_at dksX1_lastDay_0 2 rfl rfl)
theorem dX1_lastDay_5 : decode cX1_lastDay 5 = .ok (.iload_n 2, 1) := dk_28 (dk_at dksX1_lastDay_0 5 rfl rfl)
theorem dX1_lastDay_6 : decode cX1_lastDay 6 = .ok (.invokestatic 138, 3) := dk_184 0 138 (dk_at dksX1_lastDay_0 6 rfl rfl)
theorem dX1_lastDay_9 : decode cX1_lastDay 9 = .ok (.aload_n 0, 1) := dk_42 (dk_at dksX1_lastDay_0 9 rfl rfl)
theorem dX1_lastDay_10 : decode cX1_lastDay 10 = .ok (.getfield 32, 3) := dk_180 0 32 (dk_at dksX1_lastDay_0 10 rfl rfl)
theorem dX1_lastDay_13 : decode cX1_lastDay 13 = .ok (.iload_n 1, 1) := dk_27 (dk_at dksX1_lastDay_0 13 rfl rfl)
theorem dX1_lastDay_14 : decode cX1_lastDay 14 = .ok (.iload_n 2, 1) := dk_28 (dk_at dksX1_lastDay_0 14 rfl rfl)
theorem dX1_lastDay_15 : decode cX1_lastDay 15 = .ok (.invokevirtual 218, 3) := dk_182 0 218 (dk_at dksX1_lastDay_0 15 rfl rfl)
theorem dX1_lastDay_18 : decode cX1_lastDay 18 = .ok (.ireturn, 1) := dk_172 (dk_at dksX1_lastDay_0 18 rfl rfl)
abbrev cX1_bestFit : ByteArray := prog_1_method_40_code
def yX1_bestFit : MethodName := ⟨RX1, "bestFit", "(I)I"⟩
def dkwX1_bestFit_0 : List UInt8 := [42, 27, 182, 0, 73, 42, 180, 0, 32, 27, 182, 0, 221, 172]
abbrev dktX1_bestFit_0 : List UInt8 := dkwX1_bestFit_0 ++ []
theorem dksX1_bestFit_0 : cX1_bestFit.data.toList.drop 0 = dktX1_bestFit_0 := by decide +kernel
theorem dX1_bestFit_0 : decode cX1_bestFit 0 = .ok (.aload_n 0, 1) := dk_42 (dk_at dksX1_bestFit_0 0 rfl rfl)
theorem dX1_bestFit_1 : decode cX1_bestFit 1 = .ok (.iload_n 1, 1) := dk_27 (dk_at dksX1_bestFit_0 1 rfl rfl)
theorem dX1_bestFit_2 : decode cX1_bestFit 2 = .ok (.invokevirtual 73, 3) := dk_182 0 73 (dk_at dksX1_bestFit_0 2 rfl rfl)
theorem dX1_bestFit_5 : decode cX1_bestFit 5 = .ok (.aload_n 0, 1) := dk_42 (dk_at dksX1_bestFit_0 5 rfl rfl)
theorem dX1_bestFit_6 : decode cX1_bestFit 6 = .ok (.getfield 32, 3) := dk_180 0 32 (dk_at dksX1_bestFit_0 6 rfl rfl)
theorem dX1_bestFit_9 : decode cX1_bestFit 9 = .ok (.iload_n 1, 1) := dk_27 (dk_at dksX1_bestFit_0 9 rfl rfl)
theorem dX1_bestFit_10 : decode cX1_bestFit 10 = .ok (.invokevirtual 221, 3) := dk_182 0 221 (dk_at dksX1_bestFit_0 10 rfl rfl)
theorem dX1_bestFit_13 : decode cX1_bestFit 13 = .ok (.ireturn, 1) := dk_172 (dk_at dksX1_bestFit_0 13 rfl rfl)
abbrev cX1_present : ByteArray := prog_1_method_41_code
def yX1_present : MethodName := ⟨RX1, "present", "(IIIII)I"⟩
def dkwX1_present_3 : List UInt8 := [182, 0, 237, 172]
abbrev dktX1_present_3 : List UInt8 := dkwX1_present_3 ++ []
def dkwX1_present_2 : List UInt8 := [25, 6, 180, 0, 135, 29, 25, 6, 27, 28, 29, 21, 4, 21, 5, 182, 0, 214, 3, 2, 183, 0, 234]
abbrev dktX1_present_2 : List UInt8 := dkwX1_present_2 ++ dktX1_present_3
def dkwX1_present_1 : List UInt8 := [4, 167, 0, 4, 3, 184, 0, 228, 42, 182, 0, 231, 58, 6, 25, 6, 180, 0, 87, 187, 0, 90, 89, 27]
abbrev dktX1_present_1 : List UInt8 := dkwX1_present_1 ++ dktX1_present_2
def dkwX1_present_0 : List UInt8 := [42, 27, 28, 29, 21, 4, 21, 5, 182, 0, 210, 42, 180, 0, 32, 180, 0, 87, 182, 0, 224, 154, 0, 7]
abbrev dktX1_present_0 : List UInt8 := dkwX1_present_0 ++ dktX1_present_1
theorem dksX1_present_0 : cX1_present.data.toList.drop 0 = dktX1_present_0 := by decide +kernel
theorem dksX1_present_1 : cX1_present.data.toList.drop 24 = dktX1_present_1 := dk_seg dksX1_present_0 24 rfl rfl
theorem dksX1_present_2 : cX1_present.data.toList.drop 48 = dktX1_present_2 := dk_seg dksX1_present_1 24 rfl rfl
theorem dksX1_present_3 : cX1_present.data.toList.drop 71 = dktX1_present_3 := dk_seg dksX1_present_2 23 rfl rfl
theorem dX1_present_0 : decode cX1_present 0 = .ok (.aload_n 0, 1) := dk_42 (dk_at dksX1_present_0 0 rfl rfl)
theorem dX1_present_1 : decode cX1_present 1 = .ok (.iload_n 1, 1) := dk_27 (dk_at dksX1_present_0 1 rfl rfl)
theorem dX1_present_2 : decode cX1_present 2 = .ok (.iload_n 2, 1) := dk_28 (dk_at dksX1_present_0 2 rfl rfl)
theorem dX1_present_3 : decode cX1_present 3 = .ok (.iload_n 3, 1) := dk_29 (dk_at dksX1_present_0 3 rfl rfl)
theorem dX1_present_4 : decode cX1_present 4 = .ok (.iload 4, 2) := dk_21 4 (dk_at dksX1_present_0 4 rfl rfl)
theorem dX1_present_6 : decode cX1_present 6 = .ok (.iload 5, 2) := dk_21 5 (dk_at dksX1_present_0 6 rfl rfl)
theorem dX1_present_8 : decode cX1_present 8 = .ok (.invokevirtual 210, 3) := dk_182 0 210 (dk_at dksX1_present_0 8 rfl rfl)
theorem dX1_present_11 : decode cX1_present 11 = .ok (.aload_n 0, 1) := dk_42 (dk_at dksX1_present_0 11 rfl rfl)
theorem dX1_present_12 : decode cX1_present 12 = .ok (.getfield 32, 3) := dk_180 0 32 (dk_at dksX1_present_0 12 rfl rfl)
theorem dX1_present_15 : decode cX1_present 15 = .ok (.getfield 87, 3) := dk_180 0 87 (dk_at dksX1_present_0 15 rfl rfl)
theorem dX1_present_18 : decode cX1_present 18 = .ok (.invokevirtual 224, 3) := dk_182 0 224 (dk_at dksX1_present_0 18 rfl rfl)
theorem dX1_present_21 : decode cX1_present 21 = .ok (.ifCond .ne 7, 3) := dk_154 0 7 (dk_at dksX1_present_0 21 rfl rfl)
theorem dX1_present_24 : decode cX1_present 24 = .ok (.iconst 1, 1) := dk_4 (dk_at dksX1_present_1 0 rfl rfl)
theorem dX1_present_25 : decode cX1_present 25 = .ok (.goto 4, 3) := dk_167 0 4 (dk_at dksX1_present_1 1 rfl rfl)
theorem dX1_present_28 : decode cX1_present 28 = .ok (.iconst 0, 1) := dk_3 (dk_at dksX1_present_1 4 rfl rfl)
theorem dX1_present_29 : decode cX1_present 29 = .ok (.invokestatic 228, 3) := dk_184 0 228 (dk_at dksX1_present_1 5 rfl rfl)
theorem dX1_present_32 : decode cX1_present 32 = .ok (.aload_n 0, 1) := dk_42 (dk_at dksX1_present_1 8 rfl rfl)
theorem dX1_present_33 : decode cX1_present 33 = .ok (.invokevirtual 231, 3) := dk_182 0 231 (dk_at dksX1_present_1 9 rfl rfl)
theorem dX1_present_36 : decode cX1_present 36 = .ok (.astore 6, 2) := dk_58 6 (dk_at dksX1_present_1 12 rfl rfl)
theorem dX1_present_38 : decode cX1_present 38 = .ok (.aload 6, 2) := dk_25 6 (dk_at dksX1_present_1 14 rfl rfl)
theorem dX1_present_40 : decode cX1_present 40 = .ok (.getfield 87, 3) := dk_180 0 87 (dk_at dksX1_present_1 16 rfl rfl)
theorem dX1_present_43 : decode cX1_present 43 = .ok (.new 90, 3) := dk_187 0 90 (dk_at dksX1_present_1 19 rfl rfl)
theorem dX1_present_46 : decode cX1_present 46 = .ok (.dup, 1) := dk_89 (dk_at dksX1_present_1 22 rfl rfl)
theorem dX1_present_47 : decode cX1_present 47 = .ok (.iload_n 1, 1) := dk_27 (dk_at dksX1_present_1 23 rfl rfl)
theorem dX1_present_48 : decode cX1_present 48 = .ok (.aload 6, 2) := dk_25 6 (dk_at dksX1_present_2 0 rfl rfl)
theorem dX1_present_50 : decode cX1_present 50 = .ok (.getfield 135, 3) := dk_180 0 135 (dk_at dksX1_present_2 2 rfl rfl)
theorem dX1_present_53 : decode cX1_present 53 = .ok (.iload_n 3, 1) := dk_29 (dk_at dksX1_present_2 5 rfl rfl)
theorem dX1_present_54 : decode cX1_present 54 = .ok (.aload 6, 2) := dk_25 6 (dk_at dksX1_present_2 6 rfl rfl)
theorem dX1_present_56 : decode cX1_present 56 = .ok (.iload_n 1, 1) := dk_27 (dk_at dksX1_present_2 8 rfl rfl)
theorem dX1_present_57 : decode cX1_present 57 = .ok (.iload_n 2, 1) := dk_28 (dk_at dksX1_present_2 9 rfl rfl)
theorem dX1_present_58 : decode cX1_present 58 = .ok (.iload_n 3, 1) := dk_29 (dk_at dksX1_present_2 10 rfl rfl)
theorem dX1_present_59 : decode cX1_present 59 = .ok (.iload 4, 2) := dk_21 4 (dk_at dksX1_present_2 11 rfl rfl)
theorem dX1_present_61 : decode cX1_present 61 = .ok (.iload 5, 2) := dk_21 5 (dk_at dksX1_present_2 13 rfl rfl)
theorem dX1_present_63 : decode cX1_present 63 = .ok (.invokevirtual 214, 3) := dk_182 0 214 (dk_at dksX1_present_2 15 rfl rfl)
theorem dX1_present_66 : decode cX1_present 66 = .ok (.iconst 0, 1) := dk_3 (dk_at dksX1_present_2 18 rfl rfl)
theorem dX1_present_67 : decode cX1_present 67 = .ok (.iconst (-1), 1) := dk_2 (dk_at dksX1_present_2 19 rfl rfl)
theorem dX1_present_68 : decode cX1_present 68 = .ok (.invokespecial 234, 3) := dk_183 0 234 (dk_at dksX1_present_2 20 rfl rfl)
theorem dX1_present_71 : decode cX1_present 71 = .ok (.invokevirtual 237, 3) := dk_182 0 237 (dk_at dksX1_present_3 0 rfl rfl)
theorem dX1_present_74 : decode cX1_present 74 = .ok (.ireturn, 1) := dk_172 (dk_at dksX1_present_3 3 rfl rfl)
abbrev cX1_requireState : ByteArray := prog_1_method_6_code
def yX1_requireState : MethodName := ⟨RX1, "requireState", "(Z)V"⟩
def dkwX1_requireState_0 : List UInt8 := [26, 154, 0, 11, 187, 0, 50, 89, 183, 0, 52, 191, 177]
abbrev dktX1_requireState_0 : List UInt8 := dkwX1_requireState_0 ++ []
theorem dksX1_requireState_0 : cX1_requireState.data.toList.drop 0 = dktX1_requireState_0 := by decide +kernel
theorem dX1_requireState_0 : decode cX1_requireState 0 = .ok (.iload_n 0, 1) := dk_26 (dk_at dksX1_requireState_0 0 rfl rfl)
theorem dX1_requireState_1 : decode cX1_requireState 1 = .ok (.ifCond .ne 11, 3) := dk_154 0 11 (dk_at dksX1_requireState_0 1 rfl rfl)
theorem dX1_requireState_4 : decode cX1_requireState 4 = .ok (.new 50, 3) := dk_187 0 50 (dk_at dksX1_requireState_0 4 rfl rfl)
theorem dX1_requireState_7 : decode cX1_requireState 7 = .ok (.dup, 1) := dk_89 (dk_at dksX1_requireState_0 7 rfl rfl)
theorem dX1_requireState_8 : decode cX1_requireState 8 = .ok (.invokespecial 52, 3) := dk_183 0 52 (dk_at dksX1_requireState_0 8 rfl rfl)
theorem dX1_requireState_11 : decode cX1_requireState 11 = .ok (.athrow, 1) := dk_191 (dk_at dksX1_requireState_0 11 rfl rfl)
theorem dX1_requireState_12 : decode cX1_requireState 12 = .ok (.return_, 1) := dk_177 (dk_at dksX1_requireState_0 12 rfl rfl)
abbrev cX1_change : ByteArray := prog_1_method_13_code
def yX1_change : MethodName := ⟨RX1, "change", "()LDocumentaryCreditDesk$Desk;"⟩
def dkwX1_change_0 : List UInt8 := [42, 42, 180, 0, 32, 182, 0, 101, 182, 0, 105, 42, 180, 0, 32, 176]
abbrev dktX1_change_0 : List UInt8 := dkwX1_change_0 ++ []
theorem dksX1_change_0 : cX1_change.data.toList.drop 0 = dktX1_change_0 := by decide +kernel
theorem dX1_change_0 : decode cX1_change 0 = .ok (.aload_n 0, 1) := dk_42 (dk_at dksX1_change_0 0 rfl rfl)
theorem dX1_change_1 : decode cX1_change 1 = .ok (.aload_n 0, 1) := dk_42 (dk_at dksX1_change_0 1 rfl rfl)
theorem dX1_change_2 : decode cX1_change 2 = .ok (.getfield 32, 3) := dk_180 0 32 (dk_at dksX1_change_0 2 rfl rfl)
theorem dX1_change_5 : decode cX1_change 5 = .ok (.invokevirtual 101, 3) := dk_182 0 101 (dk_at dksX1_change_0 5 rfl rfl)
theorem dX1_change_8 : decode cX1_change 8 = .ok (.invokevirtual 105, 3) := dk_182 0 105 (dk_at dksX1_change_0 8 rfl rfl)
theorem dX1_change_11 : decode cX1_change 11 = .ok (.aload_n 0, 1) := dk_42 (dk_at dksX1_change_0 11 rfl rfl)
theorem dX1_change_12 : decode cX1_change 12 = .ok (.getfield 32, 3) := dk_180 0 32 (dk_at dksX1_change_0 12 rfl rfl)
theorem dX1_change_15 : decode cX1_change 15 = .ok (.areturn, 1) := dk_176 (dk_at dksX1_change_0 15 rfl rfl)
abbrev cX1_examine : ByteArray := prog_1_method_42_code
def yX1_examine : MethodName := ⟨RX1, "examine", "(I)I"⟩
def dkwX1_examine_1 : List UInt8 := [182, 0, 240, 172]
abbrev dktX1_examine_1 : List UInt8 := dkwX1_examine_1 ++ []
def dkwX1_examine_0 : List UInt8 := [42, 27, 182, 0, 184, 180, 0, 191, 154, 0, 7, 4, 167, 0, 4, 3, 184, 0, 228, 42, 182, 0, 231, 27]
abbrev dktX1_examine_0 : List UInt8 := dkwX1_examine_0 ++ dktX1_examine_1
theorem dksX1_examine_0 : cX1_examine.data.toList.drop 0 = dktX1_examine_0 := by decide +kernel
theorem dksX1_examine_1 : cX1_examine.data.toList.drop 24 = dktX1_examine_1 := dk_seg dksX1_examine_0 24 rfl rfl
theorem dX1_examine_0 : decode cX1_examine 0 = .ok (.aload_n 0, 1) := dk_42 (dk_at dksX1_examine_0 0 rfl rfl)
theorem dX1_examine_1 : decode cX1_examine 1 = .ok (.iload_n 1, 1) := dk_27 (dk_at dksX1_examine_0 1 rfl rfl)
theorem dX1_examine_2 : decode cX1_examine 2 = .ok (.invokevirtual 184, 3) := dk_182 0 184 (dk_at dksX1_examine_0 2 rfl rfl)
theorem dX1_examine_5 : decode cX1_examine 5 = .ok (.getfield 191, 3) := dk_180 0 191 (dk_at dksX1_examine_0 5 rfl rfl)
theorem dX1_examine_8 : decode cX1_examine 8 = .ok (.ifCond .ne 7, 3) := dk_154 0 7 (dk_at dksX1_examine_0 8 rfl rfl)
theorem dX1_examine_11 : decode cX1_examine 11 = .ok (.iconst 1, 1) := dk_4 (dk_at dksX1_examine_0 11 rfl rfl)
theorem dX1_examine_12 : decode cX1_examine 12 = .ok (.goto 4, 3) := dk_167 0 4 (dk_at dksX1_examine_0 12 rfl rfl)
theorem dX1_examine_15 : decode cX1_examine 15 = .ok (.iconst 0, 1) := dk_3 (dk_at dksX1_examine_0 15 rfl rfl)
theorem dX1_examine_16 : decode cX1_examine 16 = .ok (.invokestatic 228, 3) := dk_184 0 228 (dk_at dksX1_examine_0 16 rfl rfl)
theorem dX1_examine_19 : decode cX1_examine 19 = .ok (.aload_n 0, 1) := dk_42 (dk_at dksX1_examine_0 19 rfl rfl)
theorem dX1_examine_20 : decode cX1_examine 20 = .ok (.invokevirtual 231, 3) := dk_182 0 231 (dk_at dksX1_examine_0 20 rfl rfl)
theorem dX1_examine_23 : decode cX1_examine 23 = .ok (.iload_n 1, 1) := dk_27 (dk_at dksX1_examine_0 23 rfl rfl)
theorem dX1_examine_24 : decode cX1_examine 24 = .ok (.invokevirtual 240, 3) := dk_182 0 240 (dk_at dksX1_examine_1 0 rfl rfl)
theorem dX1_examine_27 : decode cX1_examine 27 = .ok (.ireturn, 1) := dk_172 (dk_at dksX1_examine_1 3 rfl rfl)
abbrev cX1_waive : ByteArray := prog_1_method_43_code
def yX1_waive : MethodName := ⟨RX1, "waive", "(I)I"⟩
def dkwX1_waive_1 : List UInt8 := [167, 0, 4, 3, 184, 0, 228, 42, 182, 0, 231, 27, 182, 0, 246, 172]
abbrev dktX1_waive_1 : List UInt8 := dkwX1_waive_1 ++ []
def dkwX1_waive_0 : List UInt8 := [42, 27, 182, 0, 184, 77, 44, 180, 0, 191, 4, 160, 0, 15, 44, 5, 182, 0, 243, 154, 0, 7, 4]
abbrev dktX1_waive_0 : List UInt8 := dkwX1_waive_0 ++ dktX1_waive_1
theorem dksX1_waive_0 : cX1_waive.data.toList.drop 0 = dktX1_waive_0 := by decide +kernel
theorem dksX1_waive_1 : cX1_waive.data.toList.drop 23 = dktX1_waive_1 := dk_seg dksX1_waive_0 23 rfl rfl
theorem dX1_waive_0 : decode cX1_waive 0 = .ok (.aload_n 0, 1) := dk_42 (dk_at dksX1_waive_0 0 rfl rfl)
theorem dX1_waive_1 : decode cX1_waive 1 = .ok (.iload_n 1, 1) := dk_27 (dk_at dksX1_waive_0 1 rfl rfl)
theorem dX1_waive_2 : decode cX1_waive 2 = .ok (.invokevirtual 184, 3) := dk_182 0 184 (dk_at dksX1_waive_0 2 rfl rfl)
theorem dX1_waive_5 : decode cX1_waive 5 = .ok (.astore_n 2, 1) := dk_77 (dk_at dksX1_waive_0 5 rfl rfl)
theorem dX1_waive_6 : decode cX1_waive 6 = .ok (.aload_n 2, 1) := dk_44 (dk_at dksX1_waive_0 6 rfl rfl)
theorem dX1_waive_7 : decode cX1_waive 7 = .ok (.getfield 191, 3) := dk_180 0 191 (dk_at dksX1_waive_0 7 rfl rfl)
theorem dX1_waive_10 : decode cX1_waive 10 = .ok (.iconst 1, 1) := dk_4 (dk_at dksX1_waive_0 10 rfl rfl)
theorem dX1_waive_11 : decode cX1_waive 11 = .ok (.if_icmp .ne 15, 3) := dk_160 0 15 (dk_at dksX1_waive_0 11 rfl rfl)
theorem dX1_waive_14 : decode cX1_waive 14 = .ok (.aload_n 2, 1) := dk_44 (dk_at dksX1_waive_0 14 rfl rfl)
theorem dX1_waive_15 : decode cX1_waive 15 = .ok (.iconst 2, 1) := dk_5 (dk_at dksX1_waive_0 15 rfl rfl)
theorem dX1_waive_16 : decode cX1_waive 16 = .ok (.invokevirtual 243, 3) := dk_182 0 243 (dk_at dksX1_waive_0 16 rfl rfl)
theorem dX1_waive_19 : decode cX1_waive 19 = .ok (.ifCond .ne 7, 3) := dk_154 0 7 (dk_at dksX1_waive_0 19 rfl rfl)
theorem dX1_waive_22 : decode cX1_waive 22 = .ok (.iconst 1, 1) := dk_4 (dk_at dksX1_waive_0 22 rfl rfl)
theorem dX1_waive_23 : decode cX1_waive 23 = .ok (.goto 4, 3) := dk_167 0 4 (dk_at dksX1_waive_1 0 rfl rfl)
theorem dX1_waive_26 : decode cX1_waive 26 = .ok (.iconst 0, 1) := dk_3 (dk_at dksX1_waive_1 3 rfl rfl)
theorem dX1_waive_27 : decode cX1_waive 27 = .ok (.invokestatic 228, 3) := dk_184 0 228 (dk_at dksX1_waive_1 4 rfl rfl)
theorem dX1_waive_30 : decode cX1_waive 30 = .ok (.aload_n 0, 1) := dk_42 (dk_at dksX1_waive_1 7 rfl rfl)
theorem dX1_waive_31 : decode cX1_waive 31 = .ok (.invokevirtual 231, 3) := dk_182 0 231 (dk_at dksX1_waive_1 8 rfl rfl)
theorem dX1_waive_34 : decode cX1_waive 34 = .ok (.iload_n 1, 1) := dk_27 (dk_at dksX1_waive_1 11 rfl rfl)
theorem dX1_waive_35 : decode cX1_waive 35 = .ok (.invokevirtual 246, 3) := dk_182 0 246 (dk_at dksX1_waive_1 12 rfl rfl)
theorem dX1_waive_38 : decode cX1_waive 38 = .ok (.ireturn, 1) := dk_172 (dk_at dksX1_waive_1 15 rfl rfl)
abbrev cX1_refuse : ByteArray := prog_1_method_44_code
def yX1_refuse : MethodName := ⟨RX1, "refuse", "(I)I"⟩
def dkwX1_refuse_2 : List UInt8 := [182, 0, 181, 172]
abbrev dktX1_refuse_2 : List UInt8 := dkwX1_refuse_2 ++ []
def dkwX1_refuse_1 : List UInt8 := [182, 0, 231, 78, 45, 180, 0, 87, 27, 44, 6, 2, 182, 0, 249, 182, 0, 253, 45, 44, 180, 0, 188]
abbrev dktX1_refuse_1 : List UInt8 := dkwX1_refuse_1 ++ dktX1_refuse_2
def dkwX1_refuse_0 : List UInt8 := [42, 27, 182, 0, 184, 77, 44, 180, 0, 191, 4, 160, 0, 7, 4, 167, 0, 4, 3, 184, 0, 228, 42]
abbrev dktX1_refuse_0 : List UInt8 := dkwX1_refuse_0 ++ dktX1_refuse_1
theorem dksX1_refuse_0 : cX1_refuse.data.toList.drop 0 = dktX1_refuse_0 := by decide +kernel
theorem dksX1_refuse_1 : cX1_refuse.data.toList.drop 23 = dktX1_refuse_1 := dk_seg dksX1_refuse_0 23 rfl rfl
theorem dksX1_refuse_2 : cX1_refuse.data.toList.drop 46 = dktX1_refuse_2 := dk_seg dksX1_refuse_1 23 rfl rfl
theorem dX1_refuse_0 : decode cX1_refuse 0 = .ok (.aload_n 0, 1) := dk_42 (dk_at dksX1_refuse_0 0 rfl rfl)
theorem dX1_refuse_1 : decode cX1_refuse 1 = .ok (.iload_n 1, 1) := dk_27 (dk_at dksX1_refuse_0 1 rfl rfl)
theorem dX1_refuse_2 : decode cX1_refuse 2 = .ok (.invokevirtual 184, 3) := dk_182 0 184 (dk_at dksX1_refuse_0 2 rfl rfl)
theorem dX1_refuse_5 : decode cX1_refuse 5 = .ok (.astore_n 2, 1) := dk_77 (dk_at dksX1_refuse_0 5 rfl rfl)
theorem dX1_refuse_6 : decode cX1_refuse 6 = .ok (.aload_n 2, 1) := dk_44 (dk_at dksX1_refuse_0 6 rfl rfl)
theorem dX1_refuse_7 : decode cX1_refuse 7 = .ok (.getfield 191, 3) := dk_180 0 191 (dk_at dksX1_refuse_0 7 rfl rfl)
theorem dX1_refuse_10 : decode cX1_refuse 10 = .ok (.iconst 1, 1) := dk_4 (dk_at dksX1_refuse_0 10 rfl rfl)
theorem dX1_refuse_11 : decode cX1_refuse 11 = .ok (.if_icmp .ne 7, 3) := dk_160 0 7 (dk_at dksX1_refuse_0 11 rfl rfl)
theorem dX1_refuse_14 : decode cX1_refuse 14 = .ok (.iconst 1, 1) := dk_4 (dk_at dksX1_refuse_0 14 rfl rfl)
theorem dX1_refuse_15 : decode cX1_refuse 15 = .ok (.goto 4, 3) := dk_167 0 4 (dk_at dksX1_refuse_0 15 rfl rfl)
theorem dX1_refuse_18 : decode cX1_refuse 18 = .ok (.iconst 0, 1) := dk_3 (dk_at dksX1_refuse_0 18 rfl rfl)
theorem dX1_refuse_19 : decode cX1_refuse 19 = .ok (.invokestatic 228, 3) := dk_184 0 228 (dk_at dksX1_refuse_0 19 rfl rfl)
theorem dX1_refuse_22 : decode cX1_refuse 22 = .ok (.aload_n 0, 1) := dk_42 (dk_at dksX1_refuse_0 22 rfl rfl)
theorem dX1_refuse_23 : decode cX1_refuse 23 = .ok (.invokevirtual 231, 3) := dk_182 0 231 (dk_at dksX1_refuse_1 0 rfl rfl)
theorem dX1_refuse_26 : decode cX1_refuse 26 = .ok (.astore_n 3, 1) := dk_78 (dk_at dksX1_refuse_1 3 rfl rfl)
theorem dX1_refuse_27 : decode cX1_refuse 27 = .ok (.aload_n 3, 1) := dk_45 (dk_at dksX1_refuse_1 4 rfl rfl)
theorem dX1_refuse_28 : decode cX1_refuse 28 = .ok (.getfield 87, 3) := dk_180 0 87 (dk_at dksX1_refuse_1 5 rfl rfl)
theorem dX1_refuse_31 : decode cX1_refuse 31 = .ok (.iload_n 1, 1) := dk_27 (dk_at dksX1_refuse_1 8 rfl rfl)
theorem dX1_refuse_32 : decode cX1_refuse 32 = .ok (.aload_n 2, 1) := dk_44 (dk_at dksX1_refuse_1 9 rfl rfl)
theorem dX1_refuse_33 : decode cX1_refuse 33 = .ok (.iconst 3, 1) := dk_6 (dk_at dksX1_refuse_1 10 rfl rfl)
theorem dX1_refuse_34 : decode cX1_refuse 34 = .ok (.iconst (-1), 1) := dk_2 (dk_at dksX1_refuse_1 11 rfl rfl)
theorem dX1_refuse_35 : decode cX1_refuse 35 = .ok (.invokevirtual 249, 3) := dk_182 0 249 (dk_at dksX1_refuse_1 12 rfl rfl)
theorem dX1_refuse_38 : decode cX1_refuse 38 = .ok (.invokevirtual 253, 3) := dk_182 0 253 (dk_at dksX1_refuse_1 15 rfl rfl)
theorem dX1_refuse_41 : decode cX1_refuse 41 = .ok (.aload_n 3, 1) := dk_45 (dk_at dksX1_refuse_1 18 rfl rfl)
theorem dX1_refuse_42 : decode cX1_refuse 42 = .ok (.aload_n 2, 1) := dk_44 (dk_at dksX1_refuse_1 19 rfl rfl)
theorem dX1_refuse_43 : decode cX1_refuse 43 = .ok (.getfield 188, 3) := dk_180 0 188 (dk_at dksX1_refuse_1 20 rfl rfl)
theorem dX1_refuse_46 : decode cX1_refuse 46 = .ok (.invokevirtual 181, 3) := dk_182 0 181 (dk_at dksX1_refuse_2 0 rfl rfl)
theorem dX1_refuse_49 : decode cX1_refuse 49 = .ok (.ireturn, 1) := dk_172 (dk_at dksX1_refuse_2 3 rfl rfl)
abbrev cX1_transfer : ByteArray := prog_1_method_45_code
def yX1_transfer : MethodName := ⟨RX1, "transfer", "(III)I"⟩
def dkwX1_transfer_5 : List UInt8 := [182, 0, 237, 172]
abbrev dktX1_transfer_5 : List UInt8 := dkwX1_transfer_5 ++ []
def dkwX1_transfer_4 : List UInt8 := [167, 0, 4, 3, 184, 0, 228, 42, 182, 0, 231, 180, 0, 59, 25, 4, 27, 28, 29, 182, 1, 10]
abbrev dktX1_transfer_4 : List UInt8 := dkwX1_transfer_4 ++ dktX1_transfer_5
def dkwX1_transfer_3 : List UInt8 := [180, 0, 32, 27, 182, 0, 178, 154, 0, 20, 42, 180, 0, 32, 180, 0, 59, 182, 0, 224, 154, 0, 7, 4]
abbrev dktX1_transfer_3 : List UInt8 := dkwX1_transfer_3 ++ dktX1_transfer_4
def dkwX1_transfer_2 : List UInt8 := [153, 0, 51, 28, 42, 180, 0, 32, 27, 182, 0, 181, 163, 0, 39, 25, 4, 180, 1, 7, 154, 0, 14, 42]
abbrev dktX1_transfer_2 : List UInt8 := dkwX1_transfer_2 ++ dktX1_transfer_3
def dkwX1_transfer_1 : List UInt8 := [180, 0, 172, 133, 184, 0, 40, 153, 0, 7, 4, 167, 0, 4, 3, 184, 0, 55, 25, 4, 180, 1, 3]
abbrev dktX1_transfer_1 : List UInt8 := dkwX1_transfer_1 ++ dktX1_transfer_2
def dkwX1_transfer_0 : List UInt8 := [42, 27, 182, 0, 159, 58, 4, 28, 133, 10, 20, 1, 1, 184, 0, 40, 153, 0, 22, 29, 133, 9, 25, 4]
abbrev dktX1_transfer_0 : List UInt8 := dkwX1_transfer_0 ++ dktX1_transfer_1
theorem dksX1_transfer_0 : cX1_transfer.data.toList.drop 0 = dktX1_transfer_0 := by decide +kernel
theorem dksX1_transfer_1 : cX1_transfer.data.toList.drop 24 = dktX1_transfer_1 := dk_seg dksX1_transfer_0 24 rfl rfl
theorem dksX1_transfer_2 : cX1_transfer.data.toList.drop 47 = dktX1_transfer_2 := dk_seg dksX1_transfer_1 23 rfl rfl
theorem dksX1_transfer_3 : cX1_transfer.data.toList.drop 71 = dktX1_transfer_3 := dk_seg dksX1_transfer_2 24 rfl rfl
theorem dksX1_transfer_4 : cX1_transfer.data.toList.drop 95 = dktX1_transfer_4 := dk_seg dksX1_transfer_3 24 rfl rfl
theorem dksX1_transfer_5 : cX1_transfer.data.toList.drop 117 = dktX1_transfer_5 := dk_seg dksX1_transfer_4 22 rfl rfl
theorem dX1_transfer_0 : decode cX1_transfer 0 = .ok (.aload_n 0, 1) := dk_42 (dk_at dksX1_transfer_0 0 rfl rfl)
theorem dX1_transfer_1 : decode cX1_transfer 1 = .ok (.iload_n 1, 1) := dk_27 (dk_at dksX1_transfer_0 1 rfl rfl)
theorem dX1_transfer_2 : decode cX1_transfer 2 = .ok (.invokevirtual 159, 3) := dk_182 0 159 (dk_at dksX1_transfer_0 2 rfl rfl)
theorem dX1_transfer_5 : decode cX1_transfer 5 = .ok (.astore 4, 2) := dk_58 4 (dk_at dksX1_transfer_0 5 rfl rfl)
theorem dX1_transfer_7 : decode cX1_transfer 7 = .ok (.iload_n 2, 1) := dk_28 (dk_at dksX1_transfer_0 7 rfl rfl)
theorem dX1_transfer_8 : decode cX1_transfer 8 = .ok (.i2l, 1) := dk_133 (dk_at dksX1_transfer_0 8 rfl rfl)
theorem dX1_transfer_9 : decode cX1_transfer 9 = .ok (.lconst 1, 1) := dk_10 (dk_at dksX1_transfer_0 9 rfl rfl)
theorem dX1_transfer_10 : decode cX1_transfer 10 = .ok (.ldc2_w 257, 3) := dk_20 1 1 (dk_at dksX1_transfer_0 10 rfl rfl)
theorem dX1_transfer_13 : decode cX1_transfer 13 = .ok (.invokestatic 40, 3) := dk_184 0 40 (dk_at dksX1_transfer_0 13 rfl rfl)
theorem dX1_transfer_16 : decode cX1_transfer 16 = .ok (.ifCond .eq 22, 3) := dk_153 0 22 (dk_at dksX1_transfer_0 16 rfl rfl)
theorem dX1_transfer_19 : decode cX1_transfer 19 = .ok (.iload_n 3, 1) := dk_29 (dk_at dksX1_transfer_0 19 rfl rfl)
theorem dX1_transfer_20 : decode cX1_transfer 20 = .ok (.i2l, 1) := dk_133 (dk_at dksX1_transfer_0 20 rfl rfl)
theorem dX1_transfer_21 : decode cX1_transfer 21 = .ok (.lconst 0, 1) := dk_9 (dk_at dksX1_transfer_0 21 rfl rfl)
theorem dX1_transfer_22 : decode cX1_transfer 22 = .ok (.aload 4, 2) := dk_25 4 (dk_at dksX1_transfer_0 22 rfl rfl)
theorem dX1_transfer_24 : decode cX1_transfer 24 = .ok (.getfield 172, 3) := dk_180 0 172 (dk_at dksX1_transfer_1 0 rfl rfl)
theorem dX1_transfer_27 : decode cX1_transfer 27 = .ok (.i2l, 1) := dk_133 (dk_at dksX1_transfer_1 3 rfl rfl)
theorem dX1_transfer_28 : decode cX1_transfer 28 = .ok (.invokestatic 40, 3) := dk_184 0 40 (dk_at dksX1_transfer_1 4 rfl rfl)
theorem dX1_transfer_31 : decode cX1_transfer 31 = .ok (.ifCond .eq 7, 3) := dk_153 0 7 (dk_at dksX1_transfer_1 7 rfl rfl)
theorem dX1_transfer_34 : decode cX1_transfer 34 = .ok (.iconst 1, 1) := dk_4 (dk_at dksX1_transfer_1 10 rfl rfl)
theorem dX1_transfer_35 : decode cX1_transfer 35 = .ok (.goto 4, 3) := dk_167 0 4 (dk_at dksX1_transfer_1 11 rfl rfl)
theorem dX1_transfer_38 : decode cX1_transfer 38 = .ok (.iconst 0, 1) := dk_3 (dk_at dksX1_transfer_1 14 rfl rfl)
theorem dX1_transfer_39 : decode cX1_transfer 39 = .ok (.invokestatic 55, 3) := dk_184 0 55 (dk_at dksX1_transfer_1 15 rfl rfl)
theorem dX1_transfer_42 : decode cX1_transfer 42 = .ok (.aload 4, 2) := dk_25 4 (dk_at dksX1_transfer_1 18 rfl rfl)
theorem dX1_transfer_44 : decode cX1_transfer 44 = .ok (.getfield 259, 3) := dk_180 1 3 (dk_at dksX1_transfer_1 20 rfl rfl)
theorem dX1_transfer_47 : decode cX1_transfer 47 = .ok (.ifCond .eq 51, 3) := dk_153 0 51 (dk_at dksX1_transfer_2 0 rfl rfl)
theorem dX1_transfer_50 : decode cX1_transfer 50 = .ok (.iload_n 2, 1) := dk_28 (dk_at dksX1_transfer_2 3 rfl rfl)
theorem dX1_transfer_51 : decode cX1_transfer 51 = .ok (.aload_n 0, 1) := dk_42 (dk_at dksX1_transfer_2 4 rfl rfl)
theorem dX1_transfer_52 : decode cX1_transfer 52 = .ok (.getfield 32, 3) := dk_180 0 32 (dk_at dksX1_transfer_2 5 rfl rfl)
theorem dX1_transfer_55 : decode cX1_transfer 55 = .ok (.iload_n 1, 1) := dk_27 (dk_at dksX1_transfer_2 8 rfl rfl)
theorem dX1_transfer_56 : decode cX1_transfer 56 = .ok (.invokevirtual 181, 3) := dk_182 0 181 (dk_at dksX1_transfer_2 9 rfl rfl)
theorem dX1_transfer_59 : decode cX1_transfer 59 = .ok (.if_icmp .gt 39, 3) := dk_163 0 39 (dk_at dksX1_transfer_2 12 rfl rfl)
theorem dX1_transfer_62 : decode cX1_transfer 62 = .ok (.aload 4, 2) := dk_25 4 (dk_at dksX1_transfer_2 15 rfl rfl)
theorem dX1_transfer_64 : decode cX1_transfer 64 = .ok (.getfield 263, 3) := dk_180 1 7 (dk_at dksX1_transfer_2 17 rfl rfl)
theorem dX1_transfer_67 : decode cX1_transfer 67 = .ok (.ifCond .ne 14, 3) := dk_154 0 14 (dk_at dksX1_transfer_2 20 rfl rfl)
theorem dX1_transfer_70 : decode cX1_transfer 70 = .ok (.aload_n 0, 1) := dk_42 (dk_at dksX1_transfer_2 23 rfl rfl)
theorem dX1_transfer_71 : decode cX1_transfer 71 = .ok (.getfield 32, 3) := dk_180 0 32 (dk_at dksX1_transfer_3 0 rfl rfl)
theorem dX1_transfer_74 : decode cX1_transfer 74 = .ok (.iload_n 1, 1) := dk_27 (dk_at dksX1_transfer_3 3 rfl rfl)
theorem dX1_transfer_75 : decode cX1_transfer 75 = .ok (.invokevirtual 178, 3) := dk_182 0 178 (dk_at dksX1_transfer_3 4 rfl rfl)
theorem dX1_transfer_78 : decode cX1_transfer 78 = .ok (.ifCond .ne 20, 3) := dk_154 0 20 (dk_at dksX1_transfer_3 7 rfl rfl)
theorem dX1_transfer_81 : decode cX1_transfer 81 = .ok (.aload_n 0, 1) := dk_42 (dk_at dksX1_transfer_3 10 rfl rfl)
theorem dX1_transfer_82 : decode cX1_transfer 82 = .ok (.getfield 32, 3) := dk_180 0 32 (dk_at dksX1_transfer_3 11 rfl rfl)
theorem dX1_transfer_85 : decode cX1_transfer 85 = .ok (.getfield 59, 3) := dk_180 0 59 (dk_at dksX1_transfer_3 14 rfl rfl)
theorem dX1_transfer_88 : decode cX1_transfer 88 = .ok (.invokevirtual 224, 3) := dk_182 0 224 (dk_at dksX1_transfer_3 17 rfl rfl)
theorem dX1_transfer_91 : decode cX1_transfer 91 = .ok (.ifCond .ne 7, 3) := dk_154 0 7 (dk_at dksX1_transfer_3 20 rfl rfl)
theorem dX1_transfer_94 : decode cX1_transfer 94 = .ok (.iconst 1, 1) := dk_4 (dk_at dksX1_transfer_3 23 rfl rfl)
theorem dX1_transfer_95 : decode cX1_transfer 95 = .ok (.goto 4, 3) := dk_167 0 4 (dk_at dksX1_transfer_4 0 rfl rfl)
theorem dX1_transfer_98 : decode cX1_transfer 98 = .ok (.iconst 0, 1) := dk_3 (dk_at dksX1_transfer_4 3 rfl rfl)
theorem dX1_transfer_99 : decode cX1_transfer 99 = .ok (.invokestatic 228, 3) := dk_184 0 228 (dk_at dksX1_transfer_4 4 rfl rfl)
theorem dX1_transfer_102 : decode cX1_transfer 102 = .ok (.aload_n 0, 1) := dk_42 (dk_at dksX1_transfer_4 7 rfl rfl)
theorem dX1_transfer_103 : decode cX1_transfer 103 = .ok (.invokevirtual 231, 3) := dk_182 0 231 (dk_at dksX1_transfer_4 8 rfl rfl)
theorem dX1_transfer_106 : decode cX1_transfer 106 = .ok (.getfield 59, 3) := dk_180 0 59 (dk_at dksX1_transfer_4 11 rfl rfl)
theorem dX1_transfer_109 : decode cX1_transfer 109 = .ok (.aload 4, 2) := dk_25 4 (dk_at dksX1_transfer_4 14 rfl rfl)
theorem dX1_transfer_111 : decode cX1_transfer 111 = .ok (.iload_n 1, 1) := dk_27 (dk_at dksX1_transfer_4 16 rfl rfl)
theorem dX1_transfer_112 : decode cX1_transfer 112 = .ok (.iload_n 2, 1) := dk_28 (dk_at dksX1_transfer_4 17 rfl rfl)
theorem dX1_transfer_113 : decode cX1_transfer 113 = .ok (.iload_n 3, 1) := dk_29 (dk_at dksX1_transfer_4 18 rfl rfl)
theorem dX1_transfer_114 : decode cX1_transfer 114 = .ok (.invokevirtual 266, 3) := dk_182 1 10 (dk_at dksX1_transfer_4 19 rfl rfl)
theorem dX1_transfer_117 : decode cX1_transfer 117 = .ok (.invokevirtual 237, 3) := dk_182 0 237 (dk_at dksX1_transfer_5 0 rfl rfl)
theorem dX1_transfer_120 : decode cX1_transfer 120 = .ok (.ireturn, 1) := dk_172 (dk_at dksX1_transfer_5 3 rfl rfl)
abbrev cX1_pass : ByteArray := prog_1_method_46_code
def yX1_pass : MethodName := ⟨RX1, "pass", "(I)I"⟩
def dkwX1_pass_2 : List UInt8 := [42, 180, 0, 32, 180, 0, 135, 172]
abbrev dktX1_pass_2 : List UInt8 := dkwX1_pass_2 ++ []
def dkwX1_pass_1 : List UInt8 := [163, 0, 7, 4, 167, 0, 4, 3, 184, 0, 228, 42, 182, 0, 231, 89, 180, 0, 135, 27, 96, 181, 0, 135]
abbrev dktX1_pass_1 : List UInt8 := dkwX1_pass_1 ++ dktX1_pass_2
def dkwX1_pass_0 : List UInt8 := [27, 133, 10, 20, 1, 14, 184, 0, 40, 184, 0, 55, 42, 180, 0, 32, 180, 0, 135, 27, 96, 17, 35, 40]
abbrev dktX1_pass_0 : List UInt8 := dkwX1_pass_0 ++ dktX1_pass_1
theorem dksX1_pass_0 : cX1_pass.data.toList.drop 0 = dktX1_pass_0 := by decide +kernel
theorem dksX1_pass_1 : cX1_pass.data.toList.drop 24 = dktX1_pass_1 := dk_seg dksX1_pass_0 24 rfl rfl
theorem dksX1_pass_2 : cX1_pass.data.toList.drop 48 = dktX1_pass_2 := dk_seg dksX1_pass_1 24 rfl rfl
theorem dX1_pass_0 : decode cX1_pass 0 = .ok (.iload_n 1, 1) := dk_27 (dk_at dksX1_pass_0 0 rfl rfl)
theorem dX1_pass_1 : decode cX1_pass 1 = .ok (.i2l, 1) := dk_133 (dk_at dksX1_pass_0 1 rfl rfl)
theorem dX1_pass_2 : decode cX1_pass 2 = .ok (.lconst 1, 1) := dk_10 (dk_at dksX1_pass_0 2 rfl rfl)
theorem dX1_pass_3 : decode cX1_pass 3 = .ok (.ldc2_w 270, 3) := dk_20 1 14 (dk_at dksX1_pass_0 3 rfl rfl)
theorem dX1_pass_6 : decode cX1_pass 6 = .ok (.invokestatic 40, 3) := dk_184 0 40 (dk_at dksX1_pass_0 6 rfl rfl)
theorem dX1_pass_9 : decode cX1_pass 9 = .ok (.invokestatic 55, 3) := dk_184 0 55 (dk_at dksX1_pass_0 9 rfl rfl)
theorem dX1_pass_12 : decode cX1_pass 12 = .ok (.aload_n 0, 1) := dk_42 (dk_at dksX1_pass_0 12 rfl rfl)
theorem dX1_pass_13 : decode cX1_pass 13 = .ok (.getfield 32, 3) := dk_180 0 32 (dk_at dksX1_pass_0 13 rfl rfl)
theorem dX1_pass_16 : decode cX1_pass 16 = .ok (.getfield 135, 3) := dk_180 0 135 (dk_at dksX1_pass_0 16 rfl rfl)
theorem dX1_pass_19 : decode cX1_pass 19 = .ok (.iload_n 1, 1) := dk_27 (dk_at dksX1_pass_0 19 rfl rfl)
theorem dX1_pass_20 : decode cX1_pass 20 = .ok (.iadd, 1) := dk_96 (dk_at dksX1_pass_0 20 rfl rfl)
theorem dX1_pass_21 : decode cX1_pass 21 = .ok (.sipush 9000, 3) := dk_17 35 40 (dk_at dksX1_pass_0 21 rfl rfl)
theorem dX1_pass_24 : decode cX1_pass 24 = .ok (.if_icmp .gt 7, 3) := dk_163 0 7 (dk_at dksX1_pass_1 0 rfl rfl)
theorem dX1_pass_27 : decode cX1_pass 27 = .ok (.iconst 1, 1) := dk_4 (dk_at dksX1_pass_1 3 rfl rfl)
theorem dX1_pass_28 : decode cX1_pass 28 = .ok (.goto 4, 3) := dk_167 0 4 (dk_at dksX1_pass_1 4 rfl rfl)
theorem dX1_pass_31 : decode cX1_pass 31 = .ok (.iconst 0, 1) := dk_3 (dk_at dksX1_pass_1 7 rfl rfl)
theorem dX1_pass_32 : decode cX1_pass 32 = .ok (.invokestatic 228, 3) := dk_184 0 228 (dk_at dksX1_pass_1 8 rfl rfl)
theorem dX1_pass_35 : decode cX1_pass 35 = .ok (.aload_n 0, 1) := dk_42 (dk_at dksX1_pass_1 11 rfl rfl)
theorem dX1_pass_36 : decode cX1_pass 36 = .ok (.invokevirtual 231, 3) := dk_182 0 231 (dk_at dksX1_pass_1 12 rfl rfl)
theorem dX1_pass_39 : decode cX1_pass 39 = .ok (.dup, 1) := dk_89 (dk_at dksX1_pass_1 15 rfl rfl)
theorem dX1_pass_40 : decode cX1_pass 40 = .ok (.getfield 135, 3) := dk_180 0 135 (dk_at dksX1_pass_1 16 rfl rfl)
theorem dX1_pass_43 : decode cX1_pass 43 = .ok (.iload_n 1, 1) := dk_27 (dk_at dksX1_pass_1 19 rfl rfl)
theorem dX1_pass_44 : decode cX1_pass 44 = .ok (.iadd, 1) := dk_96 (dk_at dksX1_pass_1 20 rfl rfl)
theorem dX1_pass_45 : decode cX1_pass 45 = .ok (.putfield 135, 3) := dk_181 0 135 (dk_at dksX1_pass_1 21 rfl rfl)
theorem dX1_pass_48 : decode cX1_pass 48 = .ok (.aload_n 0, 1) := dk_42 (dk_at dksX1_pass_2 0 rfl rfl)
theorem dX1_pass_49 : decode cX1_pass 49 = .ok (.getfield 32, 3) := dk_180 0 32 (dk_at dksX1_pass_2 1 rfl rfl)
theorem dX1_pass_52 : decode cX1_pass 52 = .ok (.getfield 135, 3) := dk_180 0 135 (dk_at dksX1_pass_2 4 rfl rfl)
theorem dX1_pass_55 : decode cX1_pass 55 = .ok (.ireturn, 1) := dk_172 (dk_at dksX1_pass_2 7 rfl rfl)
theorem q68 : (Jvm.Cond.initialized "DocumentaryCreditDesk") ∈ lw_all := lw_g (lw_at lw_m1 1 rfl) rfl
theorem q107 : (Jvm.Cond.instantiable "DocumentaryCreditDesk" (5 : Nat)) ∈ lw_all := lw_g (lw_at lw_m1 40 rfl) rfl
theorem q109 : (Jvm.Cond.instanceMethod ({ cls := "DocumentaryCreditDesk", name := "<init>", desc := "()V" } : Jvm.MethodName)) ∈ lw_all := lw_g (lw_at lw_m1 42 rfl) rfl
theorem q110 : (Jvm.Cond.code ({ cls := "DocumentaryCreditDesk", name := "<init>", desc := "()V" } : Jvm.MethodName) prog_1_method_3_code (1 : Nat) (Option.none : Option Jvm.ClassFile.FieldType)) ∈ lw_all := lw_g (lw_at lw_m1 43 rfl) rfl
theorem q111 : (Jvm.Cond.methodLink "DocumentaryCreditDesk" (5 : Nat) ({ cls := "java/lang/Object", name := "<init>", desc := "()V" } : Jvm.MethodName)) ∈ lw_all := lw_g (lw_at lw_m1 44 rfl) rfl
theorem q114 : (Jvm.Cond.classLink "DocumentaryCreditDesk" (17 : Nat) "java/util/ArrayDeque") ∈ lw_all := lw_g (lw_at lw_m1 47 rfl) rfl
theorem q116 : (Jvm.Cond.methodLink "DocumentaryCreditDesk" (19 : Nat) ({ cls := "java/util/ArrayDeque", name := "<init>", desc := "()V" } : Jvm.MethodName)) ∈ lw_all := lw_g (lw_at lw_m1 49 rfl) rfl
theorem q136 : (Jvm.Cond.classLink "DocumentaryCreditDesk" (24 : Nat) "DocumentaryCreditDesk$Desk") ∈ lw_all := lw_g (lw_at lw_m1 69 rfl) rfl
theorem q138 : (Jvm.Cond.classLink "DocumentaryCreditDesk" (26 : Nat) "DocumentaryCreditDesk$Calendar") ∈ lw_all := lw_g (lw_at lw_m1 71 rfl) rfl
theorem q140 : (Jvm.Cond.methodLinkNest "DocumentaryCreditDesk" (28 : Nat) ({ cls := "DocumentaryCreditDesk$Calendar", name := "<init>", desc := "()V" } : Jvm.MethodName) "DocumentaryCreditDesk") ∈ lw_tbl := lw_at lw_m1 73 rfl
theorem q153 : (Jvm.Cond.methodLink "DocumentaryCreditDesk" (29 : Nat) ({ cls := "DocumentaryCreditDesk$Desk", name := "<init>", desc := "(LDocumentaryCreditDesk$Calendar;)V" } : Jvm.MethodName)) ∈ lw_all := lw_g (lw_at lw_m1 86 rfl) rfl
theorem q197 : (Jvm.Cond.fieldLinkNest "DocumentaryCreditDesk" (141 : Nat) "DocumentaryCreditDesk$Desk" "calendar" "LDocumentaryCreditDesk$Calendar;" "DocumentaryCreditDesk") ∈ lw_tbl := lw_at lw_m1 130 rfl
theorem q199 : (Jvm.Cond.fieldLinkNest "DocumentaryCreditDesk" (59 : Nat) "DocumentaryCreditDesk$Desk" "credits" "LDocumentaryCreditDesk$Book;" "DocumentaryCreditDesk") ∈ lw_tbl := lw_at lw_m1 132 rfl
theorem q202 : (Jvm.Cond.fieldLinkNest "DocumentaryCreditDesk" (87 : Nat) "DocumentaryCreditDesk$Desk" "presentations" "LDocumentaryCreditDesk$Book;" "DocumentaryCreditDesk") ∈ lw_tbl := lw_at lw_m1 135 rfl
theorem q206 : (Jvm.Cond.fieldLinkNest "DocumentaryCreditDesk" (135 : Nat) "DocumentaryCreditDesk$Desk" "today" "I" "DocumentaryCreditDesk") ∈ lw_tbl := lw_at lw_m1 139 rfl
theorem q219 : (Jvm.Cond.fieldLink "DocumentaryCreditDesk" (13 : Nat) "DocumentaryCreditDesk" "buffer" "[B") ∈ lw_all := lw_g (lw_at lw_m1 152 rfl) rfl
theorem q220 : (Jvm.Cond.fieldLink "DocumentaryCreditDesk" (20 : Nat) "DocumentaryCreditDesk" "history" "Ljava/util/ArrayDeque;") ∈ lw_all := lw_g (lw_at lw_m1 153 rfl) rfl
theorem q221 : (Jvm.Cond.fieldLink "DocumentaryCreditDesk" (32 : Nat) "DocumentaryCreditDesk" "current" "LDocumentaryCreditDesk$Desk;") ∈ lw_all := lw_g (lw_at lw_m1 154 rfl) rfl
theorem q222 : (Jvm.Cond.fieldLink "DocumentaryCreditDesk" (109 : Nat) "DocumentaryCreditDesk" "bufferLength" "I") ∈ lw_all := lw_g (lw_at lw_m1 155 rfl) rfl
theorem q223 : (Jvm.Cond.fieldLink "DocumentaryCreditDesk" (36 : Nat) "DocumentaryCreditDesk" "errorOffset" "I") ∈ lw_all := lw_g (lw_at lw_m1 156 rfl) rfl
theorem q224 : (Jvm.Cond.laysFinal "DocumentaryCreditDesk" "DocumentaryCreditDesk" "buffer" "[B") ∈ lw_all := lw_g (lw_at lw_m1 157 rfl) rfl
theorem q225 : (Jvm.Cond.soleField "DocumentaryCreditDesk" "buffer") ∈ lw_all := lw_g (lw_at lw_m1 158 rfl) rfl
theorem q226 : (Jvm.Cond.laysFinal "DocumentaryCreditDesk" "DocumentaryCreditDesk" "history" "Ljava/util/ArrayDeque;") ∈ lw_all := lw_g (lw_at lw_m1 159 rfl) rfl
theorem q227 : (Jvm.Cond.soleField "DocumentaryCreditDesk" "history") ∈ lw_all := lw_g (lw_at lw_m1 160 rfl) rfl
theorem q228 : (Jvm.Cond.lays "DocumentaryCreditDesk" "DocumentaryCreditDesk" "current" "LDocumentaryCreditDesk$Desk;") ∈ lw_all := lw_g (lw_at lw_m1 161 rfl) rfl
theorem q229 : (Jvm.Cond.soleField "DocumentaryCreditDesk" "current") ∈ lw_all := lw_g (lw_at lw_m1 162 rfl) rfl
theorem q230 : (Jvm.Cond.lays "DocumentaryCreditDesk" "DocumentaryCreditDesk" "bufferLength" "I") ∈ lw_all := lw_g (lw_at lw_m1 163 rfl) rfl
theorem q231 : (Jvm.Cond.soleField "DocumentaryCreditDesk" "bufferLength") ∈ lw_all := lw_g (lw_at lw_m1 164 rfl) rfl
theorem q232 : (Jvm.Cond.lays "DocumentaryCreditDesk" "DocumentaryCreditDesk" "errorOffset" "I") ∈ lw_all := lw_g (lw_at lw_m1 165 rfl) rfl
theorem q233 : (Jvm.Cond.soleField "DocumentaryCreditDesk" "errorOffset") ∈ lw_all := lw_g (lw_at lw_m1 166 rfl) rfl
theorem q234 : (Jvm.Cond.superclass "DocumentaryCreditDesk" "java/lang/Object") ∈ lw_all := lw_g (lw_at lw_m1 167 rfl) rfl
theorem q236 : (Jvm.Cond.instanceMethod ({ cls := "DocumentaryCreditDesk", name := "append", desc := "(IIIII)I" } : Jvm.MethodName)) ∈ lw_all := lw_g (lw_at lw_m1 169 rfl) rfl
theorem q237 : (Jvm.Cond.selects "DocumentaryCreditDesk" ({ cls := "DocumentaryCreditDesk", name := "append", desc := "(IIIII)I" } : Jvm.MethodName) ({ cls := "DocumentaryCreditDesk", name := "append", desc := "(IIIII)I" } : Jvm.MethodName)) ∈ lw_all := lw_g (lw_at lw_m1 170 rfl) rfl
theorem q238 : (Jvm.Cond.code ({ cls := "DocumentaryCreditDesk", name := "append", desc := "(IIIII)I" } : Jvm.MethodName) prog_1_method_15_code (6 : Nat) (Option.some Jvm.ClassFile.FieldType.int)) ∈ lw_all := lw_g (lw_at lw_m1 171 rfl) rfl
theorem q239 : (Jvm.Cond.methodLink "DocumentaryCreditDesk" (112 : Nat) ({ cls := "DocumentaryCreditDesk", name := "put", desc := "(I)V" } : Jvm.MethodName)) ∈ lw_all := lw_g (lw_at lw_m1 172 rfl) rfl
theorem q240 : (Jvm.Cond.privateMethod ({ cls := "DocumentaryCreditDesk", name := "put", desc := "(I)V" } : Jvm.MethodName)) ∈ lw_tbl := lw_at lw_m1 173 rfl
theorem q241 : (Jvm.Cond.instanceMethod ({ cls := "DocumentaryCreditDesk", name := "put", desc := "(I)V" } : Jvm.MethodName)) ∈ lw_all := lw_g (lw_at lw_m1 174 rfl) rfl
theorem q242 : (Jvm.Cond.code ({ cls := "DocumentaryCreditDesk", name := "put", desc := "(I)V" } : Jvm.MethodName) prog_1_method_14_code (3 : Nat) (Option.none : Option Jvm.ClassFile.FieldType)) ∈ lw_all := lw_g (lw_at lw_m1 175 rfl) rfl
theorem q244 : (Jvm.Cond.instanceMethod ({ cls := "DocumentaryCreditDesk", name := "errorOffset", desc := "()I" } : Jvm.MethodName)) ∈ lw_all := lw_g (lw_at lw_m1 177 rfl) rfl
theorem q245 : (Jvm.Cond.selects "DocumentaryCreditDesk" ({ cls := "DocumentaryCreditDesk", name := "errorOffset", desc := "()I" } : Jvm.MethodName) ({ cls := "DocumentaryCreditDesk", name := "errorOffset", desc := "()I" } : Jvm.MethodName)) ∈ lw_all := lw_g (lw_at lw_m1 178 rfl) rfl
theorem q246 : (Jvm.Cond.code ({ cls := "DocumentaryCreditDesk", name := "errorOffset", desc := "()I" } : Jvm.MethodName) prog_1_method_17_code (1 : Nat) (Option.some Jvm.ClassFile.FieldType.int)) ∈ lw_all := lw_g (lw_at lw_m1 179 rfl) rfl
theorem q248 : (Jvm.Cond.instanceMethod ({ cls := "DocumentaryCreditDesk", name := "creditCount", desc := "()I" } : Jvm.MethodName)) ∈ lw_all := lw_g (lw_at lw_m1 181 rfl) rfl
theorem q249 : (Jvm.Cond.selects "DocumentaryCreditDesk" ({ cls := "DocumentaryCreditDesk", name := "creditCount", desc := "()I" } : Jvm.MethodName) ({ cls := "DocumentaryCreditDesk", name := "creditCount", desc := "()I" } : Jvm.MethodName)) ∈ lw_all := lw_g (lw_at lw_m1 182 rfl) rfl
theorem q250 : (Jvm.Cond.code ({ cls := "DocumentaryCreditDesk", name := "creditCount", desc := "()I" } : Jvm.MethodName) prog_1_method_18_code (1 : Nat) (Option.some Jvm.ClassFile.FieldType.int)) ∈ lw_all := lw_g (lw_at lw_m1 183 rfl) rfl
theorem q251 : (Jvm.Cond.methodLink "DocumentaryCreditDesk" (63 : Nat) ({ cls := "DocumentaryCreditDesk$Book", name := "size", desc := "()I" } : Jvm.MethodName)) ∈ lw_all := lw_g (lw_at lw_m1 184 rfl) rfl
theorem q266 : (Jvm.Cond.instanceMethod ({ cls := "DocumentaryCreditDesk", name := "presentationCount", desc := "()I" } : Jvm.MethodName)) ∈ lw_all := lw_g (lw_at lw_m1 199 rfl) rfl
theorem q267 : (Jvm.Cond.selects "DocumentaryCreditDesk" ({ cls := "DocumentaryCreditDesk", name := "presentationCount", desc := "()I" } : Jvm.MethodName) ({ cls := "DocumentaryCreditDesk", name := "presentationCount", desc := "()I" } : Jvm.MethodName)) ∈ lw_all := lw_g (lw_at lw_m1 200 rfl) rfl
theorem q268 : (Jvm.Cond.code ({ cls := "DocumentaryCreditDesk", name := "presentationCount", desc := "()I" } : Jvm.MethodName) prog_1_method_19_code (1 : Nat) (Option.some Jvm.ClassFile.FieldType.int)) ∈ lw_all := lw_g (lw_at lw_m1 201 rfl) rfl
theorem q270 : (Jvm.Cond.instanceMethod ({ cls := "DocumentaryCreditDesk", name := "today", desc := "()I" } : Jvm.MethodName)) ∈ lw_all := lw_g (lw_at lw_m1 203 rfl) rfl
theorem q271 : (Jvm.Cond.selects "DocumentaryCreditDesk" ({ cls := "DocumentaryCreditDesk", name := "today", desc := "()I" } : Jvm.MethodName) ({ cls := "DocumentaryCreditDesk", name := "today", desc := "()I" } : Jvm.MethodName)) ∈ lw_all := lw_g (lw_at lw_m1 204 rfl) rfl
theorem q272 : (Jvm.Cond.code ({ cls := "DocumentaryCreditDesk", name := "today", desc := "()I" } : Jvm.MethodName) prog_1_method_20_code (1 : Nat) (Option.some Jvm.ClassFile.FieldType.int)) ∈ lw_all := lw_g (lw_at lw_m1 205 rfl) rfl
theorem q274 : (Jvm.Cond.instanceMethod ({ cls := "DocumentaryCreditDesk", name := "dueBetween", desc := "(II)J" } : Jvm.MethodName)) ∈ lw_all := lw_g (lw_at lw_m1 207 rfl) rfl
theorem q275 : (Jvm.Cond.selects "DocumentaryCreditDesk" ({ cls := "DocumentaryCreditDesk", name := "dueBetween", desc := "(II)J" } : Jvm.MethodName) ({ cls := "DocumentaryCreditDesk", name := "dueBetween", desc := "(II)J" } : Jvm.MethodName)) ∈ lw_all := lw_g (lw_at lw_m1 208 rfl) rfl
theorem q276 : (Jvm.Cond.code ({ cls := "DocumentaryCreditDesk", name := "dueBetween", desc := "(II)J" } : Jvm.MethodName) prog_1_method_37_code (7 : Nat) (Option.some Jvm.ClassFile.FieldType.long)) ∈ lw_all := lw_g (lw_at lw_m1 209 rfl) rfl
theorem q277 : (Jvm.Cond.methodLink "DocumentaryCreditDesk" (81 : Nat) ({ cls := "DocumentaryCreditDesk$Book", name := "get", desc := "(I)Ljava/lang/Object;" } : Jvm.MethodName)) ∈ lw_all := lw_g (lw_at lw_m1 210 rfl) rfl
theorem q300 : (Jvm.Cond.classLink "DocumentaryCreditDesk" (90 : Nat) "DocumentaryCreditDesk$Presentation") ∈ lw_all := lw_g (lw_at lw_m1 233 rfl) rfl
theorem q301 : (Jvm.Cond.methodLink "DocumentaryCreditDesk" (40 : Nat) ({ cls := "DocumentaryCreditDesk", name := "isBetween", desc := "(JJJ)Z" } : Jvm.MethodName)) ∈ lw_all := lw_g (lw_at lw_m1 234 rfl) rfl
theorem q302 : (Jvm.Cond.static ({ cls := "DocumentaryCreditDesk", name := "isBetween", desc := "(JJJ)Z" } : Jvm.MethodName)) ∈ lw_all := lw_g (lw_at lw_m1 235 rfl) rfl
theorem q303 : (Jvm.Cond.code ({ cls := "DocumentaryCreditDesk", name := "isBetween", desc := "(JJJ)Z" } : Jvm.MethodName) prog_1_method_1_code (6 : Nat) (Option.some Jvm.ClassFile.FieldType.boolean)) ∈ lw_all := lw_g (lw_at lw_m1 236 rfl) rfl
theorem q305 : (Jvm.Cond.instanceMethod ({ cls := "DocumentaryCreditDesk", name := "undo", desc := "()I" } : Jvm.MethodName)) ∈ lw_all := lw_g (lw_at lw_m1 238 rfl) rfl
theorem q306 : (Jvm.Cond.selects "DocumentaryCreditDesk" ({ cls := "DocumentaryCreditDesk", name := "undo", desc := "()I" } : Jvm.MethodName) ({ cls := "DocumentaryCreditDesk", name := "undo", desc := "()I" } : Jvm.MethodName)) ∈ lw_all := lw_g (lw_at lw_m1 239 rfl) rfl
theorem q307 : (Jvm.Cond.code ({ cls := "DocumentaryCreditDesk", name := "undo", desc := "()I" } : Jvm.MethodName) prog_1_method_47_code (1 : Nat) (Option.some Jvm.ClassFile.FieldType.int)) ∈ lw_all := lw_g (lw_at lw_m2 0 rfl) rfl
theorem q308 : (Jvm.Cond.methodLink "DocumentaryCreditDesk" (272 : Nat) ({ cls := "java/util/ArrayDeque", name := "isEmpty", desc := "()Z" } : Jvm.MethodName)) ∈ lw_all := lw_g (lw_at lw_m2 1 rfl) rfl
theorem q312 : (Jvm.Cond.methodLink "DocumentaryCreditDesk" (275 : Nat) ({ cls := "java/util/ArrayDeque", name := "removeLast", desc := "()Ljava/lang/Object;" } : Jvm.MethodName)) ∈ lw_all := lw_g (lw_at lw_m2 5 rfl) rfl
theorem q326 : (Jvm.Cond.methodLink "DocumentaryCreditDesk" (92 : Nat) ({ cls := "java/util/ArrayDeque", name := "size", desc := "()I" } : Jvm.MethodName)) ∈ lw_all := lw_g (lw_at lw_m2 19 rfl) rfl
theorem q334 : (Jvm.Cond.instanceMethod ({ cls := "DocumentaryCreditDesk", name := "checksum", desc := "()J" } : Jvm.MethodName)) ∈ lw_all := lw_g (lw_at lw_m2 27 rfl) rfl
theorem q335 : (Jvm.Cond.selects "DocumentaryCreditDesk" ({ cls := "DocumentaryCreditDesk", name := "checksum", desc := "()J" } : Jvm.MethodName) ({ cls := "DocumentaryCreditDesk", name := "checksum", desc := "()J" } : Jvm.MethodName)) ∈ lw_all := lw_g (lw_at lw_m2 28 rfl) rfl
theorem q336 : (Jvm.Cond.code ({ cls := "DocumentaryCreditDesk", name := "checksum", desc := "()J" } : Jvm.MethodName) prog_1_method_49_code (5 : Nat) (Option.some Jvm.ClassFile.FieldType.long)) ∈ lw_all := lw_g (lw_at lw_m2 29 rfl) rfl
theorem q337 : (Jvm.Cond.classLink "DocumentaryCreditDesk" (85 : Nat) "DocumentaryCreditDesk$Credit") ∈ lw_all := lw_g (lw_at lw_m2 30 rfl) rfl
theorem q338 : (Jvm.Cond.methodLink "DocumentaryCreditDesk" (280 : Nat) ({ cls := "DocumentaryCreditDesk", name := "hash", desc := "(JJ)J" } : Jvm.MethodName)) ∈ lw_all := lw_g (lw_at lw_m2 31 rfl) rfl
theorem q339 : (Jvm.Cond.static ({ cls := "DocumentaryCreditDesk", name := "hash", desc := "(JJ)J" } : Jvm.MethodName)) ∈ lw_all := lw_g (lw_at lw_m2 32 rfl) rfl
theorem q340 : (Jvm.Cond.code ({ cls := "DocumentaryCreditDesk", name := "hash", desc := "(JJ)J" } : Jvm.MethodName) prog_1_method_48_code (4 : Nat) (Option.some Jvm.ClassFile.FieldType.long)) ∈ lw_all := lw_g (lw_at lw_m2 33 rfl) rfl
theorem q341 : (Jvm.Cond.constantLong "DocumentaryCreditDesk" (278 : Nat) (31 : Int64)) ∈ lw_all := lw_g (lw_at lw_m2 34 rfl) rfl
theorem q342 : (Jvm.Cond.methodLink "DocumentaryCreditDesk" (175 : Nat) ({ cls := "DocumentaryCreditDesk$Desk", name := "drawn", desc := "(I)I" } : Jvm.MethodName)) ∈ lw_all := lw_g (lw_at lw_m2 35 rfl) rfl
theorem q357 : (Jvm.Cond.methodLink "DocumentaryCreditDesk" (181 : Nat) ({ cls := "DocumentaryCreditDesk$Desk", name := "available", desc := "(I)I" } : Jvm.MethodName)) ∈ lw_all := lw_g (lw_at lw_m2 50 rfl) rfl
theorem q376 : (Jvm.Cond.instanceMethod ({ cls := "DocumentaryCreditDesk", name := "load", desc := "(I)I" } : Jvm.MethodName)) ∈ lw_all := lw_g (lw_at lw_m2 69 rfl) rfl
theorem q377 : (Jvm.Cond.selects "DocumentaryCreditDesk" ({ cls := "DocumentaryCreditDesk", name := "load", desc := "(I)I" } : Jvm.MethodName) ({ cls := "DocumentaryCreditDesk", name := "load", desc := "(I)I" } : Jvm.MethodName)) ∈ lw_all := lw_g (lw_at lw_m2 70 rfl) rfl
theorem q378 : (Jvm.Cond.codeWith ({ cls := "DocumentaryCreditDesk", name := "load", desc := "(I)I" } : Jvm.MethodName) prog_1_method_16_code (3 : Nat) (Option.some Jvm.ClassFile.FieldType.int) [((24 : Nat), (50 : Nat), (51 : Nat), (123 : Nat)), ((24 : Nat), (50 : Nat), (51 : Nat), (125 : Nat))]) ∈ lw_all := lw_g (lw_at lw_m2 71 rfl) rfl
theorem q379 : (Jvm.Cond.classLink "DocumentaryCreditDesk" (123 : Nat) "DocumentaryCreditDesk$SyntaxException") ∈ lw_all := lw_g (lw_at lw_m2 72 rfl) rfl
theorem q380 : (Jvm.Cond.classLink "DocumentaryCreditDesk" (125 : Nat) "DocumentaryCreditDesk$LimitException") ∈ lw_all := lw_g (lw_at lw_m2 73 rfl) rfl
theorem q381 : (Jvm.Cond.methodLink "DocumentaryCreditDesk" (55 : Nat) ({ cls := "DocumentaryCreditDesk", name := "requireArgument", desc := "(Z)V" } : Jvm.MethodName)) ∈ lw_all := lw_g (lw_at lw_m2 74 rfl) rfl
theorem q382 : (Jvm.Cond.static ({ cls := "DocumentaryCreditDesk", name := "requireArgument", desc := "(Z)V" } : Jvm.MethodName)) ∈ lw_all := lw_g (lw_at lw_m2 75 rfl) rfl
theorem q383 : (Jvm.Cond.code ({ cls := "DocumentaryCreditDesk", name := "requireArgument", desc := "(Z)V" } : Jvm.MethodName) prog_1_method_5_code (1 : Nat) (Option.none : Option Jvm.ClassFile.FieldType)) ∈ lw_all := lw_g (lw_at lw_m2 76 rfl) rfl
theorem q384 : (Jvm.Cond.classLink "DocumentaryCreditDesk" (47 : Nat) "java/lang/IllegalArgumentException") ∈ lw_all := lw_g (lw_at lw_m2 77 rfl) rfl
theorem q429 : (Jvm.Cond.methodLink "DocumentaryCreditDesk" (49 : Nat) ({ cls := "java/lang/IllegalArgumentException", name := "<init>", desc := "()V" } : Jvm.MethodName)) ∈ lw_all := lw_g (lw_at lw_m2 122 rfl) rfl
theorem q452 : (Jvm.Cond.classLink "DocumentaryCreditDesk" (115 : Nat) "DocumentaryCreditDesk$Parser") ∈ lw_all := lw_g (lw_at lw_m2 145 rfl) rfl
theorem q454 : (Jvm.Cond.methodLink "DocumentaryCreditDesk" (117 : Nat) ({ cls := "DocumentaryCreditDesk$Parser", name := "<init>", desc := "(LDocumentaryCreditDesk;I)V" } : Jvm.MethodName)) ∈ lw_all := lw_g (lw_at lw_m2 147 rfl) rfl
theorem q487 : (Jvm.Cond.methodLink "DocumentaryCreditDesk" (120 : Nat) ({ cls := "DocumentaryCreditDesk$Parser", name := "parse", desc := "()LDocumentaryCreditDesk$Desk;" } : Jvm.MethodName)) ∈ lw_all := lw_g (lw_at lw_m2 180 rfl) rfl
theorem q898 : (Jvm.Cond.fieldLink "DocumentaryCreditDesk" (127 : Nat) "DocumentaryCreditDesk$SetupException" "offset" "I") ∈ lw_all := lw_g (lw_at lw_m4 111 rfl) rfl
theorem q964 : (Jvm.Cond.fieldLinkNest "DocumentaryCreditDesk" (163 : Nat) "DocumentaryCreditDesk$Credit" "parent" "I" "DocumentaryCreditDesk") ∈ lw_tbl := lw_at lw_m4 177 rfl
theorem q971 : (Jvm.Cond.fieldLinkNest "DocumentaryCreditDesk" (172 : Nat) "DocumentaryCreditDesk$Credit" "expiry" "I" "DocumentaryCreditDesk") ∈ lw_tbl := lw_at lw_m4 184 rfl
theorem q982 : (Jvm.Cond.fieldLinkNest "DocumentaryCreditDesk" (263 : Nat) "DocumentaryCreditDesk$Credit" "isPartial" "Z" "DocumentaryCreditDesk") ∈ lw_tbl := lw_at lw_m4 195 rfl
theorem q984 : (Jvm.Cond.fieldLinkNest "DocumentaryCreditDesk" (259 : Nat) "DocumentaryCreditDesk$Credit" "isTransferable" "Z" "DocumentaryCreditDesk") ∈ lw_tbl := lw_at lw_m4 197 rfl
theorem q1040 : (Jvm.Cond.selects "DocumentaryCreditDesk" ({ cls := "java/lang/Object", name := "getClass", desc := "()Ljava/lang/Class;" } : Jvm.MethodName) ({ cls := "java/lang/Object", name := "getClass", desc := "()Ljava/lang/Class;" } : Jvm.MethodName)) ∈ lw_all := lw_g (lw_at lw_m5 13 rfl) rfl
theorem q1098 : (Jvm.Cond.static ({ cls := "DocumentaryCreditDesk", name := "operation", desc := "(ILDocumentaryCreditDesk$Fee;LDocumentaryCreditDesk$Fee;)LDocumentaryCreditDesk$Fee;" } : Jvm.MethodName)) ∈ lw_all := lw_g (lw_at lw_m5 71 rfl) rfl
theorem q1099 : (Jvm.Cond.code ({ cls := "DocumentaryCreditDesk", name := "operation", desc := "(ILDocumentaryCreditDesk$Fee;LDocumentaryCreditDesk$Fee;)LDocumentaryCreditDesk$Fee;" } : Jvm.MethodName) prog_1_method_2_code (3 : Nat) (Option.some (Jvm.ClassFile.FieldType.object "DocumentaryCreditDesk$Fee"))) ∈ lw_all := lw_g (lw_at lw_m5 72 rfl) rfl
theorem q1100 : (Jvm.Cond.static ({ cls := "DocumentaryCreditDesk", name := "lambda$operation$0", desc := "(LDocumentaryCreditDesk$Fee;LDocumentaryCreditDesk$Fee;IJJJ)J" } : Jvm.MethodName)) ∈ lw_all := lw_g (lw_at lw_m5 73 rfl) rfl
theorem q1101 : (Jvm.Cond.code ({ cls := "DocumentaryCreditDesk", name := "lambda$operation$0", desc := "(LDocumentaryCreditDesk$Fee;LDocumentaryCreditDesk$Fee;IJJJ)J" } : Jvm.MethodName) prog_1_method_50_code (15 : Nat) (Option.some Jvm.ClassFile.FieldType.long)) ∈ lw_all := lw_g (lw_at lw_m5 74 rfl) rfl
theorem q1102 : (Jvm.Cond.interfaceEntry "DocumentaryCreditDesk" (284 : Nat)) ∈ lw_tbl := lw_at lw_m5 75 rfl
theorem q1103 : (Jvm.Cond.methodLink "DocumentaryCreditDesk" (284 : Nat) ({ cls := "DocumentaryCreditDesk$Fee", name := "of", desc := "(JJJ)J" } : Jvm.MethodName)) ∈ lw_all := lw_g (lw_at lw_m5 76 rfl) rfl
theorem q1106 : (Jvm.Cond.constantLong "DocumentaryCreditDesk" (289 : Nat) (-100000000 : Int64)) ∈ lw_all := lw_g (lw_at lw_m5 79 rfl) rfl
theorem q1107 : (Jvm.Cond.constantLong "DocumentaryCreditDesk" (291 : Nat) (100000000 : Int64)) ∈ lw_all := lw_g (lw_at lw_m5 80 rfl) rfl
theorem q1108 : (Jvm.Cond.methodLink "DocumentaryCreditDesk" (293 : Nat) ({ cls := "java/lang/Math", name := "min", desc := "(JJ)J" } : Jvm.MethodName)) ∈ lw_all := lw_g (lw_at lw_m5 81 rfl) rfl
theorem q1111 : (Jvm.Cond.methodLink "DocumentaryCreditDesk" (297 : Nat) ({ cls := "java/lang/Math", name := "max", desc := "(JJ)J" } : Jvm.MethodName)) ∈ lw_all := lw_g (lw_at lw_m5 84 rfl) rfl
theorem q1114 : (Jvm.Cond.methodLink "DocumentaryCreditDesk" (105 : Nat) ({ cls := "DocumentaryCreditDesk", name := "replace", desc := "(LDocumentaryCreditDesk$Desk;)V" } : Jvm.MethodName)) ∈ lw_all := lw_g (lw_at lw_m5 87 rfl) rfl
theorem q1115 : (Jvm.Cond.privateMethod ({ cls := "DocumentaryCreditDesk", name := "replace", desc := "(LDocumentaryCreditDesk$Desk;)V" } : Jvm.MethodName)) ∈ lw_tbl := lw_at lw_m5 88 rfl
theorem q1116 : (Jvm.Cond.instanceMethod ({ cls := "DocumentaryCreditDesk", name := "replace", desc := "(LDocumentaryCreditDesk$Desk;)V" } : Jvm.MethodName)) ∈ lw_all := lw_g (lw_at lw_m5 89 rfl) rfl
theorem q1117 : (Jvm.Cond.code ({ cls := "DocumentaryCreditDesk", name := "replace", desc := "(LDocumentaryCreditDesk$Desk;)V" } : Jvm.MethodName) prog_1_method_12_code (2 : Nat) (Option.none : Option Jvm.ClassFile.FieldType)) ∈ lw_all := lw_g (lw_at lw_m5 90 rfl) rfl
theorem q1118 : (Jvm.Cond.methodLink "DocumentaryCreditDesk" (93 : Nat) ({ cls := "java/util/ArrayDeque", name := "removeFirst", desc := "()Ljava/lang/Object;" } : Jvm.MethodName)) ∈ lw_all := lw_g (lw_at lw_m5 91 rfl) rfl
theorem q1129 : (Jvm.Cond.methodLink "DocumentaryCreditDesk" (97 : Nat) ({ cls := "java/util/ArrayDeque", name := "addLast", desc := "(Ljava/lang/Object;)V" } : Jvm.MethodName)) ∈ lw_all := lw_g (lw_at lw_m5 102 rfl) rfl
theorem q1161 : (Jvm.Cond.methodLink "DocumentaryCreditDesk" (132 : Nat) ({ cls := "DocumentaryCreditDesk$SetupException", name := "code", desc := "()I" } : Jvm.MethodName)) ∈ lw_all := lw_g (lw_at lw_m5 134 rfl) rfl
theorem q1174 : (Jvm.Cond.instanceMethod ({ cls := "DocumentaryCreditDesk", name := "isBusinessDay", desc := "(I)Z" } : Jvm.MethodName)) ∈ lw_all := lw_g (lw_at lw_m5 147 rfl) rfl
theorem q1175 : (Jvm.Cond.selects "DocumentaryCreditDesk" ({ cls := "DocumentaryCreditDesk", name := "isBusinessDay", desc := "(I)Z" } : Jvm.MethodName) ({ cls := "DocumentaryCreditDesk", name := "isBusinessDay", desc := "(I)Z" } : Jvm.MethodName)) ∈ lw_all := lw_g (lw_at lw_m5 148 rfl) rfl
theorem q1176 : (Jvm.Cond.code ({ cls := "DocumentaryCreditDesk", name := "isBusinessDay", desc := "(I)Z" } : Jvm.MethodName) prog_1_method_21_code (2 : Nat) (Option.some Jvm.ClassFile.FieldType.boolean)) ∈ lw_all := lw_g (lw_at lw_m5 149 rfl) rfl
theorem q1177 : (Jvm.Cond.methodLink "DocumentaryCreditDesk" (138 : Nat) ({ cls := "DocumentaryCreditDesk", name := "requireDay", desc := "(I)V" } : Jvm.MethodName)) ∈ lw_all := lw_g (lw_at lw_m5 150 rfl) rfl
theorem q1178 : (Jvm.Cond.static ({ cls := "DocumentaryCreditDesk", name := "requireDay", desc := "(I)V" } : Jvm.MethodName)) ∈ lw_all := lw_g (lw_at lw_m5 151 rfl) rfl
theorem q1179 : (Jvm.Cond.code ({ cls := "DocumentaryCreditDesk", name := "requireDay", desc := "(I)V" } : Jvm.MethodName) prog_1_method_7_code (1 : Nat) (Option.none : Option Jvm.ClassFile.FieldType)) ∈ lw_all := lw_g (lw_at lw_m5 152 rfl) rfl
theorem q1180 : (Jvm.Cond.constantLong "DocumentaryCreditDesk" (53 : Nat) (9999 : Int64)) ∈ lw_all := lw_g (lw_at lw_m5 153 rfl) rfl
theorem q1181 : (Jvm.Cond.methodLink "DocumentaryCreditDesk" (145 : Nat) ({ cls := "DocumentaryCreditDesk$Calendar", name := "isBusinessDay", desc := "(I)Z" } : Jvm.MethodName)) ∈ lw_all := lw_g (lw_at lw_m5 154 rfl) rfl
theorem q1190 : (Jvm.Cond.instanceMethod ({ cls := "DocumentaryCreditDesk", name := "extended", desc := "(I)I" } : Jvm.MethodName)) ∈ lw_all := lw_g (lw_at lw_m5 163 rfl) rfl
theorem q1191 : (Jvm.Cond.selects "DocumentaryCreditDesk" ({ cls := "DocumentaryCreditDesk", name := "extended", desc := "(I)I" } : Jvm.MethodName) ({ cls := "DocumentaryCreditDesk", name := "extended", desc := "(I)I" } : Jvm.MethodName)) ∈ lw_all := lw_g (lw_at lw_m5 164 rfl) rfl
theorem q1192 : (Jvm.Cond.code ({ cls := "DocumentaryCreditDesk", name := "extended", desc := "(I)I" } : Jvm.MethodName) prog_1_method_22_code (2 : Nat) (Option.some Jvm.ClassFile.FieldType.int)) ∈ lw_all := lw_g (lw_at lw_m5 165 rfl) rfl
theorem q1193 : (Jvm.Cond.methodLink "DocumentaryCreditDesk" (149 : Nat) ({ cls := "DocumentaryCreditDesk$Calendar", name := "extended", desc := "(I)I" } : Jvm.MethodName)) ∈ lw_all := lw_g (lw_at lw_m5 166 rfl) rfl
theorem q1280 : (Jvm.Cond.instanceMethod ({ cls := "DocumentaryCreditDesk", name := "addBusinessDays", desc := "(II)I" } : Jvm.MethodName)) ∈ lw_all := lw_g (lw_at lw_m6 13 rfl) rfl
theorem q1281 : (Jvm.Cond.selects "DocumentaryCreditDesk" ({ cls := "DocumentaryCreditDesk", name := "addBusinessDays", desc := "(II)I" } : Jvm.MethodName) ({ cls := "DocumentaryCreditDesk", name := "addBusinessDays", desc := "(II)I" } : Jvm.MethodName)) ∈ lw_all := lw_g (lw_at lw_m6 14 rfl) rfl
theorem q1282 : (Jvm.Cond.code ({ cls := "DocumentaryCreditDesk", name := "addBusinessDays", desc := "(II)I" } : Jvm.MethodName) prog_1_method_23_code (3 : Nat) (Option.some Jvm.ClassFile.FieldType.int)) ∈ lw_all := lw_g (lw_at lw_m6 15 rfl) rfl
theorem q1283 : (Jvm.Cond.constantLong "DocumentaryCreditDesk" (153 : Nat) (100 : Int64)) ∈ lw_all := lw_g (lw_at lw_m6 16 rfl) rfl
theorem q1284 : (Jvm.Cond.methodLink "DocumentaryCreditDesk" (155 : Nat) ({ cls := "DocumentaryCreditDesk$Calendar", name := "add", desc := "(II)I" } : Jvm.MethodName)) ∈ lw_all := lw_g (lw_at lw_m6 17 rfl) rfl
theorem q1292 : (Jvm.Cond.instanceMethod ({ cls := "DocumentaryCreditDesk", name := "businessDays", desc := "(II)I" } : Jvm.MethodName)) ∈ lw_all := lw_g (lw_at lw_m6 25 rfl) rfl
theorem q1293 : (Jvm.Cond.selects "DocumentaryCreditDesk" ({ cls := "DocumentaryCreditDesk", name := "businessDays", desc := "(II)I" } : Jvm.MethodName) ({ cls := "DocumentaryCreditDesk", name := "businessDays", desc := "(II)I" } : Jvm.MethodName)) ∈ lw_all := lw_g (lw_at lw_m6 26 rfl) rfl
theorem q1294 : (Jvm.Cond.code ({ cls := "DocumentaryCreditDesk", name := "businessDays", desc := "(II)I" } : Jvm.MethodName) prog_1_method_24_code (5 : Nat) (Option.some Jvm.ClassFile.FieldType.int)) ∈ lw_all := lw_g (lw_at lw_m6 27 rfl) rfl
theorem q1318 : (Jvm.Cond.instanceMethod ({ cls := "DocumentaryCreditDesk", name := "parent", desc := "(I)I" } : Jvm.MethodName)) ∈ lw_all := lw_g (lw_at lw_m6 51 rfl) rfl
theorem q1319 : (Jvm.Cond.selects "DocumentaryCreditDesk" ({ cls := "DocumentaryCreditDesk", name := "parent", desc := "(I)I" } : Jvm.MethodName) ({ cls := "DocumentaryCreditDesk", name := "parent", desc := "(I)I" } : Jvm.MethodName)) ∈ lw_all := lw_g (lw_at lw_m6 52 rfl) rfl
theorem q1320 : (Jvm.Cond.code ({ cls := "DocumentaryCreditDesk", name := "parent", desc := "(I)I" } : Jvm.MethodName) prog_1_method_25_code (2 : Nat) (Option.some Jvm.ClassFile.FieldType.int)) ∈ lw_all := lw_g (lw_at lw_m6 53 rfl) rfl
theorem q1321 : (Jvm.Cond.methodLink "DocumentaryCreditDesk" (159 : Nat) ({ cls := "DocumentaryCreditDesk", name := "creditAt", desc := "(I)LDocumentaryCreditDesk$Credit;" } : Jvm.MethodName)) ∈ lw_all := lw_g (lw_at lw_m6 54 rfl) rfl
theorem q1322 : (Jvm.Cond.privateMethod ({ cls := "DocumentaryCreditDesk", name := "creditAt", desc := "(I)LDocumentaryCreditDesk$Credit;" } : Jvm.MethodName)) ∈ lw_tbl := lw_at lw_m6 55 rfl
theorem q1323 : (Jvm.Cond.instanceMethod ({ cls := "DocumentaryCreditDesk", name := "creditAt", desc := "(I)LDocumentaryCreditDesk$Credit;" } : Jvm.MethodName)) ∈ lw_all := lw_g (lw_at lw_m6 56 rfl) rfl
theorem q1324 : (Jvm.Cond.code ({ cls := "DocumentaryCreditDesk", name := "creditAt", desc := "(I)LDocumentaryCreditDesk$Credit;" } : Jvm.MethodName) prog_1_method_10_code (2 : Nat) (Option.some (Jvm.ClassFile.FieldType.object "DocumentaryCreditDesk$Credit"))) ∈ lw_all := lw_g (lw_at lw_m6 57 rfl) rfl
theorem q1325 : (Jvm.Cond.methodLink "DocumentaryCreditDesk" (73 : Nat) ({ cls := "DocumentaryCreditDesk", name := "requireCredit", desc := "(I)V" } : Jvm.MethodName)) ∈ lw_all := lw_g (lw_at lw_m6 58 rfl) rfl
theorem q1326 : (Jvm.Cond.privateMethod ({ cls := "DocumentaryCreditDesk", name := "requireCredit", desc := "(I)V" } : Jvm.MethodName)) ∈ lw_tbl := lw_at lw_m6 59 rfl
theorem q1327 : (Jvm.Cond.instanceMethod ({ cls := "DocumentaryCreditDesk", name := "requireCredit", desc := "(I)V" } : Jvm.MethodName)) ∈ lw_all := lw_g (lw_at lw_m6 60 rfl) rfl
theorem q1328 : (Jvm.Cond.code ({ cls := "DocumentaryCreditDesk", name := "requireCredit", desc := "(I)V" } : Jvm.MethodName) prog_1_method_8_code (2 : Nat) (Option.none : Option Jvm.ClassFile.FieldType)) ∈ lw_all := lw_g (lw_at lw_m6 61 rfl) rfl
theorem q1329 : (Jvm.Cond.methodLink "DocumentaryCreditDesk" (69 : Nat) ({ cls := "DocumentaryCreditDesk", name := "requireIndex", desc := "(II)V" } : Jvm.MethodName)) ∈ lw_all := lw_g (lw_at lw_m6 62 rfl) rfl
theorem q1330 : (Jvm.Cond.static ({ cls := "DocumentaryCreditDesk", name := "requireIndex", desc := "(II)V" } : Jvm.MethodName)) ∈ lw_all := lw_g (lw_at lw_m6 63 rfl) rfl
theorem q1331 : (Jvm.Cond.code ({ cls := "DocumentaryCreditDesk", name := "requireIndex", desc := "(II)V" } : Jvm.MethodName) prog_1_method_4_code (2 : Nat) (Option.none : Option Jvm.ClassFile.FieldType)) ∈ lw_all := lw_g (lw_at lw_m6 64 rfl) rfl
theorem q1332 : (Jvm.Cond.classLink "DocumentaryCreditDesk" (44 : Nat) "java/lang/IndexOutOfBoundsException") ∈ lw_all := lw_g (lw_at lw_m6 65 rfl) rfl
theorem q1341 : (Jvm.Cond.methodLink "DocumentaryCreditDesk" (46 : Nat) ({ cls := "java/lang/IndexOutOfBoundsException", name := "<init>", desc := "()V" } : Jvm.MethodName)) ∈ lw_all := lw_g (lw_at lw_m6 74 rfl) rfl
theorem q1351 : (Jvm.Cond.instanceMethod ({ cls := "DocumentaryCreditDesk", name := "bound", desc := "(IZ)I" } : Jvm.MethodName)) ∈ lw_all := lw_g (lw_at lw_m6 84 rfl) rfl
theorem q1352 : (Jvm.Cond.selects "DocumentaryCreditDesk" ({ cls := "DocumentaryCreditDesk", name := "bound", desc := "(IZ)I" } : Jvm.MethodName) ({ cls := "DocumentaryCreditDesk", name := "bound", desc := "(IZ)I" } : Jvm.MethodName)) ∈ lw_all := lw_g (lw_at lw_m6 85 rfl) rfl
theorem q1353 : (Jvm.Cond.code ({ cls := "DocumentaryCreditDesk", name := "bound", desc := "(IZ)I" } : Jvm.MethodName) prog_1_method_26_code (3 : Nat) (Option.some Jvm.ClassFile.FieldType.int)) ∈ lw_all := lw_g (lw_at lw_m6 86 rfl) rfl
theorem q1354 : (Jvm.Cond.methodLink "DocumentaryCreditDesk" (166 : Nat) ({ cls := "DocumentaryCreditDesk$Credit", name := "max", desc := "()I" } : Jvm.MethodName)) ∈ lw_all := lw_g (lw_at lw_m6 87 rfl) rfl
theorem q1355 : (Jvm.Cond.methodLink "DocumentaryCreditDesk" (169 : Nat) ({ cls := "DocumentaryCreditDesk$Credit", name := "min", desc := "()I" } : Jvm.MethodName)) ∈ lw_all := lw_g (lw_at lw_m6 88 rfl) rfl
theorem q1363 : (Jvm.Cond.instanceMethod ({ cls := "DocumentaryCreditDesk", name := "expiry", desc := "(I)I" } : Jvm.MethodName)) ∈ lw_all := lw_g (lw_at lw_m6 96 rfl) rfl
theorem q1364 : (Jvm.Cond.selects "DocumentaryCreditDesk" ({ cls := "DocumentaryCreditDesk", name := "expiry", desc := "(I)I" } : Jvm.MethodName) ({ cls := "DocumentaryCreditDesk", name := "expiry", desc := "(I)I" } : Jvm.MethodName)) ∈ lw_all := lw_g (lw_at lw_m6 97 rfl) rfl
theorem q1365 : (Jvm.Cond.code ({ cls := "DocumentaryCreditDesk", name := "expiry", desc := "(I)I" } : Jvm.MethodName) prog_1_method_27_code (2 : Nat) (Option.some Jvm.ClassFile.FieldType.int)) ∈ lw_all := lw_g (lw_at lw_m6 98 rfl) rfl
theorem q1370 : (Jvm.Cond.instanceMethod ({ cls := "DocumentaryCreditDesk", name := "drawn", desc := "(I)I" } : Jvm.MethodName)) ∈ lw_all := lw_g (lw_at lw_m6 103 rfl) rfl
theorem q1371 : (Jvm.Cond.selects "DocumentaryCreditDesk" ({ cls := "DocumentaryCreditDesk", name := "drawn", desc := "(I)I" } : Jvm.MethodName) ({ cls := "DocumentaryCreditDesk", name := "drawn", desc := "(I)I" } : Jvm.MethodName)) ∈ lw_all := lw_g (lw_at lw_m6 104 rfl) rfl
theorem q1372 : (Jvm.Cond.code ({ cls := "DocumentaryCreditDesk", name := "drawn", desc := "(I)I" } : Jvm.MethodName) prog_1_method_28_code (2 : Nat) (Option.some Jvm.ClassFile.FieldType.int)) ∈ lw_all := lw_g (lw_at lw_m6 105 rfl) rfl
theorem q1377 : (Jvm.Cond.instanceMethod ({ cls := "DocumentaryCreditDesk", name := "transferred", desc := "(I)I" } : Jvm.MethodName)) ∈ lw_all := lw_g (lw_at lw_m6 110 rfl) rfl
theorem q1378 : (Jvm.Cond.selects "DocumentaryCreditDesk" ({ cls := "DocumentaryCreditDesk", name := "transferred", desc := "(I)I" } : Jvm.MethodName) ({ cls := "DocumentaryCreditDesk", name := "transferred", desc := "(I)I" } : Jvm.MethodName)) ∈ lw_all := lw_g (lw_at lw_m6 111 rfl) rfl
theorem q1379 : (Jvm.Cond.code ({ cls := "DocumentaryCreditDesk", name := "transferred", desc := "(I)I" } : Jvm.MethodName) prog_1_method_29_code (2 : Nat) (Option.some Jvm.ClassFile.FieldType.int)) ∈ lw_all := lw_g (lw_at lw_m6 112 rfl) rfl
theorem q1380 : (Jvm.Cond.methodLink "DocumentaryCreditDesk" (178 : Nat) ({ cls := "DocumentaryCreditDesk$Desk", name := "transferred", desc := "(I)I" } : Jvm.MethodName)) ∈ lw_all := lw_g (lw_at lw_m6 113 rfl) rfl
theorem q1385 : (Jvm.Cond.instanceMethod ({ cls := "DocumentaryCreditDesk", name := "available", desc := "(I)I" } : Jvm.MethodName)) ∈ lw_all := lw_g (lw_at lw_m6 118 rfl) rfl
theorem q1386 : (Jvm.Cond.selects "DocumentaryCreditDesk" ({ cls := "DocumentaryCreditDesk", name := "available", desc := "(I)I" } : Jvm.MethodName) ({ cls := "DocumentaryCreditDesk", name := "available", desc := "(I)I" } : Jvm.MethodName)) ∈ lw_all := lw_g (lw_at lw_m6 119 rfl) rfl
theorem q1387 : (Jvm.Cond.code ({ cls := "DocumentaryCreditDesk", name := "available", desc := "(I)I" } : Jvm.MethodName) prog_1_method_30_code (2 : Nat) (Option.some Jvm.ClassFile.FieldType.int)) ∈ lw_all := lw_g (lw_at lw_m6 120 rfl) rfl
theorem q1392 : (Jvm.Cond.instanceMethod ({ cls := "DocumentaryCreditDesk", name := "creditOf", desc := "(I)I" } : Jvm.MethodName)) ∈ lw_all := lw_g (lw_at lw_m6 125 rfl) rfl
theorem q1393 : (Jvm.Cond.selects "DocumentaryCreditDesk" ({ cls := "DocumentaryCreditDesk", name := "creditOf", desc := "(I)I" } : Jvm.MethodName) ({ cls := "DocumentaryCreditDesk", name := "creditOf", desc := "(I)I" } : Jvm.MethodName)) ∈ lw_all := lw_g (lw_at lw_m6 126 rfl) rfl
theorem q1394 : (Jvm.Cond.code ({ cls := "DocumentaryCreditDesk", name := "creditOf", desc := "(I)I" } : Jvm.MethodName) prog_1_method_31_code (2 : Nat) (Option.some Jvm.ClassFile.FieldType.int)) ∈ lw_all := lw_g (lw_at lw_m6 127 rfl) rfl
theorem q1395 : (Jvm.Cond.methodLink "DocumentaryCreditDesk" (184 : Nat) ({ cls := "DocumentaryCreditDesk", name := "presentationAt", desc := "(I)LDocumentaryCreditDesk$Presentation;" } : Jvm.MethodName)) ∈ lw_all := lw_g (lw_at lw_m6 128 rfl) rfl
theorem q1396 : (Jvm.Cond.privateMethod ({ cls := "DocumentaryCreditDesk", name := "presentationAt", desc := "(I)LDocumentaryCreditDesk$Presentation;" } : Jvm.MethodName)) ∈ lw_tbl := lw_at lw_m6 129 rfl
theorem q1397 : (Jvm.Cond.instanceMethod ({ cls := "DocumentaryCreditDesk", name := "presentationAt", desc := "(I)LDocumentaryCreditDesk$Presentation;" } : Jvm.MethodName)) ∈ lw_all := lw_g (lw_at lw_m6 130 rfl) rfl
theorem q1398 : (Jvm.Cond.code ({ cls := "DocumentaryCreditDesk", name := "presentationAt", desc := "(I)LDocumentaryCreditDesk$Presentation;" } : Jvm.MethodName) prog_1_method_11_code (2 : Nat) (Option.some (Jvm.ClassFile.FieldType.object "DocumentaryCreditDesk$Presentation"))) ∈ lw_all := lw_g (lw_at lw_m6 131 rfl) rfl
theorem q1403 : (Jvm.Cond.instanceMethod ({ cls := "DocumentaryCreditDesk", name := "state", desc := "(I)I" } : Jvm.MethodName)) ∈ lw_all := lw_g (lw_at lw_m6 136 rfl) rfl
theorem q1404 : (Jvm.Cond.selects "DocumentaryCreditDesk" ({ cls := "DocumentaryCreditDesk", name := "state", desc := "(I)I" } : Jvm.MethodName) ({ cls := "DocumentaryCreditDesk", name := "state", desc := "(I)I" } : Jvm.MethodName)) ∈ lw_all := lw_g (lw_at lw_m6 137 rfl) rfl
theorem q1405 : (Jvm.Cond.code ({ cls := "DocumentaryCreditDesk", name := "state", desc := "(I)I" } : Jvm.MethodName) prog_1_method_32_code (2 : Nat) (Option.some Jvm.ClassFile.FieldType.int)) ∈ lw_all := lw_g (lw_at lw_m6 138 rfl) rfl
theorem q1410 : (Jvm.Cond.instanceMethod ({ cls := "DocumentaryCreditDesk", name := "discrepancies", desc := "(I)I" } : Jvm.MethodName)) ∈ lw_all := lw_g (lw_at lw_m6 143 rfl) rfl
theorem q1411 : (Jvm.Cond.selects "DocumentaryCreditDesk" ({ cls := "DocumentaryCreditDesk", name := "discrepancies", desc := "(I)I" } : Jvm.MethodName) ({ cls := "DocumentaryCreditDesk", name := "discrepancies", desc := "(I)I" } : Jvm.MethodName)) ∈ lw_all := lw_g (lw_at lw_m6 144 rfl) rfl
theorem q1412 : (Jvm.Cond.code ({ cls := "DocumentaryCreditDesk", name := "discrepancies", desc := "(I)I" } : Jvm.MethodName) prog_1_method_33_code (2 : Nat) (Option.some Jvm.ClassFile.FieldType.int)) ∈ lw_all := lw_g (lw_at lw_m6 145 rfl) rfl
theorem q1417 : (Jvm.Cond.instanceMethod ({ cls := "DocumentaryCreditDesk", name := "deadline", desc := "(I)I" } : Jvm.MethodName)) ∈ lw_all := lw_g (lw_at lw_m6 150 rfl) rfl
theorem q1418 : (Jvm.Cond.selects "DocumentaryCreditDesk" ({ cls := "DocumentaryCreditDesk", name := "deadline", desc := "(I)I" } : Jvm.MethodName) ({ cls := "DocumentaryCreditDesk", name := "deadline", desc := "(I)I" } : Jvm.MethodName)) ∈ lw_all := lw_g (lw_at lw_m6 151 rfl) rfl
theorem q1419 : (Jvm.Cond.code ({ cls := "DocumentaryCreditDesk", name := "deadline", desc := "(I)I" } : Jvm.MethodName) prog_1_method_34_code (2 : Nat) (Option.some Jvm.ClassFile.FieldType.int)) ∈ lw_all := lw_g (lw_at lw_m6 152 rfl) rfl
theorem q1420 : (Jvm.Cond.methodLink "DocumentaryCreditDesk" (197 : Nat) ({ cls := "DocumentaryCreditDesk$Desk", name := "deadline", desc := "(LDocumentaryCreditDesk$Presentation;)I" } : Jvm.MethodName)) ∈ lw_all := lw_g (lw_at lw_m6 153 rfl) rfl
theorem q1429 : (Jvm.Cond.instanceMethod ({ cls := "DocumentaryCreditDesk", name := "dueDay", desc := "(I)I" } : Jvm.MethodName)) ∈ lw_all := lw_g (lw_at lw_m6 162 rfl) rfl
theorem q1430 : (Jvm.Cond.selects "DocumentaryCreditDesk" ({ cls := "DocumentaryCreditDesk", name := "dueDay", desc := "(I)I" } : Jvm.MethodName) ({ cls := "DocumentaryCreditDesk", name := "dueDay", desc := "(I)I" } : Jvm.MethodName)) ∈ lw_all := lw_g (lw_at lw_m6 163 rfl) rfl
theorem q1431 : (Jvm.Cond.code ({ cls := "DocumentaryCreditDesk", name := "dueDay", desc := "(I)I" } : Jvm.MethodName) prog_1_method_35_code (2 : Nat) (Option.some Jvm.ClassFile.FieldType.int)) ∈ lw_all := lw_g (lw_at lw_m6 164 rfl) rfl
theorem q1436 : (Jvm.Cond.instanceMethod ({ cls := "DocumentaryCreditDesk", name := "fee", desc := "(I)I" } : Jvm.MethodName)) ∈ lw_all := lw_g (lw_at lw_m6 169 rfl) rfl
theorem q1437 : (Jvm.Cond.selects "DocumentaryCreditDesk" ({ cls := "DocumentaryCreditDesk", name := "fee", desc := "(I)I" } : Jvm.MethodName) ({ cls := "DocumentaryCreditDesk", name := "fee", desc := "(I)I" } : Jvm.MethodName)) ∈ lw_all := lw_g (lw_at lw_m6 170 rfl) rfl
theorem q1438 : (Jvm.Cond.code ({ cls := "DocumentaryCreditDesk", name := "fee", desc := "(I)I" } : Jvm.MethodName) prog_1_method_36_code (2 : Nat) (Option.some Jvm.ClassFile.FieldType.int)) ∈ lw_all := lw_g (lw_at lw_m6 171 rfl) rfl
theorem q1439 : (Jvm.Cond.methodLink "DocumentaryCreditDesk" (204 : Nat) ({ cls := "DocumentaryCreditDesk$Desk", name := "feeOf", desc := "(LDocumentaryCreditDesk$Presentation;)I" } : Jvm.MethodName)) ∈ lw_all := lw_g (lw_at lw_m6 172 rfl) rfl
theorem q1458 : (Jvm.Cond.instanceMethod ({ cls := "DocumentaryCreditDesk", name := "check", desc := "(IIIII)I" } : Jvm.MethodName)) ∈ lw_all := lw_g (lw_at lw_m6 191 rfl) rfl
theorem q1459 : (Jvm.Cond.selects "DocumentaryCreditDesk" ({ cls := "DocumentaryCreditDesk", name := "check", desc := "(IIIII)I" } : Jvm.MethodName) ({ cls := "DocumentaryCreditDesk", name := "check", desc := "(IIIII)I" } : Jvm.MethodName)) ∈ lw_all := lw_g (lw_at lw_m6 192 rfl) rfl
theorem q1460 : (Jvm.Cond.code ({ cls := "DocumentaryCreditDesk", name := "check", desc := "(IIIII)I" } : Jvm.MethodName) prog_1_method_38_code (6 : Nat) (Option.some Jvm.ClassFile.FieldType.int)) ∈ lw_all := lw_g (lw_at lw_m6 193 rfl) rfl
theorem q1461 : (Jvm.Cond.methodLink "DocumentaryCreditDesk" (210 : Nat) ({ cls := "DocumentaryCreditDesk", name := "requireDrawing", desc := "(IIIII)V" } : Jvm.MethodName)) ∈ lw_all := lw_g (lw_at lw_m6 194 rfl) rfl
theorem q1462 : (Jvm.Cond.privateMethod ({ cls := "DocumentaryCreditDesk", name := "requireDrawing", desc := "(IIIII)V" } : Jvm.MethodName)) ∈ lw_tbl := lw_at lw_m6 195 rfl
theorem q1463 : (Jvm.Cond.instanceMethod ({ cls := "DocumentaryCreditDesk", name := "requireDrawing", desc := "(IIIII)V" } : Jvm.MethodName)) ∈ lw_all := lw_g (lw_at lw_m6 196 rfl) rfl
theorem q1464 : (Jvm.Cond.code ({ cls := "DocumentaryCreditDesk", name := "requireDrawing", desc := "(IIIII)V" } : Jvm.MethodName) prog_1_method_9_code (6 : Nat) (Option.none : Option Jvm.ClassFile.FieldType)) ∈ lw_all := lw_g (lw_at lw_m6 197 rfl) rfl
theorem q1465 : (Jvm.Cond.constantLong "DocumentaryCreditDesk" (77 : Nat) (1999999 : Int64)) ∈ lw_all := lw_g (lw_at lw_m6 198 rfl) rfl
theorem q1466 : (Jvm.Cond.constantLong "DocumentaryCreditDesk" (79 : Nat) (255 : Int64)) ∈ lw_all := lw_g (lw_at lw_m6 199 rfl) rfl
theorem q1467 : (Jvm.Cond.methodLink "DocumentaryCreditDesk" (214 : Nat) ({ cls := "DocumentaryCreditDesk$Desk", name := "check", desc := "(IIIII)I" } : Jvm.MethodName)) ∈ lw_all := lw_g (lw_at lw_m6 200 rfl) rfl
theorem q1490 : (Jvm.Cond.instanceMethod ({ cls := "DocumentaryCreditDesk", name := "lastDay", desc := "(II)I" } : Jvm.MethodName)) ∈ lw_all := lw_g (lw_at lw_m6 223 rfl) rfl
theorem q1491 : (Jvm.Cond.selects "DocumentaryCreditDesk" ({ cls := "DocumentaryCreditDesk", name := "lastDay", desc := "(II)I" } : Jvm.MethodName) ({ cls := "DocumentaryCreditDesk", name := "lastDay", desc := "(II)I" } : Jvm.MethodName)) ∈ lw_all := lw_g (lw_at lw_m6 224 rfl) rfl
theorem q1492 : (Jvm.Cond.code ({ cls := "DocumentaryCreditDesk", name := "lastDay", desc := "(II)I" } : Jvm.MethodName) prog_1_method_39_code (3 : Nat) (Option.some Jvm.ClassFile.FieldType.int)) ∈ lw_all := lw_g (lw_at lw_m6 225 rfl) rfl
theorem q1493 : (Jvm.Cond.methodLink "DocumentaryCreditDesk" (218 : Nat) ({ cls := "DocumentaryCreditDesk$Desk", name := "lastDay", desc := "(II)I" } : Jvm.MethodName)) ∈ lw_all := lw_g (lw_at lw_m6 226 rfl) rfl
theorem q1498 : (Jvm.Cond.instanceMethod ({ cls := "DocumentaryCreditDesk", name := "bestFit", desc := "(I)I" } : Jvm.MethodName)) ∈ lw_all := lw_g (lw_at lw_m6 231 rfl) rfl
theorem q1499 : (Jvm.Cond.selects "DocumentaryCreditDesk" ({ cls := "DocumentaryCreditDesk", name := "bestFit", desc := "(I)I" } : Jvm.MethodName) ({ cls := "DocumentaryCreditDesk", name := "bestFit", desc := "(I)I" } : Jvm.MethodName)) ∈ lw_all := lw_g (lw_at lw_m6 232 rfl) rfl
theorem q1500 : (Jvm.Cond.code ({ cls := "DocumentaryCreditDesk", name := "bestFit", desc := "(I)I" } : Jvm.MethodName) prog_1_method_40_code (2 : Nat) (Option.some Jvm.ClassFile.FieldType.int)) ∈ lw_all := lw_g (lw_at lw_m6 233 rfl) rfl
theorem q1501 : (Jvm.Cond.methodLink "DocumentaryCreditDesk" (221 : Nat) ({ cls := "DocumentaryCreditDesk$Desk", name := "bestFit", desc := "(I)I" } : Jvm.MethodName)) ∈ lw_all := lw_g (lw_at lw_m6 234 rfl) rfl
theorem q1510 : (Jvm.Cond.instanceMethod ({ cls := "DocumentaryCreditDesk", name := "present", desc := "(IIIII)I" } : Jvm.MethodName)) ∈ lw_all := lw_g (lw_at lw_m7 3 rfl) rfl
theorem q1511 : (Jvm.Cond.selects "DocumentaryCreditDesk" ({ cls := "DocumentaryCreditDesk", name := "present", desc := "(IIIII)I" } : Jvm.MethodName) ({ cls := "DocumentaryCreditDesk", name := "present", desc := "(IIIII)I" } : Jvm.MethodName)) ∈ lw_all := lw_g (lw_at lw_m7 4 rfl) rfl
theorem q1512 : (Jvm.Cond.code ({ cls := "DocumentaryCreditDesk", name := "present", desc := "(IIIII)I" } : Jvm.MethodName) prog_1_method_41_code (7 : Nat) (Option.some Jvm.ClassFile.FieldType.int)) ∈ lw_all := lw_g (lw_at lw_m7 5 rfl) rfl
theorem q1513 : (Jvm.Cond.methodLink "DocumentaryCreditDesk" (224 : Nat) ({ cls := "DocumentaryCreditDesk$Book", name := "isFull", desc := "()Z" } : Jvm.MethodName)) ∈ lw_all := lw_g (lw_at lw_m7 6 rfl) rfl
theorem q1514 : (Jvm.Cond.methodLink "DocumentaryCreditDesk" (228 : Nat) ({ cls := "DocumentaryCreditDesk", name := "requireState", desc := "(Z)V" } : Jvm.MethodName)) ∈ lw_all := lw_g (lw_at lw_m7 7 rfl) rfl
theorem q1515 : (Jvm.Cond.static ({ cls := "DocumentaryCreditDesk", name := "requireState", desc := "(Z)V" } : Jvm.MethodName)) ∈ lw_all := lw_g (lw_at lw_m7 8 rfl) rfl
theorem q1516 : (Jvm.Cond.code ({ cls := "DocumentaryCreditDesk", name := "requireState", desc := "(Z)V" } : Jvm.MethodName) prog_1_method_6_code (1 : Nat) (Option.none : Option Jvm.ClassFile.FieldType)) ∈ lw_all := lw_g (lw_at lw_m7 9 rfl) rfl
theorem q1517 : (Jvm.Cond.classLink "DocumentaryCreditDesk" (50 : Nat) "java/lang/IllegalStateException") ∈ lw_all := lw_g (lw_at lw_m7 10 rfl) rfl
theorem q1518 : (Jvm.Cond.methodLink "DocumentaryCreditDesk" (52 : Nat) ({ cls := "java/lang/IllegalStateException", name := "<init>", desc := "()V" } : Jvm.MethodName)) ∈ lw_all := lw_g (lw_at lw_m7 11 rfl) rfl
theorem q1522 : (Jvm.Cond.methodLink "DocumentaryCreditDesk" (231 : Nat) ({ cls := "DocumentaryCreditDesk", name := "change", desc := "()LDocumentaryCreditDesk$Desk;" } : Jvm.MethodName)) ∈ lw_all := lw_g (lw_at lw_m7 15 rfl) rfl
theorem q1523 : (Jvm.Cond.privateMethod ({ cls := "DocumentaryCreditDesk", name := "change", desc := "()LDocumentaryCreditDesk$Desk;" } : Jvm.MethodName)) ∈ lw_tbl := lw_at lw_m7 16 rfl
theorem q1524 : (Jvm.Cond.instanceMethod ({ cls := "DocumentaryCreditDesk", name := "change", desc := "()LDocumentaryCreditDesk$Desk;" } : Jvm.MethodName)) ∈ lw_all := lw_g (lw_at lw_m7 17 rfl) rfl
theorem q1525 : (Jvm.Cond.code ({ cls := "DocumentaryCreditDesk", name := "change", desc := "()LDocumentaryCreditDesk$Desk;" } : Jvm.MethodName) prog_1_method_13_code (1 : Nat) (Option.some (Jvm.ClassFile.FieldType.object "DocumentaryCreditDesk$Desk"))) ∈ lw_all := lw_g (lw_at lw_m7 18 rfl) rfl
theorem q1526 : (Jvm.Cond.methodLink "DocumentaryCreditDesk" (101 : Nat) ({ cls := "DocumentaryCreditDesk$Desk", name := "copy", desc := "()LDocumentaryCreditDesk$Desk;" } : Jvm.MethodName)) ∈ lw_all := lw_g (lw_at lw_m7 19 rfl) rfl
theorem q1539 : (Jvm.Cond.methodLink "DocumentaryCreditDesk" (234 : Nat) ({ cls := "DocumentaryCreditDesk$Presentation", name := "<init>", desc := "(IIIIII)V" } : Jvm.MethodName)) ∈ lw_all := lw_g (lw_at lw_m7 32 rfl) rfl
theorem q1545 : (Jvm.Cond.fieldLinkNest "DocumentaryCreditDesk" (188 : Nat) "DocumentaryCreditDesk$Presentation" "credit" "I" "DocumentaryCreditDesk") ∈ lw_tbl := lw_at lw_m7 38 rfl
theorem q1550 : (Jvm.Cond.fieldLinkNest "DocumentaryCreditDesk" (207 : Nat) "DocumentaryCreditDesk$Presentation" "amount" "I" "DocumentaryCreditDesk") ∈ lw_tbl := lw_at lw_m7 43 rfl
theorem q1553 : (Jvm.Cond.fieldLinkNest "DocumentaryCreditDesk" (194 : Nat) "DocumentaryCreditDesk$Presentation" "discrepancies" "I" "DocumentaryCreditDesk") ∈ lw_tbl := lw_at lw_m7 46 rfl
theorem q1556 : (Jvm.Cond.fieldLinkNest "DocumentaryCreditDesk" (191 : Nat) "DocumentaryCreditDesk$Presentation" "state" "I" "DocumentaryCreditDesk") ∈ lw_tbl := lw_at lw_m7 49 rfl
theorem q1558 : (Jvm.Cond.fieldLinkNest "DocumentaryCreditDesk" (201 : Nat) "DocumentaryCreditDesk$Presentation" "due" "I" "DocumentaryCreditDesk") ∈ lw_tbl := lw_at lw_m7 51 rfl
theorem q1572 : (Jvm.Cond.methodLink "DocumentaryCreditDesk" (237 : Nat) ({ cls := "DocumentaryCreditDesk$Book", name := "add", desc := "(Ljava/lang/Object;)I" } : Jvm.MethodName)) ∈ lw_all := lw_g (lw_at lw_m7 65 rfl) rfl
theorem q1577 : (Jvm.Cond.instanceMethod ({ cls := "DocumentaryCreditDesk", name := "examine", desc := "(I)I" } : Jvm.MethodName)) ∈ lw_all := lw_g (lw_at lw_m7 70 rfl) rfl
theorem q1578 : (Jvm.Cond.selects "DocumentaryCreditDesk" ({ cls := "DocumentaryCreditDesk", name := "examine", desc := "(I)I" } : Jvm.MethodName) ({ cls := "DocumentaryCreditDesk", name := "examine", desc := "(I)I" } : Jvm.MethodName)) ∈ lw_all := lw_g (lw_at lw_m7 71 rfl) rfl
theorem q1579 : (Jvm.Cond.code ({ cls := "DocumentaryCreditDesk", name := "examine", desc := "(I)I" } : Jvm.MethodName) prog_1_method_42_code (2 : Nat) (Option.some Jvm.ClassFile.FieldType.int)) ∈ lw_all := lw_g (lw_at lw_m7 72 rfl) rfl
theorem q1580 : (Jvm.Cond.methodLink "DocumentaryCreditDesk" (240 : Nat) ({ cls := "DocumentaryCreditDesk$Desk", name := "examine", desc := "(I)I" } : Jvm.MethodName)) ∈ lw_all := lw_g (lw_at lw_m7 73 rfl) rfl
theorem q1617 : (Jvm.Cond.instanceMethod ({ cls := "DocumentaryCreditDesk", name := "waive", desc := "(I)I" } : Jvm.MethodName)) ∈ lw_all := lw_g (lw_at lw_m7 110 rfl) rfl
theorem q1618 : (Jvm.Cond.selects "DocumentaryCreditDesk" ({ cls := "DocumentaryCreditDesk", name := "waive", desc := "(I)I" } : Jvm.MethodName) ({ cls := "DocumentaryCreditDesk", name := "waive", desc := "(I)I" } : Jvm.MethodName)) ∈ lw_all := lw_g (lw_at lw_m7 111 rfl) rfl
theorem q1619 : (Jvm.Cond.code ({ cls := "DocumentaryCreditDesk", name := "waive", desc := "(I)I" } : Jvm.MethodName) prog_1_method_43_code (3 : Nat) (Option.some Jvm.ClassFile.FieldType.int)) ∈ lw_all := lw_g (lw_at lw_m7 112 rfl) rfl
theorem q1620 : (Jvm.Cond.methodLink "DocumentaryCreditDesk" (243 : Nat) ({ cls := "DocumentaryCreditDesk$Presentation", name := "has", desc := "(I)Z" } : Jvm.MethodName)) ∈ lw_all := lw_g (lw_at lw_m7 113 rfl) rfl
theorem q1621 : (Jvm.Cond.methodLink "DocumentaryCreditDesk" (246 : Nat) ({ cls := "DocumentaryCreditDesk$Desk", name := "honour", desc := "(I)I" } : Jvm.MethodName)) ∈ lw_all := lw_g (lw_at lw_m7 114 rfl) rfl
theorem q1626 : (Jvm.Cond.instanceMethod ({ cls := "DocumentaryCreditDesk", name := "refuse", desc := "(I)I" } : Jvm.MethodName)) ∈ lw_all := lw_g (lw_at lw_m7 119 rfl) rfl
theorem q1627 : (Jvm.Cond.selects "DocumentaryCreditDesk" ({ cls := "DocumentaryCreditDesk", name := "refuse", desc := "(I)I" } : Jvm.MethodName) ({ cls := "DocumentaryCreditDesk", name := "refuse", desc := "(I)I" } : Jvm.MethodName)) ∈ lw_all := lw_g (lw_at lw_m7 120 rfl) rfl
theorem q1628 : (Jvm.Cond.code ({ cls := "DocumentaryCreditDesk", name := "refuse", desc := "(I)I" } : Jvm.MethodName) prog_1_method_44_code (4 : Nat) (Option.some Jvm.ClassFile.FieldType.int)) ∈ lw_all := lw_g (lw_at lw_m7 121 rfl) rfl
theorem q1629 : (Jvm.Cond.methodLink "DocumentaryCreditDesk" (249 : Nat) ({ cls := "DocumentaryCreditDesk$Presentation", name := "in", desc := "(II)LDocumentaryCreditDesk$Presentation;" } : Jvm.MethodName)) ∈ lw_all := lw_g (lw_at lw_m7 122 rfl) rfl
theorem q1630 : (Jvm.Cond.methodLink "DocumentaryCreditDesk" (253 : Nat) ({ cls := "DocumentaryCreditDesk$Book", name := "set", desc := "(ILjava/lang/Object;)V" } : Jvm.MethodName)) ∈ lw_all := lw_g (lw_at lw_m7 123 rfl) rfl
theorem q1635 : (Jvm.Cond.instanceMethod ({ cls := "DocumentaryCreditDesk", name := "transfer", desc := "(III)I" } : Jvm.MethodName)) ∈ lw_all := lw_g (lw_at lw_m7 128 rfl) rfl
theorem q1636 : (Jvm.Cond.selects "DocumentaryCreditDesk" ({ cls := "DocumentaryCreditDesk", name := "transfer", desc := "(III)I" } : Jvm.MethodName) ({ cls := "DocumentaryCreditDesk", name := "transfer", desc := "(III)I" } : Jvm.MethodName)) ∈ lw_all := lw_g (lw_at lw_m7 129 rfl) rfl
theorem q1637 : (Jvm.Cond.code ({ cls := "DocumentaryCreditDesk", name := "transfer", desc := "(III)I" } : Jvm.MethodName) prog_1_method_45_code (5 : Nat) (Option.some Jvm.ClassFile.FieldType.int)) ∈ lw_all := lw_g (lw_at lw_m7 130 rfl) rfl
theorem q1638 : (Jvm.Cond.constantLong "DocumentaryCreditDesk" (257 : Nat) (999999 : Int64)) ∈ lw_all := lw_g (lw_at lw_m7 131 rfl) rfl
theorem q1639 : (Jvm.Cond.methodLink "DocumentaryCreditDesk" (266 : Nat) ({ cls := "DocumentaryCreditDesk$Credit", name := "part", desc := "(III)LDocumentaryCreditDesk$Credit;" } : Jvm.MethodName)) ∈ lw_all := lw_g (lw_at lw_m7 132 rfl) rfl
theorem q1650 : (Jvm.Cond.instanceMethod ({ cls := "DocumentaryCreditDesk", name := "pass", desc := "(I)I" } : Jvm.MethodName)) ∈ lw_all := lw_g (lw_at lw_m7 143 rfl) rfl
theorem q1651 : (Jvm.Cond.selects "DocumentaryCreditDesk" ({ cls := "DocumentaryCreditDesk", name := "pass", desc := "(I)I" } : Jvm.MethodName) ({ cls := "DocumentaryCreditDesk", name := "pass", desc := "(I)I" } : Jvm.MethodName)) ∈ lw_all := lw_g (lw_at lw_m7 144 rfl) rfl
theorem q1652 : (Jvm.Cond.code ({ cls := "DocumentaryCreditDesk", name := "pass", desc := "(I)I" } : Jvm.MethodName) prog_1_method_46_code (2 : Nat) (Option.some Jvm.ClassFile.FieldType.int)) ∈ lw_all := lw_g (lw_at lw_m7 145 rfl) rfl
theorem q1653 : (Jvm.Cond.constantLong "DocumentaryCreditDesk" (270 : Nat) (365 : Int64)) ∈ lw_all := lw_g (lw_at lw_m7 146 rfl) rfl
theorem q2062 : (Jvm.Cond.castable "DocumentaryCreditDesk" "java/lang/Object") ∈ lw_tbl := lw_at lw_m9 75 rfl
theorem in_X1 : ∀ w ∈ wsX10, w ∈ lw_all := lw_in wsX10 [224, 226, 228, 230, 232] (by decide +kernel) (by decide +kernel)
/-! DocumentaryCreditDesk$Desk -/
set_option maxRecDepth 100000
def RX2 : String := "DocumentaryCreditDesk$Desk"
def TX2 : u_T := fun k => match k with
  | 0 => ("DocumentaryCreditDesk$Desk", "calendar", "LDocumentaryCreditDesk$Calendar;", true)
  | 1 => ("DocumentaryCreditDesk$Desk", "credits", "LDocumentaryCreditDesk$Book;", true)
  | 2 => ("DocumentaryCreditDesk$Desk", "presentations", "LDocumentaryCreditDesk$Book;", true)
  | 3 => ("DocumentaryCreditDesk$Desk", "fee", "LDocumentaryCreditDesk$Fee;", false)
  | _ => ("DocumentaryCreditDesk$Desk", "today", "I", false)
def tyX2 : Nat → FieldType := fun k => match k with
  | 0 => .object "DocumentaryCreditDesk$Calendar"
  | 1 => .object "DocumentaryCreditDesk$Book"
  | 2 => .object "DocumentaryCreditDesk$Book"
  | 3 => .object "DocumentaryCreditDesk$Fee"
  | _ => .int
abbrev wsX20 : List Cond := u_ws RX2 TX2 5
theorem nmX2 : ∀ a, a < 5 → ∀ b, b < 5 → a ≠ b → (TX2 a).2.1 ≠ (TX2 b).2.1 := by decide +kernel
theorem tyX2_ok : ∀ k, k < 5 → parseFieldDescriptor (TX2 k).2.2.1 = some (tyX2 k) := by decide +kernel
abbrev cX2_init : ByteArray := prog_6_method_1_code
def yX2_init : MethodName := ⟨RX2, "<init>", "(LDocumentaryCreditDesk$Calendar;)V"⟩
def dkwX2_init_1 : List UInt8 := [183, 0, 11, 181, 0, 20, 42, 186, 0, 23, 0, 0, 181, 0, 27, 42, 43, 181, 0, 31, 177]
abbrev dktX2_init_1 : List UInt8 := dkwX2_init_1 ++ []
def dkwX2_init_0 : List UInt8 := [42, 183, 0, 3, 42, 187, 0, 9, 89, 16, 12, 183, 0, 11, 181, 0, 14, 42, 187, 0, 9, 89, 16, 24]
abbrev dktX2_init_0 : List UInt8 := dkwX2_init_0 ++ dktX2_init_1
theorem dksX2_init_0 : cX2_init.data.toList.drop 0 = dktX2_init_0 := by decide +kernel
theorem dksX2_init_1 : cX2_init.data.toList.drop 24 = dktX2_init_1 := dk_seg dksX2_init_0 24 rfl rfl
theorem dX2_init_0 : decode cX2_init 0 = .ok (.aload_n 0, 1) := dk_42 (dk_at dksX2_init_0 0 rfl rfl)
theorem dX2_init_1 : decode cX2_init 1 = .ok (.invokespecial 3, 3) := dk_183 0 3 (dk_at dksX2_init_0 1 rfl rfl)
theorem dX2_init_4 : decode cX2_init 4 = .ok (.aload_n 0, 1) := dk_42 (dk_at dksX2_init_0 4 rfl rfl)
theorem dX2_init_5 : decode cX2_init 5 = .ok (.new 9, 3) := dk_187 0 9 (dk_at dksX2_init_0 5 rfl rfl)
theorem dX2_init_8 : decode cX2_init 8 = .ok (.dup, 1) := dk_89 (dk_at dksX2_init_0 8 rfl rfl)
theorem dX2_init_9 : decode cX2_init 9 = .ok (.bipush 12, 2) := dk_16 12 (dk_at dksX2_init_0 9 rfl rfl)
theorem dX2_init_11 : decode cX2_init 11 = .ok (.invokespecial 11, 3) := dk_183 0 11 (dk_at dksX2_init_0 11 rfl rfl)
theorem dX2_init_14 : decode cX2_init 14 = .ok (.putfield 14, 3) := dk_181 0 14 (dk_at dksX2_init_0 14 rfl rfl)
theorem dX2_init_17 : decode cX2_init 17 = .ok (.aload_n 0, 1) := dk_42 (dk_at dksX2_init_0 17 rfl rfl)
theorem dX2_init_18 : decode cX2_init 18 = .ok (.new 9, 3) := dk_187 0 9 (dk_at dksX2_init_0 18 rfl rfl)
theorem dX2_init_21 : decode cX2_init 21 = .ok (.dup, 1) := dk_89 (dk_at dksX2_init_0 21 rfl rfl)
theorem dX2_init_22 : decode cX2_init 22 = .ok (.bipush 24, 2) := dk_16 24 (dk_at dksX2_init_0 22 rfl rfl)
theorem dX2_init_24 : decode cX2_init 24 = .ok (.invokespecial 11, 3) := dk_183 0 11 (dk_at dksX2_init_1 0 rfl rfl)
theorem dX2_init_27 : decode cX2_init 27 = .ok (.putfield 20, 3) := dk_181 0 20 (dk_at dksX2_init_1 3 rfl rfl)
theorem dX2_init_30 : decode cX2_init 30 = .ok (.aload_n 0, 1) := dk_42 (dk_at dksX2_init_1 6 rfl rfl)
theorem dX2_init_31 : decode cX2_init 31 = .ok (.invokedynamic 23, 5) := by decide +kernel
theorem dX2_init_36 : decode cX2_init 36 = .ok (.putfield 27, 3) := dk_181 0 27 (dk_at dksX2_init_1 12 rfl rfl)
theorem dX2_init_39 : decode cX2_init 39 = .ok (.aload_n 0, 1) := dk_42 (dk_at dksX2_init_1 15 rfl rfl)
theorem dX2_init_40 : decode cX2_init 40 = .ok (.aload_n 1, 1) := dk_43 (dk_at dksX2_init_1 16 rfl rfl)
theorem dX2_init_41 : decode cX2_init 41 = .ok (.putfield 31, 3) := dk_181 0 31 (dk_at dksX2_init_1 17 rfl rfl)
theorem dX2_init_44 : decode cX2_init 44 = .ok (.return_, 1) := dk_177 (dk_at dksX2_init_1 20 rfl rfl)
abbrev cX2_lambda_new_0 : ByteArray := prog_6_method_16_code
def yX2_lambda_new_0 : MethodName := ⟨RX2, "lambda$new$0", "(JJJ)J"⟩
def dkwX2_lambda_new_0_0 : List UInt8 := [30, 20, 0, 178, 109, 173]
abbrev dktX2_lambda_new_0_0 : List UInt8 := dkwX2_lambda_new_0_0 ++ []
theorem dksX2_lambda_new_0_0 : cX2_lambda_new_0.data.toList.drop 0 = dktX2_lambda_new_0_0 := by decide +kernel
theorem dX2_lambda_new_0_0 : decode cX2_lambda_new_0 0 = .ok (.lload_n 0, 1) := dk_30 (dk_at dksX2_lambda_new_0_0 0 rfl rfl)
theorem dX2_lambda_new_0_1 : decode cX2_lambda_new_0 1 = .ok (.ldc2_w 178, 3) := dk_20 0 178 (dk_at dksX2_lambda_new_0_0 1 rfl rfl)
theorem dX2_lambda_new_0_4 : decode cX2_lambda_new_0 4 = .ok (.ldiv, 1) := dk_109 (dk_at dksX2_lambda_new_0_0 4 rfl rfl)
theorem dX2_lambda_new_0_5 : decode cX2_lambda_new_0 5 = .ok (.lreturn, 1) := dk_173 (dk_at dksX2_lambda_new_0_0 5 rfl rfl)
abbrev cX2_drawn : ByteArray := prog_6_method_3_code
def yX2_drawn : MethodName := ⟨RX2, "drawn", "(I)I"⟩
def dkwX2_drawn_2 : List UInt8 := [25, 4, 180, 0, 63, 167, 0, 4, 3, 96, 61, 132, 3, 1, 167, 255, 200, 28, 172]
abbrev dktX2_drawn_2 : List UInt8 := dkwX2_drawn_2 ++ []
def dkwX2_drawn_1 : List UInt8 := [192, 0, 54, 58, 4, 28, 25, 4, 180, 0, 56, 27, 160, 0, 19, 25, 4, 182, 0, 59, 153, 0, 11]
abbrev dktX2_drawn_1 : List UInt8 := dkwX2_drawn_1 ++ dktX2_drawn_2
def dkwX2_drawn_0 : List UInt8 := [3, 61, 3, 62, 29, 42, 180, 0, 20, 182, 0, 46, 162, 0, 51, 42, 180, 0, 20, 29, 182, 0, 50]
abbrev dktX2_drawn_0 : List UInt8 := dkwX2_drawn_0 ++ dktX2_drawn_1
theorem dksX2_drawn_0 : cX2_drawn.data.toList.drop 0 = dktX2_drawn_0 := by decide +kernel
theorem dksX2_drawn_1 : cX2_drawn.data.toList.drop 23 = dktX2_drawn_1 := dk_seg dksX2_drawn_0 23 rfl rfl
theorem dksX2_drawn_2 : cX2_drawn.data.toList.drop 46 = dktX2_drawn_2 := dk_seg dksX2_drawn_1 23 rfl rfl
theorem dX2_drawn_0 : decode cX2_drawn 0 = .ok (.iconst 0, 1) := dk_3 (dk_at dksX2_drawn_0 0 rfl rfl)
theorem dX2_drawn_1 : decode cX2_drawn 1 = .ok (.istore_n 2, 1) := dk_61 (dk_at dksX2_drawn_0 1 rfl rfl)
theorem dX2_drawn_2 : decode cX2_drawn 2 = .ok (.iconst 0, 1) := dk_3 (dk_at dksX2_drawn_0 2 rfl rfl)
theorem dX2_drawn_3 : decode cX2_drawn 3 = .ok (.istore_n 3, 1) := dk_62 (dk_at dksX2_drawn_0 3 rfl rfl)
theorem dX2_drawn_4 : decode cX2_drawn 4 = .ok (.iload_n 3, 1) := dk_29 (dk_at dksX2_drawn_0 4 rfl rfl)
theorem dX2_drawn_5 : decode cX2_drawn 5 = .ok (.aload_n 0, 1) := dk_42 (dk_at dksX2_drawn_0 5 rfl rfl)
theorem dX2_drawn_6 : decode cX2_drawn 6 = .ok (.getfield 20, 3) := dk_180 0 20 (dk_at dksX2_drawn_0 6 rfl rfl)
theorem dX2_drawn_9 : decode cX2_drawn 9 = .ok (.invokevirtual 46, 3) := dk_182 0 46 (dk_at dksX2_drawn_0 9 rfl rfl)
theorem dX2_drawn_12 : decode cX2_drawn 12 = .ok (.if_icmp .ge 51, 3) := dk_162 0 51 (dk_at dksX2_drawn_0 12 rfl rfl)
theorem dX2_drawn_15 : decode cX2_drawn 15 = .ok (.aload_n 0, 1) := dk_42 (dk_at dksX2_drawn_0 15 rfl rfl)
theorem dX2_drawn_16 : decode cX2_drawn 16 = .ok (.getfield 20, 3) := dk_180 0 20 (dk_at dksX2_drawn_0 16 rfl rfl)
theorem dX2_drawn_19 : decode cX2_drawn 19 = .ok (.iload_n 3, 1) := dk_29 (dk_at dksX2_drawn_0 19 rfl rfl)
theorem dX2_drawn_20 : decode cX2_drawn 20 = .ok (.invokevirtual 50, 3) := dk_182 0 50 (dk_at dksX2_drawn_0 20 rfl rfl)
theorem dX2_drawn_23 : decode cX2_drawn 23 = .ok (.checkcast 54, 3) := dk_192 0 54 (dk_at dksX2_drawn_1 0 rfl rfl)
theorem dX2_drawn_26 : decode cX2_drawn 26 = .ok (.astore 4, 2) := dk_58 4 (dk_at dksX2_drawn_1 3 rfl rfl)
theorem dX2_drawn_28 : decode cX2_drawn 28 = .ok (.iload_n 2, 1) := dk_28 (dk_at dksX2_drawn_1 5 rfl rfl)
theorem dX2_drawn_29 : decode cX2_drawn 29 = .ok (.aload 4, 2) := dk_25 4 (dk_at dksX2_drawn_1 6 rfl rfl)
theorem dX2_drawn_31 : decode cX2_drawn 31 = .ok (.getfield 56, 3) := dk_180 0 56 (dk_at dksX2_drawn_1 8 rfl rfl)
theorem dX2_drawn_34 : decode cX2_drawn 34 = .ok (.iload_n 1, 1) := dk_27 (dk_at dksX2_drawn_1 11 rfl rfl)
theorem dX2_drawn_35 : decode cX2_drawn 35 = .ok (.if_icmp .ne 19, 3) := dk_160 0 19 (dk_at dksX2_drawn_1 12 rfl rfl)
theorem dX2_drawn_38 : decode cX2_drawn 38 = .ok (.aload 4, 2) := dk_25 4 (dk_at dksX2_drawn_1 15 rfl rfl)
theorem dX2_drawn_40 : decode cX2_drawn 40 = .ok (.invokevirtual 59, 3) := dk_182 0 59 (dk_at dksX2_drawn_1 17 rfl rfl)
theorem dX2_drawn_43 : decode cX2_drawn 43 = .ok (.ifCond .eq 11, 3) := dk_153 0 11 (dk_at dksX2_drawn_1 20 rfl rfl)
theorem dX2_drawn_46 : decode cX2_drawn 46 = .ok (.aload 4, 2) := dk_25 4 (dk_at dksX2_drawn_2 0 rfl rfl)
theorem dX2_drawn_48 : decode cX2_drawn 48 = .ok (.getfield 63, 3) := dk_180 0 63 (dk_at dksX2_drawn_2 2 rfl rfl)
theorem dX2_drawn_51 : decode cX2_drawn 51 = .ok (.goto 4, 3) := dk_167 0 4 (dk_at dksX2_drawn_2 5 rfl rfl)
theorem dX2_drawn_54 : decode cX2_drawn 54 = .ok (.iconst 0, 1) := dk_3 (dk_at dksX2_drawn_2 8 rfl rfl)
theorem dX2_drawn_55 : decode cX2_drawn 55 = .ok (.iadd, 1) := dk_96 (dk_at dksX2_drawn_2 9 rfl rfl)
theorem dX2_drawn_56 : decode cX2_drawn 56 = .ok (.istore_n 2, 1) := dk_61 (dk_at dksX2_drawn_2 10 rfl rfl)
theorem dX2_drawn_57 : decode cX2_drawn 57 = .ok (.iinc 3 1, 3) := dk_132 3 1 (dk_at dksX2_drawn_2 11 rfl rfl)
theorem dX2_drawn_60 : decode cX2_drawn 60 = .ok (.goto (-56), 3) := dk_167 255 200 (dk_at dksX2_drawn_2 14 rfl rfl)
theorem dX2_drawn_63 : decode cX2_drawn 63 = .ok (.iload_n 2, 1) := dk_28 (dk_at dksX2_drawn_2 17 rfl rfl)
theorem dX2_drawn_64 : decode cX2_drawn 64 = .ok (.ireturn, 1) := dk_172 (dk_at dksX2_drawn_2 18 rfl rfl)
abbrev cX2_available : ByteArray := prog_6_method_5_code
def yX2_available : MethodName := ⟨RX2, "available", "(I)I"⟩
def dkwX2_available_1 : List UInt8 := [182, 0, 79, 100, 172]
abbrev dktX2_available_1 : List UInt8 := dkwX2_available_1 ++ []
def dkwX2_available_0 : List UInt8 := [42, 180, 0, 14, 27, 182, 0, 50, 192, 0, 66, 182, 0, 72, 42, 27, 182, 0, 75, 100, 42, 27]
abbrev dktX2_available_0 : List UInt8 := dkwX2_available_0 ++ dktX2_available_1
theorem dksX2_available_0 : cX2_available.data.toList.drop 0 = dktX2_available_0 := by decide +kernel
theorem dksX2_available_1 : cX2_available.data.toList.drop 22 = dktX2_available_1 := dk_seg dksX2_available_0 22 rfl rfl
theorem dX2_available_0 : decode cX2_available 0 = .ok (.aload_n 0, 1) := dk_42 (dk_at dksX2_available_0 0 rfl rfl)
theorem dX2_available_1 : decode cX2_available 1 = .ok (.getfield 14, 3) := dk_180 0 14 (dk_at dksX2_available_0 1 rfl rfl)
theorem dX2_available_4 : decode cX2_available 4 = .ok (.iload_n 1, 1) := dk_27 (dk_at dksX2_available_0 4 rfl rfl)
theorem dX2_available_5 : decode cX2_available 5 = .ok (.invokevirtual 50, 3) := dk_182 0 50 (dk_at dksX2_available_0 5 rfl rfl)
theorem dX2_available_8 : decode cX2_available 8 = .ok (.checkcast 66, 3) := dk_192 0 66 (dk_at dksX2_available_0 8 rfl rfl)
theorem dX2_available_11 : decode cX2_available 11 = .ok (.invokevirtual 72, 3) := dk_182 0 72 (dk_at dksX2_available_0 11 rfl rfl)
theorem dX2_available_14 : decode cX2_available 14 = .ok (.aload_n 0, 1) := dk_42 (dk_at dksX2_available_0 14 rfl rfl)
theorem dX2_available_15 : decode cX2_available 15 = .ok (.iload_n 1, 1) := dk_27 (dk_at dksX2_available_0 15 rfl rfl)
theorem dX2_available_16 : decode cX2_available 16 = .ok (.invokevirtual 75, 3) := dk_182 0 75 (dk_at dksX2_available_0 16 rfl rfl)
theorem dX2_available_19 : decode cX2_available 19 = .ok (.isub, 1) := dk_100 (dk_at dksX2_available_0 19 rfl rfl)
theorem dX2_available_20 : decode cX2_available 20 = .ok (.aload_n 0, 1) := dk_42 (dk_at dksX2_available_0 20 rfl rfl)
theorem dX2_available_21 : decode cX2_available 21 = .ok (.iload_n 1, 1) := dk_27 (dk_at dksX2_available_0 21 rfl rfl)
theorem dX2_available_22 : decode cX2_available 22 = .ok (.invokevirtual 79, 3) := dk_182 0 79 (dk_at dksX2_available_1 0 rfl rfl)
theorem dX2_available_25 : decode cX2_available 25 = .ok (.isub, 1) := dk_100 (dk_at dksX2_available_1 3 rfl rfl)
theorem dX2_available_26 : decode cX2_available 26 = .ok (.ireturn, 1) := dk_172 (dk_at dksX2_available_1 4 rfl rfl)
abbrev cX2_transferred : ByteArray := prog_6_method_4_code
def yX2_transferred : MethodName := ⟨RX2, "transferred", "(I)I"⟩
def dkwX2_transferred_2 : List UInt8 := [167, 0, 4, 3, 96, 61, 132, 3, 1, 167, 255, 203, 28, 172]
abbrev dktX2_transferred_2 : List UInt8 := dkwX2_transferred_2 ++ []
def dkwX2_transferred_1 : List UInt8 := [192, 0, 66, 180, 0, 68, 27, 160, 0, 20, 42, 180, 0, 14, 29, 182, 0, 50, 192, 0, 66, 180, 0, 71]
abbrev dktX2_transferred_1 : List UInt8 := dkwX2_transferred_1 ++ dktX2_transferred_2
def dkwX2_transferred_0 : List UInt8 := [3, 61, 3, 62, 29, 42, 180, 0, 14, 182, 0, 46, 162, 0, 48, 28, 42, 180, 0, 14, 29, 182, 0, 50]
abbrev dktX2_transferred_0 : List UInt8 := dkwX2_transferred_0 ++ dktX2_transferred_1
theorem dksX2_transferred_0 : cX2_transferred.data.toList.drop 0 = dktX2_transferred_0 := by decide +kernel
theorem dksX2_transferred_1 : cX2_transferred.data.toList.drop 24 = dktX2_transferred_1 := dk_seg dksX2_transferred_0 24 rfl rfl
theorem dksX2_transferred_2 : cX2_transferred.data.toList.drop 48 = dktX2_transferred_2 := dk_seg dksX2_transferred_1 24 rfl rfl
theorem dX2_transferred_0 : decode cX2_transferred 0 = .ok (.iconst 0, 1) := dk_3 (dk_at dksX2_transferred_0 0 rfl rfl)
theorem dX2_transferred_1 : decode cX2_transferred 1 = .ok (.istore_n 2, 1) := dk_61 (dk_at dksX2_transferred_0 1 rfl rfl)
theorem dX2_transferred_2 : decode cX2_transferred 2 = .ok (.iconst 0, 1) := dk_3 (dk_at dksX2_transferred_0 2 rfl rfl)
theorem dX2_transferred_3 : decode cX2_transferred 3 = .ok (.istore_n 3, 1) := dk_62 (dk_at dksX2_transferred_0 3 rfl rfl)
theorem dX2_transferred_4 : decode cX2_transferred 4 = .ok (.iload_n 3, 1) := dk_29 (dk_at dksX2_transferred_0 4 rfl rfl)
theorem dX2_transferred_5 : decode cX2_transferred 5 = .ok (.aload_n 0, 1) := dk_42 (dk_at dksX2_transferred_0 5 rfl rfl)
theorem dX2_transferred_6 : decode cX2_transferred 6 = .ok (.getfield 14, 3) := dk_180 0 14 (dk_at dksX2_transferred_0 6 rfl rfl)
theorem dX2_transferred_9 : decode cX2_transferred 9 = .ok (.invokevirtual 46, 3) := dk_182 0 46 (dk_at dksX2_transferred_0 9 rfl rfl)
theorem dX2_transferred_12 : decode cX2_transferred 12 = .ok (.if_icmp .ge 48, 3) := dk_162 0 48 (dk_at dksX2_transferred_0 12 rfl rfl)
theorem dX2_transferred_15 : decode cX2_transferred 15 = .ok (.iload_n 2, 1) := dk_28 (dk_at dksX2_transferred_0 15 rfl rfl)
theorem dX2_transferred_16 : decode cX2_transferred 16 = .ok (.aload_n 0, 1) := dk_42 (dk_at dksX2_transferred_0 16 rfl rfl)
theorem dX2_transferred_17 : decode cX2_transferred 17 = .ok (.getfield 14, 3) := dk_180 0 14 (dk_at dksX2_transferred_0 17 rfl rfl)
theorem dX2_transferred_20 : decode cX2_transferred 20 = .ok (.iload_n 3, 1) := dk_29 (dk_at dksX2_transferred_0 20 rfl rfl)
theorem dX2_transferred_21 : decode cX2_transferred 21 = .ok (.invokevirtual 50, 3) := dk_182 0 50 (dk_at dksX2_transferred_0 21 rfl rfl)
theorem dX2_transferred_24 : decode cX2_transferred 24 = .ok (.checkcast 66, 3) := dk_192 0 66 (dk_at dksX2_transferred_1 0 rfl rfl)
theorem dX2_transferred_27 : decode cX2_transferred 27 = .ok (.getfield 68, 3) := dk_180 0 68 (dk_at dksX2_transferred_1 3 rfl rfl)
theorem dX2_transferred_30 : decode cX2_transferred 30 = .ok (.iload_n 1, 1) := dk_27 (dk_at dksX2_transferred_1 6 rfl rfl)
theorem dX2_transferred_31 : decode cX2_transferred 31 = .ok (.if_icmp .ne 20, 3) := dk_160 0 20 (dk_at dksX2_transferred_1 7 rfl rfl)
theorem dX2_transferred_34 : decode cX2_transferred 34 = .ok (.aload_n 0, 1) := dk_42 (dk_at dksX2_transferred_1 10 rfl rfl)
theorem dX2_transferred_35 : decode cX2_transferred 35 = .ok (.getfield 14, 3) := dk_180 0 14 (dk_at dksX2_transferred_1 11 rfl rfl)
theorem dX2_transferred_38 : decode cX2_transferred 38 = .ok (.iload_n 3, 1) := dk_29 (dk_at dksX2_transferred_1 14 rfl rfl)
theorem dX2_transferred_39 : decode cX2_transferred 39 = .ok (.invokevirtual 50, 3) := dk_182 0 50 (dk_at dksX2_transferred_1 15 rfl rfl)
theorem dX2_transferred_42 : decode cX2_transferred 42 = .ok (.checkcast 66, 3) := dk_192 0 66 (dk_at dksX2_transferred_1 18 rfl rfl)
theorem dX2_transferred_45 : decode cX2_transferred 45 = .ok (.getfield 71, 3) := dk_180 0 71 (dk_at dksX2_transferred_1 21 rfl rfl)
theorem dX2_transferred_48 : decode cX2_transferred 48 = .ok (.goto 4, 3) := dk_167 0 4 (dk_at dksX2_transferred_2 0 rfl rfl)
theorem dX2_transferred_51 : decode cX2_transferred 51 = .ok (.iconst 0, 1) := dk_3 (dk_at dksX2_transferred_2 3 rfl rfl)
theorem dX2_transferred_52 : decode cX2_transferred 52 = .ok (.iadd, 1) := dk_96 (dk_at dksX2_transferred_2 4 rfl rfl)
theorem dX2_transferred_53 : decode cX2_transferred 53 = .ok (.istore_n 2, 1) := dk_61 (dk_at dksX2_transferred_2 5 rfl rfl)
theorem dX2_transferred_54 : decode cX2_transferred 54 = .ok (.iinc 3 1, 3) := dk_132 3 1 (dk_at dksX2_transferred_2 6 rfl rfl)
theorem dX2_transferred_57 : decode cX2_transferred 57 = .ok (.goto (-53), 3) := dk_167 255 203 (dk_at dksX2_transferred_2 9 rfl rfl)
theorem dX2_transferred_60 : decode cX2_transferred 60 = .ok (.iload_n 2, 1) := dk_28 (dk_at dksX2_transferred_2 12 rfl rfl)
theorem dX2_transferred_61 : decode cX2_transferred 61 = .ok (.ireturn, 1) := dk_172 (dk_at dksX2_transferred_2 13 rfl rfl)
abbrev cX2_deadline : ByteArray := prog_6_method_10_code
def yX2_deadline : MethodName := ⟨RX2, "deadline", "(LDocumentaryCreditDesk$Presentation;)I"⟩
def dkwX2_deadline_0 : List UInt8 := [42, 180, 0, 31, 43, 180, 0, 128, 8, 182, 0, 131, 172]
abbrev dktX2_deadline_0 : List UInt8 := dkwX2_deadline_0 ++ []
theorem dksX2_deadline_0 : cX2_deadline.data.toList.drop 0 = dktX2_deadline_0 := by decide +kernel
theorem dX2_deadline_0 : decode cX2_deadline 0 = .ok (.aload_n 0, 1) := dk_42 (dk_at dksX2_deadline_0 0 rfl rfl)
theorem dX2_deadline_1 : decode cX2_deadline 1 = .ok (.getfield 31, 3) := dk_180 0 31 (dk_at dksX2_deadline_0 1 rfl rfl)
theorem dX2_deadline_4 : decode cX2_deadline 4 = .ok (.aload_n 1, 1) := dk_43 (dk_at dksX2_deadline_0 4 rfl rfl)
theorem dX2_deadline_5 : decode cX2_deadline 5 = .ok (.getfield 128, 3) := dk_180 0 128 (dk_at dksX2_deadline_0 5 rfl rfl)
theorem dX2_deadline_8 : decode cX2_deadline 8 = .ok (.iconst 5, 1) := dk_8 (dk_at dksX2_deadline_0 8 rfl rfl)
theorem dX2_deadline_9 : decode cX2_deadline 9 = .ok (.invokevirtual 131, 3) := dk_182 0 131 (dk_at dksX2_deadline_0 9 rfl rfl)
theorem dX2_deadline_12 : decode cX2_deadline 12 = .ok (.ireturn, 1) := dk_172 (dk_at dksX2_deadline_0 12 rfl rfl)
abbrev cX2_feeOf : ByteArray := prog_6_method_14_code
def yX2_feeOf : MethodName := ⟨RX2, "feeOf", "(LDocumentaryCreditDesk$Presentation;)I"⟩
def dkwX2_feeOf_1 : List UInt8 := [180, 0, 149, 184, 0, 163, 133, 185, 0, 168, 7, 0, 184, 0, 173, 184, 0, 176, 136, 172]
abbrev dktX2_feeOf_1 : List UInt8 := dkwX2_feeOf_1 ++ []
def dkwX2_feeOf_0 : List UInt8 := [9, 20, 0, 161, 42, 180, 0, 27, 43, 180, 0, 63, 133, 42, 180, 0, 42, 43, 180, 0, 128, 100, 133, 43]
abbrev dktX2_feeOf_0 : List UInt8 := dkwX2_feeOf_0 ++ dktX2_feeOf_1
theorem dksX2_feeOf_0 : cX2_feeOf.data.toList.drop 0 = dktX2_feeOf_0 := by decide +kernel
theorem dksX2_feeOf_1 : cX2_feeOf.data.toList.drop 24 = dktX2_feeOf_1 := dk_seg dksX2_feeOf_0 24 rfl rfl
theorem dX2_feeOf_0 : decode cX2_feeOf 0 = .ok (.lconst 0, 1) := dk_9 (dk_at dksX2_feeOf_0 0 rfl rfl)
theorem dX2_feeOf_1 : decode cX2_feeOf 1 = .ok (.ldc2_w 161, 3) := dk_20 0 161 (dk_at dksX2_feeOf_0 1 rfl rfl)
theorem dX2_feeOf_4 : decode cX2_feeOf 4 = .ok (.aload_n 0, 1) := dk_42 (dk_at dksX2_feeOf_0 4 rfl rfl)
theorem dX2_feeOf_5 : decode cX2_feeOf 5 = .ok (.getfield 27, 3) := dk_180 0 27 (dk_at dksX2_feeOf_0 5 rfl rfl)
theorem dX2_feeOf_8 : decode cX2_feeOf 8 = .ok (.aload_n 1, 1) := dk_43 (dk_at dksX2_feeOf_0 8 rfl rfl)
theorem dX2_feeOf_9 : decode cX2_feeOf 9 = .ok (.getfield 63, 3) := dk_180 0 63 (dk_at dksX2_feeOf_0 9 rfl rfl)
theorem dX2_feeOf_12 : decode cX2_feeOf 12 = .ok (.i2l, 1) := dk_133 (dk_at dksX2_feeOf_0 12 rfl rfl)
theorem dX2_feeOf_13 : decode cX2_feeOf 13 = .ok (.aload_n 0, 1) := dk_42 (dk_at dksX2_feeOf_0 13 rfl rfl)
theorem dX2_feeOf_14 : decode cX2_feeOf 14 = .ok (.getfield 42, 3) := dk_180 0 42 (dk_at dksX2_feeOf_0 14 rfl rfl)
theorem dX2_feeOf_17 : decode cX2_feeOf 17 = .ok (.aload_n 1, 1) := dk_43 (dk_at dksX2_feeOf_0 17 rfl rfl)
theorem dX2_feeOf_18 : decode cX2_feeOf 18 = .ok (.getfield 128, 3) := dk_180 0 128 (dk_at dksX2_feeOf_0 18 rfl rfl)
theorem dX2_feeOf_21 : decode cX2_feeOf 21 = .ok (.isub, 1) := dk_100 (dk_at dksX2_feeOf_0 21 rfl rfl)
theorem dX2_feeOf_22 : decode cX2_feeOf 22 = .ok (.i2l, 1) := dk_133 (dk_at dksX2_feeOf_0 22 rfl rfl)
theorem dX2_feeOf_23 : decode cX2_feeOf 23 = .ok (.aload_n 1, 1) := dk_43 (dk_at dksX2_feeOf_0 23 rfl rfl)
theorem dX2_feeOf_24 : decode cX2_feeOf 24 = .ok (.getfield 149, 3) := dk_180 0 149 (dk_at dksX2_feeOf_1 0 rfl rfl)
theorem dX2_feeOf_27 : decode cX2_feeOf 27 = .ok (.invokestatic 163, 3) := dk_184 0 163 (dk_at dksX2_feeOf_1 3 rfl rfl)
theorem dX2_feeOf_30 : decode cX2_feeOf 30 = .ok (.i2l, 1) := dk_133 (dk_at dksX2_feeOf_1 6 rfl rfl)
theorem dX2_feeOf_31 : decode cX2_feeOf 31 = .ok (.invokeinterface 168 7, 5) := by decide +kernel
theorem dX2_feeOf_36 : decode cX2_feeOf 36 = .ok (.invokestatic 173, 3) := dk_184 0 173 (dk_at dksX2_feeOf_1 12 rfl rfl)
theorem dX2_feeOf_39 : decode cX2_feeOf 39 = .ok (.invokestatic 176, 3) := dk_184 0 176 (dk_at dksX2_feeOf_1 15 rfl rfl)
theorem dX2_feeOf_42 : decode cX2_feeOf 42 = .ok (.l2i, 1) := dk_136 (dk_at dksX2_feeOf_1 18 rfl rfl)
theorem dX2_feeOf_43 : decode cX2_feeOf 43 = .ok (.ireturn, 1) := dk_172 (dk_at dksX2_feeOf_1 19 rfl rfl)
abbrev cX2_check : ByteArray := prog_6_method_9_code
def yX2_check : MethodName := ⟨RX2, "check", "(IIIII)I"⟩
def dkwX2_check_8 : List UInt8 := [167, 0, 4, 3, 16, 6, 184, 0, 105, 128, 172]
abbrev dktX2_check_8 : List UInt8 := dkwX2_check_8 ++ []
def dkwX2_check_7 : List UInt8 := [162, 0, 7, 4, 167, 0, 4, 3, 8, 184, 0, 105, 128, 28, 42, 180, 0, 42, 164, 0, 7, 4]
abbrev dktX2_check_7 : List UInt8 := dkwX2_check_7 ++ dktX2_check_8
def dkwX2_check_6 : List UInt8 := [21, 7, 25, 6, 180, 0, 125, 16, 7, 122, 4, 126, 4, 160, 0, 18, 21, 5, 29, 29, 16, 10, 108, 96]
abbrev dktX2_check_6 : List UInt8 := dkwX2_check_6 ++ dktX2_check_7
def dkwX2_check_5 : List UInt8 := [180, 0, 125, 21, 4, 2, 130, 126, 153, 0, 7, 4, 167, 0, 4, 3, 7, 184, 0, 105, 128, 128, 54, 7]
abbrev dktX2_check_5 : List UInt8 := dkwX2_check_5 ++ dktX2_check_6
def dkwX2_check_4 : List UInt8 := [161, 0, 11, 42, 27, 182, 0, 121, 153, 0, 7, 4, 167, 0, 4, 3, 6, 184, 0, 105, 25, 6]
abbrev dktX2_check_4 : List UInt8 := dkwX2_check_4 ++ dktX2_check_5
def dkwX2_check_3 : List UInt8 := [184, 0, 105, 128, 54, 7, 21, 7, 25, 6, 180, 0, 115, 154, 0, 24, 29, 25, 6, 182, 0, 119]
abbrev dktX2_check_3 : List UInt8 := dkwX2_check_3 ++ dktX2_check_4
def dkwX2_check_2 : List UInt8 := [167, 0, 4, 3, 4, 184, 0, 105, 128, 29, 42, 27, 182, 0, 112, 164, 0, 7, 4, 167, 0, 4, 3, 5]
abbrev dktX2_check_2 : List UInt8 := dkwX2_check_2 ++ dktX2_check_3
def dkwX2_check_1 : List UInt8 := [167, 0, 4, 3, 3, 184, 0, 105, 42, 180, 0, 42, 42, 27, 28, 182, 0, 109, 164, 0, 7, 4]
abbrev dktX2_check_1 : List UInt8 := dkwX2_check_1 ++ dktX2_check_2
def dkwX2_check_0 : List UInt8 := [42, 180, 0, 14, 27, 182, 0, 50, 192, 0, 66, 58, 6, 28, 25, 6, 180, 0, 102, 164, 0, 7, 4]
abbrev dktX2_check_0 : List UInt8 := dkwX2_check_0 ++ dktX2_check_1
theorem dksX2_check_0 : cX2_check.data.toList.drop 0 = dktX2_check_0 := by decide +kernel
theorem dksX2_check_1 : cX2_check.data.toList.drop 23 = dktX2_check_1 := dk_seg dksX2_check_0 23 rfl rfl
theorem dksX2_check_2 : cX2_check.data.toList.drop 45 = dktX2_check_2 := dk_seg dksX2_check_1 22 rfl rfl
theorem dksX2_check_3 : cX2_check.data.toList.drop 69 = dktX2_check_3 := dk_seg dksX2_check_2 24 rfl rfl
theorem dksX2_check_4 : cX2_check.data.toList.drop 91 = dktX2_check_4 := dk_seg dksX2_check_3 22 rfl rfl
theorem dksX2_check_5 : cX2_check.data.toList.drop 113 = dktX2_check_5 := dk_seg dksX2_check_4 22 rfl rfl
theorem dksX2_check_6 : cX2_check.data.toList.drop 137 = dktX2_check_6 := dk_seg dksX2_check_5 24 rfl rfl
theorem dksX2_check_7 : cX2_check.data.toList.drop 161 = dktX2_check_7 := dk_seg dksX2_check_6 24 rfl rfl
theorem dksX2_check_8 : cX2_check.data.toList.drop 183 = dktX2_check_8 := dk_seg dksX2_check_7 22 rfl rfl
theorem dX2_check_0 : decode cX2_check 0 = .ok (.aload_n 0, 1) := dk_42 (dk_at dksX2_check_0 0 rfl rfl)
theorem dX2_check_1 : decode cX2_check 1 = .ok (.getfield 14, 3) := dk_180 0 14 (dk_at dksX2_check_0 1 rfl rfl)
theorem dX2_check_4 : decode cX2_check 4 = .ok (.iload_n 1, 1) := dk_27 (dk_at dksX2_check_0 4 rfl rfl)
theorem dX2_check_5 : decode cX2_check 5 = .ok (.invokevirtual 50, 3) := dk_182 0 50 (dk_at dksX2_check_0 5 rfl rfl)
theorem dX2_check_8 : decode cX2_check 8 = .ok (.checkcast 66, 3) := dk_192 0 66 (dk_at dksX2_check_0 8 rfl rfl)
theorem dX2_check_11 : decode cX2_check 11 = .ok (.astore 6, 2) := dk_58 6 (dk_at dksX2_check_0 11 rfl rfl)
theorem dX2_check_13 : decode cX2_check 13 = .ok (.iload_n 2, 1) := dk_28 (dk_at dksX2_check_0 13 rfl rfl)
theorem dX2_check_14 : decode cX2_check 14 = .ok (.aload 6, 2) := dk_25 6 (dk_at dksX2_check_0 14 rfl rfl)
theorem dX2_check_16 : decode cX2_check 16 = .ok (.getfield 102, 3) := dk_180 0 102 (dk_at dksX2_check_0 16 rfl rfl)
theorem dX2_check_19 : decode cX2_check 19 = .ok (.if_icmp .le 7, 3) := dk_164 0 7 (dk_at dksX2_check_0 19 rfl rfl)
theorem dX2_check_22 : decode cX2_check 22 = .ok (.iconst 1, 1) := dk_4 (dk_at dksX2_check_0 22 rfl rfl)
theorem dX2_check_23 : decode cX2_check 23 = .ok (.goto 4, 3) := dk_167 0 4 (dk_at dksX2_check_1 0 rfl rfl)
theorem dX2_check_26 : decode cX2_check 26 = .ok (.iconst 0, 1) := dk_3 (dk_at dksX2_check_1 3 rfl rfl)
theorem dX2_check_27 : decode cX2_check 27 = .ok (.iconst 0, 1) := dk_3 (dk_at dksX2_check_1 4 rfl rfl)
theorem dX2_check_28 : decode cX2_check 28 = .ok (.invokestatic 105, 3) := dk_184 0 105 (dk_at dksX2_check_1 5 rfl rfl)
theorem dX2_check_31 : decode cX2_check 31 = .ok (.aload_n 0, 1) := dk_42 (dk_at dksX2_check_1 8 rfl rfl)
theorem dX2_check_32 : decode cX2_check 32 = .ok (.getfield 42, 3) := dk_180 0 42 (dk_at dksX2_check_1 9 rfl rfl)
theorem dX2_check_35 : decode cX2_check 35 = .ok (.aload_n 0, 1) := dk_42 (dk_at dksX2_check_1 12 rfl rfl)
theorem dX2_check_36 : decode cX2_check 36 = .ok (.iload_n 1, 1) := dk_27 (dk_at dksX2_check_1 13 rfl rfl)
theorem dX2_check_37 : decode cX2_check 37 = .ok (.iload_n 2, 1) := dk_28 (dk_at dksX2_check_1 14 rfl rfl)
theorem dX2_check_38 : decode cX2_check 38 = .ok (.invokevirtual 109, 3) := dk_182 0 109 (dk_at dksX2_check_1 15 rfl rfl)
theorem dX2_check_41 : decode cX2_check 41 = .ok (.if_icmp .le 7, 3) := dk_164 0 7 (dk_at dksX2_check_1 18 rfl rfl)
theorem dX2_check_44 : decode cX2_check 44 = .ok (.iconst 1, 1) := dk_4 (dk_at dksX2_check_1 21 rfl rfl)
theorem dX2_check_45 : decode cX2_check 45 = .ok (.goto 4, 3) := dk_167 0 4 (dk_at dksX2_check_2 0 rfl rfl)
theorem dX2_check_48 : decode cX2_check 48 = .ok (.iconst 0, 1) := dk_3 (dk_at dksX2_check_2 3 rfl rfl)
theorem dX2_check_49 : decode cX2_check 49 = .ok (.iconst 1, 1) := dk_4 (dk_at dksX2_check_2 4 rfl rfl)
theorem dX2_check_50 : decode cX2_check 50 = .ok (.invokestatic 105, 3) := dk_184 0 105 (dk_at dksX2_check_2 5 rfl rfl)
theorem dX2_check_53 : decode cX2_check 53 = .ok (.ior, 1) := dk_128 (dk_at dksX2_check_2 8 rfl rfl)
theorem dX2_check_54 : decode cX2_check 54 = .ok (.iload_n 3, 1) := dk_29 (dk_at dksX2_check_2 9 rfl rfl)
theorem dX2_check_55 : decode cX2_check 55 = .ok (.aload_n 0, 1) := dk_42 (dk_at dksX2_check_2 10 rfl rfl)
theorem dX2_check_56 : decode cX2_check 56 = .ok (.iload_n 1, 1) := dk_27 (dk_at dksX2_check_2 11 rfl rfl)
theorem dX2_check_57 : decode cX2_check 57 = .ok (.invokevirtual 112, 3) := dk_182 0 112 (dk_at dksX2_check_2 12 rfl rfl)
theorem dX2_check_60 : decode cX2_check 60 = .ok (.if_icmp .le 7, 3) := dk_164 0 7 (dk_at dksX2_check_2 15 rfl rfl)
theorem dX2_check_63 : decode cX2_check 63 = .ok (.iconst 1, 1) := dk_4 (dk_at dksX2_check_2 18 rfl rfl)
theorem dX2_check_64 : decode cX2_check 64 = .ok (.goto 4, 3) := dk_167 0 4 (dk_at dksX2_check_2 19 rfl rfl)
theorem dX2_check_67 : decode cX2_check 67 = .ok (.iconst 0, 1) := dk_3 (dk_at dksX2_check_2 22 rfl rfl)
theorem dX2_check_68 : decode cX2_check 68 = .ok (.iconst 2, 1) := dk_5 (dk_at dksX2_check_2 23 rfl rfl)
theorem dX2_check_69 : decode cX2_check 69 = .ok (.invokestatic 105, 3) := dk_184 0 105 (dk_at dksX2_check_3 0 rfl rfl)
theorem dX2_check_72 : decode cX2_check 72 = .ok (.ior, 1) := dk_128 (dk_at dksX2_check_3 3 rfl rfl)
theorem dX2_check_73 : decode cX2_check 73 = .ok (.istore 7, 2) := dk_54 7 (dk_at dksX2_check_3 4 rfl rfl)
theorem dX2_check_75 : decode cX2_check 75 = .ok (.iload 7, 2) := dk_21 7 (dk_at dksX2_check_3 6 rfl rfl)
theorem dX2_check_77 : decode cX2_check 77 = .ok (.aload 6, 2) := dk_25 6 (dk_at dksX2_check_3 8 rfl rfl)
theorem dX2_check_79 : decode cX2_check 79 = .ok (.getfield 115, 3) := dk_180 0 115 (dk_at dksX2_check_3 10 rfl rfl)
theorem dX2_check_82 : decode cX2_check 82 = .ok (.ifCond .ne 24, 3) := dk_154 0 24 (dk_at dksX2_check_3 13 rfl rfl)
theorem dX2_check_85 : decode cX2_check 85 = .ok (.iload_n 3, 1) := dk_29 (dk_at dksX2_check_3 16 rfl rfl)
theorem dX2_check_86 : decode cX2_check 86 = .ok (.aload 6, 2) := dk_25 6 (dk_at dksX2_check_3 17 rfl rfl)
theorem dX2_check_88 : decode cX2_check 88 = .ok (.invokevirtual 119, 3) := dk_182 0 119 (dk_at dksX2_check_3 19 rfl rfl)
theorem dX2_check_91 : decode cX2_check 91 = .ok (.if_icmp .lt 11, 3) := dk_161 0 11 (dk_at dksX2_check_4 0 rfl rfl)
theorem dX2_check_94 : decode cX2_check 94 = .ok (.aload_n 0, 1) := dk_42 (dk_at dksX2_check_4 3 rfl rfl)
theorem dX2_check_95 : decode cX2_check 95 = .ok (.iload_n 1, 1) := dk_27 (dk_at dksX2_check_4 4 rfl rfl)
theorem dX2_check_96 : decode cX2_check 96 = .ok (.invokevirtual 121, 3) := dk_182 0 121 (dk_at dksX2_check_4 5 rfl rfl)
theorem dX2_check_99 : decode cX2_check 99 = .ok (.ifCond .eq 7, 3) := dk_153 0 7 (dk_at dksX2_check_4 8 rfl rfl)
theorem dX2_check_102 : decode cX2_check 102 = .ok (.iconst 1, 1) := dk_4 (dk_at dksX2_check_4 11 rfl rfl)
theorem dX2_check_103 : decode cX2_check 103 = .ok (.goto 4, 3) := dk_167 0 4 (dk_at dksX2_check_4 12 rfl rfl)
theorem dX2_check_106 : decode cX2_check 106 = .ok (.iconst 0, 1) := dk_3 (dk_at dksX2_check_4 15 rfl rfl)
theorem dX2_check_107 : decode cX2_check 107 = .ok (.iconst 3, 1) := dk_6 (dk_at dksX2_check_4 16 rfl rfl)
theorem dX2_check_108 : decode cX2_check 108 = .ok (.invokestatic 105, 3) := dk_184 0 105 (dk_at dksX2_check_4 17 rfl rfl)
theorem dX2_check_111 : decode cX2_check 111 = .ok (.aload 6, 2) := dk_25 6 (dk_at dksX2_check_4 20 rfl rfl)
theorem dX2_check_113 : decode cX2_check 113 = .ok (.getfield 125, 3) := dk_180 0 125 (dk_at dksX2_check_5 0 rfl rfl)
theorem dX2_check_116 : decode cX2_check 116 = .ok (.iload 4, 2) := dk_21 4 (dk_at dksX2_check_5 3 rfl rfl)
theorem dX2_check_118 : decode cX2_check 118 = .ok (.iconst (-1), 1) := dk_2 (dk_at dksX2_check_5 5 rfl rfl)
theorem dX2_check_119 : decode cX2_check 119 = .ok (.ixor, 1) := dk_130 (dk_at dksX2_check_5 6 rfl rfl)
theorem dX2_check_120 : decode cX2_check 120 = .ok (.iand, 1) := dk_126 (dk_at dksX2_check_5 7 rfl rfl)
theorem dX2_check_121 : decode cX2_check 121 = .ok (.ifCond .eq 7, 3) := dk_153 0 7 (dk_at dksX2_check_5 8 rfl rfl)
theorem dX2_check_124 : decode cX2_check 124 = .ok (.iconst 1, 1) := dk_4 (dk_at dksX2_check_5 11 rfl rfl)
theorem dX2_check_125 : decode cX2_check 125 = .ok (.goto 4, 3) := dk_167 0 4 (dk_at dksX2_check_5 12 rfl rfl)
theorem dX2_check_128 : decode cX2_check 128 = .ok (.iconst 0, 1) := dk_3 (dk_at dksX2_check_5 15 rfl rfl)
theorem dX2_check_129 : decode cX2_check 129 = .ok (.iconst 4, 1) := dk_7 (dk_at dksX2_check_5 16 rfl rfl)
theorem dX2_check_130 : decode cX2_check 130 = .ok (.invokestatic 105, 3) := dk_184 0 105 (dk_at dksX2_check_5 17 rfl rfl)
theorem dX2_check_133 : decode cX2_check 133 = .ok (.ior, 1) := dk_128 (dk_at dksX2_check_5 20 rfl rfl)
theorem dX2_check_134 : decode cX2_check 134 = .ok (.ior, 1) := dk_128 (dk_at dksX2_check_5 21 rfl rfl)
theorem dX2_check_135 : decode cX2_check 135 = .ok (.istore 7, 2) := dk_54 7 (dk_at dksX2_check_5 22 rfl rfl)
theorem dX2_check_137 : decode cX2_check 137 = .ok (.iload 7, 2) := dk_21 7 (dk_at dksX2_check_6 0 rfl rfl)
theorem dX2_check_139 : decode cX2_check 139 = .ok (.aload 6, 2) := dk_25 6 (dk_at dksX2_check_6 2 rfl rfl)
theorem dX2_check_141 : decode cX2_check 141 = .ok (.getfield 125, 3) := dk_180 0 125 (dk_at dksX2_check_6 4 rfl rfl)
theorem dX2_check_144 : decode cX2_check 144 = .ok (.bipush 7, 2) := dk_16 7 (dk_at dksX2_check_6 7 rfl rfl)
theorem dX2_check_146 : decode cX2_check 146 = .ok (.ishr, 1) := dk_122 (dk_at dksX2_check_6 9 rfl rfl)
theorem dX2_check_147 : decode cX2_check 147 = .ok (.iconst 1, 1) := dk_4 (dk_at dksX2_check_6 10 rfl rfl)
theorem dX2_check_148 : decode cX2_check 148 = .ok (.iand, 1) := dk_126 (dk_at dksX2_check_6 11 rfl rfl)
theorem dX2_check_149 : decode cX2_check 149 = .ok (.iconst 1, 1) := dk_4 (dk_at dksX2_check_6 12 rfl rfl)
theorem dX2_check_150 : decode cX2_check 150 = .ok (.if_icmp .ne 18, 3) := dk_160 0 18 (dk_at dksX2_check_6 13 rfl rfl)
theorem dX2_check_153 : decode cX2_check 153 = .ok (.iload 5, 2) := dk_21 5 (dk_at dksX2_check_6 16 rfl rfl)
theorem dX2_check_155 : decode cX2_check 155 = .ok (.iload_n 3, 1) := dk_29 (dk_at dksX2_check_6 18 rfl rfl)
theorem dX2_check_156 : decode cX2_check 156 = .ok (.iload_n 3, 1) := dk_29 (dk_at dksX2_check_6 19 rfl rfl)
theorem dX2_check_157 : decode cX2_check 157 = .ok (.bipush 10, 2) := dk_16 10 (dk_at dksX2_check_6 20 rfl rfl)
theorem dX2_check_159 : decode cX2_check 159 = .ok (.idiv, 1) := dk_108 (dk_at dksX2_check_6 22 rfl rfl)
theorem dX2_check_160 : decode cX2_check 160 = .ok (.iadd, 1) := dk_96 (dk_at dksX2_check_6 23 rfl rfl)
theorem dX2_check_161 : decode cX2_check 161 = .ok (.if_icmp .ge 7, 3) := dk_162 0 7 (dk_at dksX2_check_7 0 rfl rfl)
theorem dX2_check_164 : decode cX2_check 164 = .ok (.iconst 1, 1) := dk_4 (dk_at dksX2_check_7 3 rfl rfl)
theorem dX2_check_165 : decode cX2_check 165 = .ok (.goto 4, 3) := dk_167 0 4 (dk_at dksX2_check_7 4 rfl rfl)
theorem dX2_check_168 : decode cX2_check 168 = .ok (.iconst 0, 1) := dk_3 (dk_at dksX2_check_7 7 rfl rfl)
theorem dX2_check_169 : decode cX2_check 169 = .ok (.iconst 5, 1) := dk_8 (dk_at dksX2_check_7 8 rfl rfl)
theorem dX2_check_170 : decode cX2_check 170 = .ok (.invokestatic 105, 3) := dk_184 0 105 (dk_at dksX2_check_7 9 rfl rfl)
theorem dX2_check_173 : decode cX2_check 173 = .ok (.ior, 1) := dk_128 (dk_at dksX2_check_7 12 rfl rfl)
theorem dX2_check_174 : decode cX2_check 174 = .ok (.iload_n 2, 1) := dk_28 (dk_at dksX2_check_7 13 rfl rfl)
theorem dX2_check_175 : decode cX2_check 175 = .ok (.aload_n 0, 1) := dk_42 (dk_at dksX2_check_7 14 rfl rfl)
theorem dX2_check_176 : decode cX2_check 176 = .ok (.getfield 42, 3) := dk_180 0 42 (dk_at dksX2_check_7 15 rfl rfl)
theorem dX2_check_179 : decode cX2_check 179 = .ok (.if_icmp .le 7, 3) := dk_164 0 7 (dk_at dksX2_check_7 18 rfl rfl)
theorem dX2_check_182 : decode cX2_check 182 = .ok (.iconst 1, 1) := dk_4 (dk_at dksX2_check_7 21 rfl rfl)
theorem dX2_check_183 : decode cX2_check 183 = .ok (.goto 4, 3) := dk_167 0 4 (dk_at dksX2_check_8 0 rfl rfl)
theorem dX2_check_186 : decode cX2_check 186 = .ok (.iconst 0, 1) := dk_3 (dk_at dksX2_check_8 3 rfl rfl)
theorem dX2_check_187 : decode cX2_check 187 = .ok (.bipush 6, 2) := dk_16 6 (dk_at dksX2_check_8 4 rfl rfl)
theorem dX2_check_189 : decode cX2_check 189 = .ok (.invokestatic 105, 3) := dk_184 0 105 (dk_at dksX2_check_8 6 rfl rfl)
theorem dX2_check_192 : decode cX2_check 192 = .ok (.ior, 1) := dk_128 (dk_at dksX2_check_8 9 rfl rfl)
theorem dX2_check_193 : decode cX2_check 193 = .ok (.ireturn, 1) := dk_172 (dk_at dksX2_check_8 10 rfl rfl)
abbrev cX2_bit : ByteArray := prog_6_method_8_code
def yX2_bit : MethodName := ⟨RX2, "bit", "(ZI)I"⟩
def dkwX2_bit_0 : List UInt8 := [26, 153, 0, 9, 4, 27, 120, 167, 0, 4, 3, 172]
abbrev dktX2_bit_0 : List UInt8 := dkwX2_bit_0 ++ []
theorem dksX2_bit_0 : cX2_bit.data.toList.drop 0 = dktX2_bit_0 := by decide +kernel
theorem dX2_bit_0 : decode cX2_bit 0 = .ok (.iload_n 0, 1) := dk_26 (dk_at dksX2_bit_0 0 rfl rfl)
theorem dX2_bit_1 : decode cX2_bit 1 = .ok (.ifCond .eq 9, 3) := dk_153 0 9 (dk_at dksX2_bit_0 1 rfl rfl)
theorem dX2_bit_4 : decode cX2_bit 4 = .ok (.iconst 1, 1) := dk_4 (dk_at dksX2_bit_0 4 rfl rfl)
theorem dX2_bit_5 : decode cX2_bit 5 = .ok (.iload_n 1, 1) := dk_27 (dk_at dksX2_bit_0 5 rfl rfl)
theorem dX2_bit_6 : decode cX2_bit 6 = .ok (.ishl, 1) := dk_120 (dk_at dksX2_bit_0 6 rfl rfl)
theorem dX2_bit_7 : decode cX2_bit 7 = .ok (.goto 4, 3) := dk_167 0 4 (dk_at dksX2_bit_0 7 rfl rfl)
theorem dX2_bit_10 : decode cX2_bit 10 = .ok (.iconst 0, 1) := dk_3 (dk_at dksX2_bit_0 10 rfl rfl)
theorem dX2_bit_11 : decode cX2_bit 11 = .ok (.ireturn, 1) := dk_172 (dk_at dksX2_bit_0 11 rfl rfl)
abbrev cX2_lastDay : ByteArray := prog_6_method_7_code
def yX2_lastDay : MethodName := ⟨RX2, "lastDay", "(II)I"⟩
def dkwX2_lastDay_1 : List UInt8 := [180, 0, 31, 28, 45, 180, 0, 93, 96, 182, 0, 88, 184, 0, 96, 172]
abbrev dktX2_lastDay_1 : List UInt8 := dkwX2_lastDay_1 ++ []
def dkwX2_lastDay_0 : List UInt8 := [42, 180, 0, 14, 27, 182, 0, 50, 192, 0, 66, 78, 42, 180, 0, 31, 45, 180, 0, 85, 182, 0, 88, 42]
abbrev dktX2_lastDay_0 : List UInt8 := dkwX2_lastDay_0 ++ dktX2_lastDay_1
theorem dksX2_lastDay_0 : cX2_lastDay.data.toList.drop 0 = dktX2_lastDay_0 := by decide +kernel
theorem dksX2_lastDay_1 : cX2_lastDay.data.toList.drop 24 = dktX2_lastDay_1 := dk_seg dksX2_lastDay_0 24 rfl rfl
theorem dX2_lastDay_0 : decode cX2_lastDay 0 = .ok (.aload_n 0, 1) := dk_42 (dk_at dksX2_lastDay_0 0 rfl rfl)
theorem dX2_lastDay_1 : decode cX2_lastDay 1 = .ok (.getfield 14, 3) := dk_180 0 14 (dk_at dksX2_lastDay_0 1 rfl rfl)
theorem dX2_lastDay_4 : decode cX2_lastDay 4 = .ok (.iload_n 1, 1) := dk_27 (dk_at dksX2_lastDay_0 4 rfl rfl)
theorem dX2_lastDay_5 : decode cX2_lastDay 5 = .ok (.invokevirtual 50, 3) := dk_182 0 50 (dk_at dksX2_lastDay_0 5 rfl rfl)
theorem dX2_lastDay_8 : decode cX2_lastDay 8 = .ok (.checkcast 66, 3) := dk_192 0 66 (dk_at dksX2_lastDay_0 8 rfl rfl)
theorem dX2_lastDay_11 : decode cX2_lastDay 11 = .ok (.astore_n 3, 1) := dk_78 (dk_at dksX2_lastDay_0 11 rfl rfl)
theorem dX2_lastDay_12 : decode cX2_lastDay 12 = .ok (.aload_n 0, 1) := dk_42 (dk_at dksX2_lastDay_0 12 rfl rfl)
theorem dX2_lastDay_13 : decode cX2_lastDay 13 = .ok (.getfield 31, 3) := dk_180 0 31 (dk_at dksX2_lastDay_0 13 rfl rfl)
theorem dX2_lastDay_16 : decode cX2_lastDay 16 = .ok (.aload_n 3, 1) := dk_45 (dk_at dksX2_lastDay_0 16 rfl rfl)
theorem dX2_lastDay_17 : decode cX2_lastDay 17 = .ok (.getfield 85, 3) := dk_180 0 85 (dk_at dksX2_lastDay_0 17 rfl rfl)
theorem dX2_lastDay_20 : decode cX2_lastDay 20 = .ok (.invokevirtual 88, 3) := dk_182 0 88 (dk_at dksX2_lastDay_0 20 rfl rfl)
theorem dX2_lastDay_23 : decode cX2_lastDay 23 = .ok (.aload_n 0, 1) := dk_42 (dk_at dksX2_lastDay_0 23 rfl rfl)
theorem dX2_lastDay_24 : decode cX2_lastDay 24 = .ok (.getfield 31, 3) := dk_180 0 31 (dk_at dksX2_lastDay_1 0 rfl rfl)
theorem dX2_lastDay_27 : decode cX2_lastDay 27 = .ok (.iload_n 2, 1) := dk_28 (dk_at dksX2_lastDay_1 3 rfl rfl)
theorem dX2_lastDay_28 : decode cX2_lastDay 28 = .ok (.aload_n 3, 1) := dk_45 (dk_at dksX2_lastDay_1 4 rfl rfl)
theorem dX2_lastDay_29 : decode cX2_lastDay 29 = .ok (.getfield 93, 3) := dk_180 0 93 (dk_at dksX2_lastDay_1 5 rfl rfl)
theorem dX2_lastDay_32 : decode cX2_lastDay 32 = .ok (.iadd, 1) := dk_96 (dk_at dksX2_lastDay_1 8 rfl rfl)
theorem dX2_lastDay_33 : decode cX2_lastDay 33 = .ok (.invokevirtual 88, 3) := dk_182 0 88 (dk_at dksX2_lastDay_1 9 rfl rfl)
theorem dX2_lastDay_36 : decode cX2_lastDay 36 = .ok (.invokestatic 96, 3) := dk_184 0 96 (dk_at dksX2_lastDay_1 12 rfl rfl)
theorem dX2_lastDay_39 : decode cX2_lastDay 39 = .ok (.ireturn, 1) := dk_172 (dk_at dksX2_lastDay_1 15 rfl rfl)
abbrev cX2_hasPresentation : ByteArray := prog_6_method_6_code
def yX2_hasPresentation : MethodName := ⟨RX2, "hasPresentation", "(I)Z"⟩
def dkwX2_hasPresentation_2 : List UInt8 := [159, 0, 5, 4, 172, 132, 2, 1, 167, 255, 204, 3, 172]
abbrev dktX2_hasPresentation_2 : List UInt8 := dkwX2_hasPresentation_2 ++ []
def dkwX2_hasPresentation_1 : List UInt8 := [180, 0, 56, 27, 160, 0, 23, 42, 180, 0, 20, 28, 182, 0, 50, 192, 0, 54, 180, 0, 82, 6]
abbrev dktX2_hasPresentation_1 : List UInt8 := dkwX2_hasPresentation_1 ++ dktX2_hasPresentation_2
def dkwX2_hasPresentation_0 : List UInt8 := [3, 61, 28, 42, 180, 0, 20, 182, 0, 46, 162, 0, 47, 42, 180, 0, 20, 28, 182, 0, 50, 192, 0, 54]
abbrev dktX2_hasPresentation_0 : List UInt8 := dkwX2_hasPresentation_0 ++ dktX2_hasPresentation_1
theorem dksX2_hasPresentation_0 : cX2_hasPresentation.data.toList.drop 0 = dktX2_hasPresentation_0 := by decide +kernel
theorem dksX2_hasPresentation_1 : cX2_hasPresentation.data.toList.drop 24 = dktX2_hasPresentation_1 := dk_seg dksX2_hasPresentation_0 24 rfl rfl
theorem dksX2_hasPresentation_2 : cX2_hasPresentation.data.toList.drop 46 = dktX2_hasPresentation_2 := dk_seg dksX2_hasPresentation_1 22 rfl rfl
theorem dX2_hasPresentation_0 : decode cX2_hasPresentation 0 = .ok (.iconst 0, 1) := dk_3 (dk_at dksX2_hasPresentation_0 0 rfl rfl)
theorem dX2_hasPresentation_1 : decode cX2_hasPresentation 1 = .ok (.istore_n 2, 1) := dk_61 (dk_at dksX2_hasPresentation_0 1 rfl rfl)
theorem dX2_hasPresentation_2 : decode cX2_hasPresentation 2 = .ok (.iload_n 2, 1) := dk_28 (dk_at dksX2_hasPresentation_0 2 rfl rfl)
theorem dX2_hasPresentation_3 : decode cX2_hasPresentation 3 = .ok (.aload_n 0, 1) := dk_42 (dk_at dksX2_hasPresentation_0 3 rfl rfl)
theorem dX2_hasPresentation_4 : decode cX2_hasPresentation 4 = .ok (.getfield 20, 3) := dk_180 0 20 (dk_at dksX2_hasPresentation_0 4 rfl rfl)
theorem dX2_hasPresentation_7 : decode cX2_hasPresentation 7 = .ok (.invokevirtual 46, 3) := dk_182 0 46 (dk_at dksX2_hasPresentation_0 7 rfl rfl)
theorem dX2_hasPresentation_10 : decode cX2_hasPresentation 10 = .ok (.if_icmp .ge 47, 3) := dk_162 0 47 (dk_at dksX2_hasPresentation_0 10 rfl rfl)
theorem dX2_hasPresentation_13 : decode cX2_hasPresentation 13 = .ok (.aload_n 0, 1) := dk_42 (dk_at dksX2_hasPresentation_0 13 rfl rfl)
theorem dX2_hasPresentation_14 : decode cX2_hasPresentation 14 = .ok (.getfield 20, 3) := dk_180 0 20 (dk_at dksX2_hasPresentation_0 14 rfl rfl)
theorem dX2_hasPresentation_17 : decode cX2_hasPresentation 17 = .ok (.iload_n 2, 1) := dk_28 (dk_at dksX2_hasPresentation_0 17 rfl rfl)
theorem dX2_hasPresentation_18 : decode cX2_hasPresentation 18 = .ok (.invokevirtual 50, 3) := dk_182 0 50 (dk_at dksX2_hasPresentation_0 18 rfl rfl)
theorem dX2_hasPresentation_21 : decode cX2_hasPresentation 21 = .ok (.checkcast 54, 3) := dk_192 0 54 (dk_at dksX2_hasPresentation_0 21 rfl rfl)
theorem dX2_hasPresentation_24 : decode cX2_hasPresentation 24 = .ok (.getfield 56, 3) := dk_180 0 56 (dk_at dksX2_hasPresentation_1 0 rfl rfl)
theorem dX2_hasPresentation_27 : decode cX2_hasPresentation 27 = .ok (.iload_n 1, 1) := dk_27 (dk_at dksX2_hasPresentation_1 3 rfl rfl)
theorem dX2_hasPresentation_28 : decode cX2_hasPresentation 28 = .ok (.if_icmp .ne 23, 3) := dk_160 0 23 (dk_at dksX2_hasPresentation_1 4 rfl rfl)
theorem dX2_hasPresentation_31 : decode cX2_hasPresentation 31 = .ok (.aload_n 0, 1) := dk_42 (dk_at dksX2_hasPresentation_1 7 rfl rfl)
theorem dX2_hasPresentation_32 : decode cX2_hasPresentation 32 = .ok (.getfield 20, 3) := dk_180 0 20 (dk_at dksX2_hasPresentation_1 8 rfl rfl)
theorem dX2_hasPresentation_35 : decode cX2_hasPresentation 35 = .ok (.iload_n 2, 1) := dk_28 (dk_at dksX2_hasPresentation_1 11 rfl rfl)
theorem dX2_hasPresentation_36 : decode cX2_hasPresentation 36 = .ok (.invokevirtual 50, 3) := dk_182 0 50 (dk_at dksX2_hasPresentation_1 12 rfl rfl)
theorem dX2_hasPresentation_39 : decode cX2_hasPresentation 39 = .ok (.checkcast 54, 3) := dk_192 0 54 (dk_at dksX2_hasPresentation_1 15 rfl rfl)
theorem dX2_hasPresentation_42 : decode cX2_hasPresentation 42 = .ok (.getfield 82, 3) := dk_180 0 82 (dk_at dksX2_hasPresentation_1 18 rfl rfl)
theorem dX2_hasPresentation_45 : decode cX2_hasPresentation 45 = .ok (.iconst 3, 1) := dk_6 (dk_at dksX2_hasPresentation_1 21 rfl rfl)
theorem dX2_hasPresentation_46 : decode cX2_hasPresentation 46 = .ok (.if_icmp .eq 5, 3) := dk_159 0 5 (dk_at dksX2_hasPresentation_2 0 rfl rfl)
theorem dX2_hasPresentation_49 : decode cX2_hasPresentation 49 = .ok (.iconst 1, 1) := dk_4 (dk_at dksX2_hasPresentation_2 3 rfl rfl)
theorem dX2_hasPresentation_50 : decode cX2_hasPresentation 50 = .ok (.ireturn, 1) := dk_172 (dk_at dksX2_hasPresentation_2 4 rfl rfl)
theorem dX2_hasPresentation_51 : decode cX2_hasPresentation 51 = .ok (.iinc 2 1, 3) := dk_132 2 1 (dk_at dksX2_hasPresentation_2 5 rfl rfl)
theorem dX2_hasPresentation_54 : decode cX2_hasPresentation 54 = .ok (.goto (-52), 3) := dk_167 255 204 (dk_at dksX2_hasPresentation_2 8 rfl rfl)
theorem dX2_hasPresentation_57 : decode cX2_hasPresentation 57 = .ok (.iconst 0, 1) := dk_3 (dk_at dksX2_hasPresentation_2 11 rfl rfl)
theorem dX2_hasPresentation_58 : decode cX2_hasPresentation 58 = .ok (.ireturn, 1) := dk_172 (dk_at dksX2_hasPresentation_2 12 rfl rfl)
abbrev cX2_bestFit : ByteArray := prog_6_method_15_code
def yX2_bestFit : MethodName := ⟨RX2, "bestFit", "(I)I"⟩
def dkwX2_bestFit_9 : List UInt8 := [122, 4, 126, 44, 21, 8, 46, 120, 128, 54, 7, 132, 8, 1, 167, 255, 230, 21, 7, 172]
abbrev dktX2_bestFit_9 : List UInt8 := dkwX2_bestFit_9 ++ []
def dkwX2_bestFit_8 : List UInt8 := [132, 7, 1, 167, 255, 165, 3, 54, 7, 3, 54, 8, 21, 8, 29, 162, 0, 26, 21, 7, 21, 5, 21, 8]
abbrev dktX2_bestFit_8 : List UInt8 := dkwX2_bestFit_8 ++ dktX2_bestFit_9
def dkwX2_bestFit_7 : List UInt8 := [21, 4, 163, 0, 21, 21, 8, 21, 6, 163, 0, 6, 167, 0, 11, 21, 7, 54, 5, 21, 8, 54, 6]
abbrev dktX2_bestFit_7 : List UInt8 := dkwX2_bestFit_7 ++ dktX2_bestFit_8
def dkwX2_bestFit_6 : List UInt8 := [182, 0, 50, 192, 0, 54, 180, 0, 63, 167, 0, 4, 3, 96, 54, 8, 132, 9, 1, 167, 255, 210, 21, 8]
abbrev dktX2_bestFit_6 : List UInt8 := dkwX2_bestFit_6 ++ dktX2_bestFit_7
def dkwX2_bestFit_5 : List UInt8 := [162, 0, 46, 21, 8, 21, 7, 21, 9, 122, 4, 126, 4, 160, 0, 23, 42, 180, 0, 20, 44, 21, 9, 46]
abbrev dktX2_bestFit_5 : List UInt8 := dkwX2_bestFit_5 ++ dktX2_bestFit_6
def dkwX2_bestFit_4 : List UInt8 := [54, 6, 4, 54, 7, 21, 7, 4, 29, 120, 162, 0, 89, 3, 54, 8, 3, 54, 9, 21, 9, 29]
abbrev dktX2_bestFit_4 : List UInt8 := dkwX2_bestFit_4 ++ dktX2_bestFit_5
def dkwX2_bestFit_3 : List UInt8 := [21, 4, 79, 132, 3, 1, 132, 4, 1, 167, 255, 186, 42, 27, 182, 0, 112, 54, 4, 3, 54, 5, 3]
abbrev dktX2_bestFit_3 : List UInt8 := dkwX2_bestFit_3 ++ dktX2_bestFit_4
def dkwX2_bestFit_2 : List UInt8 := [42, 180, 0, 20, 21, 4, 182, 0, 50, 192, 0, 54, 180, 0, 82, 6, 159, 0, 6, 167, 0, 11, 44, 29]
abbrev dktX2_bestFit_2 : List UInt8 := dkwX2_bestFit_2 ++ dktX2_bestFit_3
def dkwX2_bestFit_1 : List UInt8 := [16, 12, 162, 0, 58, 42, 180, 0, 20, 21, 4, 182, 0, 50, 192, 0, 54, 180, 0, 56, 27, 160, 0, 33]
abbrev dktX2_bestFit_1 : List UInt8 := dkwX2_bestFit_1 ++ dktX2_bestFit_2
def dkwX2_bestFit_0 : List UInt8 := [16, 12, 188, 10, 77, 3, 62, 3, 54, 4, 21, 4, 42, 180, 0, 20, 182, 0, 46, 162, 0, 64, 29]
abbrev dktX2_bestFit_0 : List UInt8 := dkwX2_bestFit_0 ++ dktX2_bestFit_1
theorem dksX2_bestFit_0 : cX2_bestFit.data.toList.drop 0 = dktX2_bestFit_0 := by decide +kernel
theorem dksX2_bestFit_1 : cX2_bestFit.data.toList.drop 23 = dktX2_bestFit_1 := dk_seg dksX2_bestFit_0 23 rfl rfl
theorem dksX2_bestFit_2 : cX2_bestFit.data.toList.drop 47 = dktX2_bestFit_2 := dk_seg dksX2_bestFit_1 24 rfl rfl
theorem dksX2_bestFit_3 : cX2_bestFit.data.toList.drop 71 = dktX2_bestFit_3 := dk_seg dksX2_bestFit_2 24 rfl rfl
theorem dksX2_bestFit_4 : cX2_bestFit.data.toList.drop 94 = dktX2_bestFit_4 := dk_seg dksX2_bestFit_3 23 rfl rfl
theorem dksX2_bestFit_5 : cX2_bestFit.data.toList.drop 116 = dktX2_bestFit_5 := dk_seg dksX2_bestFit_4 22 rfl rfl
theorem dksX2_bestFit_6 : cX2_bestFit.data.toList.drop 140 = dktX2_bestFit_6 := dk_seg dksX2_bestFit_5 24 rfl rfl
theorem dksX2_bestFit_7 : cX2_bestFit.data.toList.drop 164 = dktX2_bestFit_7 := dk_seg dksX2_bestFit_6 24 rfl rfl
theorem dksX2_bestFit_8 : cX2_bestFit.data.toList.drop 187 = dktX2_bestFit_8 := dk_seg dksX2_bestFit_7 23 rfl rfl
theorem dksX2_bestFit_9 : cX2_bestFit.data.toList.drop 211 = dktX2_bestFit_9 := dk_seg dksX2_bestFit_8 24 rfl rfl
theorem dX2_bestFit_0 : decode cX2_bestFit 0 = .ok (.bipush 12, 2) := dk_16 12 (dk_at dksX2_bestFit_0 0 rfl rfl)
theorem dX2_bestFit_2 : decode cX2_bestFit 2 = .ok (.newarray .int, 2) := dk_188_10 (dk_at dksX2_bestFit_0 2 rfl rfl)
theorem dX2_bestFit_4 : decode cX2_bestFit 4 = .ok (.astore_n 2, 1) := dk_77 (dk_at dksX2_bestFit_0 4 rfl rfl)
theorem dX2_bestFit_5 : decode cX2_bestFit 5 = .ok (.iconst 0, 1) := dk_3 (dk_at dksX2_bestFit_0 5 rfl rfl)
theorem dX2_bestFit_6 : decode cX2_bestFit 6 = .ok (.istore_n 3, 1) := dk_62 (dk_at dksX2_bestFit_0 6 rfl rfl)
theorem dX2_bestFit_7 : decode cX2_bestFit 7 = .ok (.iconst 0, 1) := dk_3 (dk_at dksX2_bestFit_0 7 rfl rfl)
theorem dX2_bestFit_8 : decode cX2_bestFit 8 = .ok (.istore 4, 2) := dk_54 4 (dk_at dksX2_bestFit_0 8 rfl rfl)
theorem dX2_bestFit_10 : decode cX2_bestFit 10 = .ok (.iload 4, 2) := dk_21 4 (dk_at dksX2_bestFit_0 10 rfl rfl)
theorem dX2_bestFit_12 : decode cX2_bestFit 12 = .ok (.aload_n 0, 1) := dk_42 (dk_at dksX2_bestFit_0 12 rfl rfl)
theorem dX2_bestFit_13 : decode cX2_bestFit 13 = .ok (.getfield 20, 3) := dk_180 0 20 (dk_at dksX2_bestFit_0 13 rfl rfl)
theorem dX2_bestFit_16 : decode cX2_bestFit 16 = .ok (.invokevirtual 46, 3) := dk_182 0 46 (dk_at dksX2_bestFit_0 16 rfl rfl)
theorem dX2_bestFit_19 : decode cX2_bestFit 19 = .ok (.if_icmp .ge 64, 3) := dk_162 0 64 (dk_at dksX2_bestFit_0 19 rfl rfl)
theorem dX2_bestFit_22 : decode cX2_bestFit 22 = .ok (.iload_n 3, 1) := dk_29 (dk_at dksX2_bestFit_0 22 rfl rfl)
theorem dX2_bestFit_23 : decode cX2_bestFit 23 = .ok (.bipush 12, 2) := dk_16 12 (dk_at dksX2_bestFit_1 0 rfl rfl)
theorem dX2_bestFit_25 : decode cX2_bestFit 25 = .ok (.if_icmp .ge 58, 3) := dk_162 0 58 (dk_at dksX2_bestFit_1 2 rfl rfl)
theorem dX2_bestFit_28 : decode cX2_bestFit 28 = .ok (.aload_n 0, 1) := dk_42 (dk_at dksX2_bestFit_1 5 rfl rfl)
theorem dX2_bestFit_29 : decode cX2_bestFit 29 = .ok (.getfield 20, 3) := dk_180 0 20 (dk_at dksX2_bestFit_1 6 rfl rfl)
theorem dX2_bestFit_32 : decode cX2_bestFit 32 = .ok (.iload 4, 2) := dk_21 4 (dk_at dksX2_bestFit_1 9 rfl rfl)
theorem dX2_bestFit_34 : decode cX2_bestFit 34 = .ok (.invokevirtual 50, 3) := dk_182 0 50 (dk_at dksX2_bestFit_1 11 rfl rfl)
theorem dX2_bestFit_37 : decode cX2_bestFit 37 = .ok (.checkcast 54, 3) := dk_192 0 54 (dk_at dksX2_bestFit_1 14 rfl rfl)
theorem dX2_bestFit_40 : decode cX2_bestFit 40 = .ok (.getfield 56, 3) := dk_180 0 56 (dk_at dksX2_bestFit_1 17 rfl rfl)
theorem dX2_bestFit_43 : decode cX2_bestFit 43 = .ok (.iload_n 1, 1) := dk_27 (dk_at dksX2_bestFit_1 20 rfl rfl)
theorem dX2_bestFit_44 : decode cX2_bestFit 44 = .ok (.if_icmp .ne 33, 3) := dk_160 0 33 (dk_at dksX2_bestFit_1 21 rfl rfl)
theorem dX2_bestFit_47 : decode cX2_bestFit 47 = .ok (.aload_n 0, 1) := dk_42 (dk_at dksX2_bestFit_2 0 rfl rfl)
theorem dX2_bestFit_48 : decode cX2_bestFit 48 = .ok (.getfield 20, 3) := dk_180 0 20 (dk_at dksX2_bestFit_2 1 rfl rfl)
theorem dX2_bestFit_51 : decode cX2_bestFit 51 = .ok (.iload 4, 2) := dk_21 4 (dk_at dksX2_bestFit_2 4 rfl rfl)
theorem dX2_bestFit_53 : decode cX2_bestFit 53 = .ok (.invokevirtual 50, 3) := dk_182 0 50 (dk_at dksX2_bestFit_2 6 rfl rfl)
theorem dX2_bestFit_56 : decode cX2_bestFit 56 = .ok (.checkcast 54, 3) := dk_192 0 54 (dk_at dksX2_bestFit_2 9 rfl rfl)
theorem dX2_bestFit_59 : decode cX2_bestFit 59 = .ok (.getfield 82, 3) := dk_180 0 82 (dk_at dksX2_bestFit_2 12 rfl rfl)
theorem dX2_bestFit_62 : decode cX2_bestFit 62 = .ok (.iconst 3, 1) := dk_6 (dk_at dksX2_bestFit_2 15 rfl rfl)
theorem dX2_bestFit_63 : decode cX2_bestFit 63 = .ok (.if_icmp .eq 6, 3) := dk_159 0 6 (dk_at dksX2_bestFit_2 16 rfl rfl)
theorem dX2_bestFit_66 : decode cX2_bestFit 66 = .ok (.goto 11, 3) := dk_167 0 11 (dk_at dksX2_bestFit_2 19 rfl rfl)
theorem dX2_bestFit_69 : decode cX2_bestFit 69 = .ok (.aload_n 2, 1) := dk_44 (dk_at dksX2_bestFit_2 22 rfl rfl)
theorem dX2_bestFit_70 : decode cX2_bestFit 70 = .ok (.iload_n 3, 1) := dk_29 (dk_at dksX2_bestFit_2 23 rfl rfl)
theorem dX2_bestFit_71 : decode cX2_bestFit 71 = .ok (.iload 4, 2) := dk_21 4 (dk_at dksX2_bestFit_3 0 rfl rfl)
theorem dX2_bestFit_73 : decode cX2_bestFit 73 = .ok (.iastore, 1) := dk_79 (dk_at dksX2_bestFit_3 2 rfl rfl)
theorem dX2_bestFit_74 : decode cX2_bestFit 74 = .ok (.iinc 3 1, 3) := dk_132 3 1 (dk_at dksX2_bestFit_3 3 rfl rfl)
theorem dX2_bestFit_77 : decode cX2_bestFit 77 = .ok (.iinc 4 1, 3) := dk_132 4 1 (dk_at dksX2_bestFit_3 6 rfl rfl)
theorem dX2_bestFit_80 : decode cX2_bestFit 80 = .ok (.goto (-70), 3) := dk_167 255 186 (dk_at dksX2_bestFit_3 9 rfl rfl)
theorem dX2_bestFit_83 : decode cX2_bestFit 83 = .ok (.aload_n 0, 1) := dk_42 (dk_at dksX2_bestFit_3 12 rfl rfl)
theorem dX2_bestFit_84 : decode cX2_bestFit 84 = .ok (.iload_n 1, 1) := dk_27 (dk_at dksX2_bestFit_3 13 rfl rfl)
theorem dX2_bestFit_85 : decode cX2_bestFit 85 = .ok (.invokevirtual 112, 3) := dk_182 0 112 (dk_at dksX2_bestFit_3 14 rfl rfl)
theorem dX2_bestFit_88 : decode cX2_bestFit 88 = .ok (.istore 4, 2) := dk_54 4 (dk_at dksX2_bestFit_3 17 rfl rfl)
theorem dX2_bestFit_90 : decode cX2_bestFit 90 = .ok (.iconst 0, 1) := dk_3 (dk_at dksX2_bestFit_3 19 rfl rfl)
theorem dX2_bestFit_91 : decode cX2_bestFit 91 = .ok (.istore 5, 2) := dk_54 5 (dk_at dksX2_bestFit_3 20 rfl rfl)
theorem dX2_bestFit_93 : decode cX2_bestFit 93 = .ok (.iconst 0, 1) := dk_3 (dk_at dksX2_bestFit_3 22 rfl rfl)
theorem dX2_bestFit_94 : decode cX2_bestFit 94 = .ok (.istore 6, 2) := dk_54 6 (dk_at dksX2_bestFit_4 0 rfl rfl)
theorem dX2_bestFit_96 : decode cX2_bestFit 96 = .ok (.iconst 1, 1) := dk_4 (dk_at dksX2_bestFit_4 2 rfl rfl)
theorem dX2_bestFit_97 : decode cX2_bestFit 97 = .ok (.istore 7, 2) := dk_54 7 (dk_at dksX2_bestFit_4 3 rfl rfl)
theorem dX2_bestFit_99 : decode cX2_bestFit 99 = .ok (.iload 7, 2) := dk_21 7 (dk_at dksX2_bestFit_4 5 rfl rfl)
theorem dX2_bestFit_101 : decode cX2_bestFit 101 = .ok (.iconst 1, 1) := dk_4 (dk_at dksX2_bestFit_4 7 rfl rfl)
theorem dX2_bestFit_102 : decode cX2_bestFit 102 = .ok (.iload_n 3, 1) := dk_29 (dk_at dksX2_bestFit_4 8 rfl rfl)
theorem dX2_bestFit_103 : decode cX2_bestFit 103 = .ok (.ishl, 1) := dk_120 (dk_at dksX2_bestFit_4 9 rfl rfl)
theorem dX2_bestFit_104 : decode cX2_bestFit 104 = .ok (.if_icmp .ge 89, 3) := dk_162 0 89 (dk_at dksX2_bestFit_4 10 rfl rfl)
theorem dX2_bestFit_107 : decode cX2_bestFit 107 = .ok (.iconst 0, 1) := dk_3 (dk_at dksX2_bestFit_4 13 rfl rfl)
theorem dX2_bestFit_108 : decode cX2_bestFit 108 = .ok (.istore 8, 2) := dk_54 8 (dk_at dksX2_bestFit_4 14 rfl rfl)
theorem dX2_bestFit_110 : decode cX2_bestFit 110 = .ok (.iconst 0, 1) := dk_3 (dk_at dksX2_bestFit_4 16 rfl rfl)
theorem dX2_bestFit_111 : decode cX2_bestFit 111 = .ok (.istore 9, 2) := dk_54 9 (dk_at dksX2_bestFit_4 17 rfl rfl)
theorem dX2_bestFit_113 : decode cX2_bestFit 113 = .ok (.iload 9, 2) := dk_21 9 (dk_at dksX2_bestFit_4 19 rfl rfl)
theorem dX2_bestFit_115 : decode cX2_bestFit 115 = .ok (.iload_n 3, 1) := dk_29 (dk_at dksX2_bestFit_4 21 rfl rfl)
theorem dX2_bestFit_116 : decode cX2_bestFit 116 = .ok (.if_icmp .ge 46, 3) := dk_162 0 46 (dk_at dksX2_bestFit_5 0 rfl rfl)
theorem dX2_bestFit_119 : decode cX2_bestFit 119 = .ok (.iload 8, 2) := dk_21 8 (dk_at dksX2_bestFit_5 3 rfl rfl)
theorem dX2_bestFit_121 : decode cX2_bestFit 121 = .ok (.iload 7, 2) := dk_21 7 (dk_at dksX2_bestFit_5 5 rfl rfl)
theorem dX2_bestFit_123 : decode cX2_bestFit 123 = .ok (.iload 9, 2) := dk_21 9 (dk_at dksX2_bestFit_5 7 rfl rfl)
theorem dX2_bestFit_125 : decode cX2_bestFit 125 = .ok (.ishr, 1) := dk_122 (dk_at dksX2_bestFit_5 9 rfl rfl)
theorem dX2_bestFit_126 : decode cX2_bestFit 126 = .ok (.iconst 1, 1) := dk_4 (dk_at dksX2_bestFit_5 10 rfl rfl)
theorem dX2_bestFit_127 : decode cX2_bestFit 127 = .ok (.iand, 1) := dk_126 (dk_at dksX2_bestFit_5 11 rfl rfl)
theorem dX2_bestFit_128 : decode cX2_bestFit 128 = .ok (.iconst 1, 1) := dk_4 (dk_at dksX2_bestFit_5 12 rfl rfl)
theorem dX2_bestFit_129 : decode cX2_bestFit 129 = .ok (.if_icmp .ne 23, 3) := dk_160 0 23 (dk_at dksX2_bestFit_5 13 rfl rfl)
theorem dX2_bestFit_132 : decode cX2_bestFit 132 = .ok (.aload_n 0, 1) := dk_42 (dk_at dksX2_bestFit_5 16 rfl rfl)
theorem dX2_bestFit_133 : decode cX2_bestFit 133 = .ok (.getfield 20, 3) := dk_180 0 20 (dk_at dksX2_bestFit_5 17 rfl rfl)
theorem dX2_bestFit_136 : decode cX2_bestFit 136 = .ok (.aload_n 2, 1) := dk_44 (dk_at dksX2_bestFit_5 20 rfl rfl)
theorem dX2_bestFit_137 : decode cX2_bestFit 137 = .ok (.iload 9, 2) := dk_21 9 (dk_at dksX2_bestFit_5 21 rfl rfl)
theorem dX2_bestFit_139 : decode cX2_bestFit 139 = .ok (.iaload, 1) := dk_46 (dk_at dksX2_bestFit_5 23 rfl rfl)
theorem dX2_bestFit_140 : decode cX2_bestFit 140 = .ok (.invokevirtual 50, 3) := dk_182 0 50 (dk_at dksX2_bestFit_6 0 rfl rfl)
theorem dX2_bestFit_143 : decode cX2_bestFit 143 = .ok (.checkcast 54, 3) := dk_192 0 54 (dk_at dksX2_bestFit_6 3 rfl rfl)
theorem dX2_bestFit_146 : decode cX2_bestFit 146 = .ok (.getfield 63, 3) := dk_180 0 63 (dk_at dksX2_bestFit_6 6 rfl rfl)
theorem dX2_bestFit_149 : decode cX2_bestFit 149 = .ok (.goto 4, 3) := dk_167 0 4 (dk_at dksX2_bestFit_6 9 rfl rfl)
theorem dX2_bestFit_152 : decode cX2_bestFit 152 = .ok (.iconst 0, 1) := dk_3 (dk_at dksX2_bestFit_6 12 rfl rfl)
theorem dX2_bestFit_153 : decode cX2_bestFit 153 = .ok (.iadd, 1) := dk_96 (dk_at dksX2_bestFit_6 13 rfl rfl)
theorem dX2_bestFit_154 : decode cX2_bestFit 154 = .ok (.istore 8, 2) := dk_54 8 (dk_at dksX2_bestFit_6 14 rfl rfl)
theorem dX2_bestFit_156 : decode cX2_bestFit 156 = .ok (.iinc 9 1, 3) := dk_132 9 1 (dk_at dksX2_bestFit_6 16 rfl rfl)
theorem dX2_bestFit_159 : decode cX2_bestFit 159 = .ok (.goto (-46), 3) := dk_167 255 210 (dk_at dksX2_bestFit_6 19 rfl rfl)
theorem dX2_bestFit_162 : decode cX2_bestFit 162 = .ok (.iload 8, 2) := dk_21 8 (dk_at dksX2_bestFit_6 22 rfl rfl)
theorem dX2_bestFit_164 : decode cX2_bestFit 164 = .ok (.iload 4, 2) := dk_21 4 (dk_at dksX2_bestFit_7 0 rfl rfl)
theorem dX2_bestFit_166 : decode cX2_bestFit 166 = .ok (.if_icmp .gt 21, 3) := dk_163 0 21 (dk_at dksX2_bestFit_7 2 rfl rfl)
theorem dX2_bestFit_169 : decode cX2_bestFit 169 = .ok (.iload 8, 2) := dk_21 8 (dk_at dksX2_bestFit_7 5 rfl rfl)
theorem dX2_bestFit_171 : decode cX2_bestFit 171 = .ok (.iload 6, 2) := dk_21 6 (dk_at dksX2_bestFit_7 7 rfl rfl)
theorem dX2_bestFit_173 : decode cX2_bestFit 173 = .ok (.if_icmp .gt 6, 3) := dk_163 0 6 (dk_at dksX2_bestFit_7 9 rfl rfl)
theorem dX2_bestFit_176 : decode cX2_bestFit 176 = .ok (.goto 11, 3) := dk_167 0 11 (dk_at dksX2_bestFit_7 12 rfl rfl)
theorem dX2_bestFit_179 : decode cX2_bestFit 179 = .ok (.iload 7, 2) := dk_21 7 (dk_at dksX2_bestFit_7 15 rfl rfl)
theorem dX2_bestFit_181 : decode cX2_bestFit 181 = .ok (.istore 5, 2) := dk_54 5 (dk_at dksX2_bestFit_7 17 rfl rfl)
theorem dX2_bestFit_183 : decode cX2_bestFit 183 = .ok (.iload 8, 2) := dk_21 8 (dk_at dksX2_bestFit_7 19 rfl rfl)
theorem dX2_bestFit_185 : decode cX2_bestFit 185 = .ok (.istore 6, 2) := dk_54 6 (dk_at dksX2_bestFit_7 21 rfl rfl)
theorem dX2_bestFit_187 : decode cX2_bestFit 187 = .ok (.iinc 7 1, 3) := dk_132 7 1 (dk_at dksX2_bestFit_8 0 rfl rfl)
theorem dX2_bestFit_190 : decode cX2_bestFit 190 = .ok (.goto (-91), 3) := dk_167 255 165 (dk_at dksX2_bestFit_8 3 rfl rfl)
theorem dX2_bestFit_193 : decode cX2_bestFit 193 = .ok (.iconst 0, 1) := dk_3 (dk_at dksX2_bestFit_8 6 rfl rfl)
theorem dX2_bestFit_194 : decode cX2_bestFit 194 = .ok (.istore 7, 2) := dk_54 7 (dk_at dksX2_bestFit_8 7 rfl rfl)
theorem dX2_bestFit_196 : decode cX2_bestFit 196 = .ok (.iconst 0, 1) := dk_3 (dk_at dksX2_bestFit_8 9 rfl rfl)
theorem dX2_bestFit_197 : decode cX2_bestFit 197 = .ok (.istore 8, 2) := dk_54 8 (dk_at dksX2_bestFit_8 10 rfl rfl)
theorem dX2_bestFit_199 : decode cX2_bestFit 199 = .ok (.iload 8, 2) := dk_21 8 (dk_at dksX2_bestFit_8 12 rfl rfl)
theorem dX2_bestFit_201 : decode cX2_bestFit 201 = .ok (.iload_n 3, 1) := dk_29 (dk_at dksX2_bestFit_8 14 rfl rfl)
theorem dX2_bestFit_202 : decode cX2_bestFit 202 = .ok (.if_icmp .ge 26, 3) := dk_162 0 26 (dk_at dksX2_bestFit_8 15 rfl rfl)
theorem dX2_bestFit_205 : decode cX2_bestFit 205 = .ok (.iload 7, 2) := dk_21 7 (dk_at dksX2_bestFit_8 18 rfl rfl)
theorem dX2_bestFit_207 : decode cX2_bestFit 207 = .ok (.iload 5, 2) := dk_21 5 (dk_at dksX2_bestFit_8 20 rfl rfl)
theorem dX2_bestFit_209 : decode cX2_bestFit 209 = .ok (.iload 8, 2) := dk_21 8 (dk_at dksX2_bestFit_8 22 rfl rfl)
theorem dX2_bestFit_211 : decode cX2_bestFit 211 = .ok (.ishr, 1) := dk_122 (dk_at dksX2_bestFit_9 0 rfl rfl)
theorem dX2_bestFit_212 : decode cX2_bestFit 212 = .ok (.iconst 1, 1) := dk_4 (dk_at dksX2_bestFit_9 1 rfl rfl)
theorem dX2_bestFit_213 : decode cX2_bestFit 213 = .ok (.iand, 1) := dk_126 (dk_at dksX2_bestFit_9 2 rfl rfl)
theorem dX2_bestFit_214 : decode cX2_bestFit 214 = .ok (.aload_n 2, 1) := dk_44 (dk_at dksX2_bestFit_9 3 rfl rfl)
theorem dX2_bestFit_215 : decode cX2_bestFit 215 = .ok (.iload 8, 2) := dk_21 8 (dk_at dksX2_bestFit_9 4 rfl rfl)
theorem dX2_bestFit_217 : decode cX2_bestFit 217 = .ok (.iaload, 1) := dk_46 (dk_at dksX2_bestFit_9 6 rfl rfl)
theorem dX2_bestFit_218 : decode cX2_bestFit 218 = .ok (.ishl, 1) := dk_120 (dk_at dksX2_bestFit_9 7 rfl rfl)
theorem dX2_bestFit_219 : decode cX2_bestFit 219 = .ok (.ior, 1) := dk_128 (dk_at dksX2_bestFit_9 8 rfl rfl)
theorem dX2_bestFit_220 : decode cX2_bestFit 220 = .ok (.istore 7, 2) := dk_54 7 (dk_at dksX2_bestFit_9 9 rfl rfl)
theorem dX2_bestFit_222 : decode cX2_bestFit 222 = .ok (.iinc 8 1, 3) := dk_132 8 1 (dk_at dksX2_bestFit_9 11 rfl rfl)
theorem dX2_bestFit_225 : decode cX2_bestFit 225 = .ok (.goto (-26), 3) := dk_167 255 230 (dk_at dksX2_bestFit_9 14 rfl rfl)
theorem dX2_bestFit_228 : decode cX2_bestFit 228 = .ok (.iload 7, 2) := dk_21 7 (dk_at dksX2_bestFit_9 17 rfl rfl)
theorem dX2_bestFit_230 : decode cX2_bestFit 230 = .ok (.ireturn, 1) := dk_172 (dk_at dksX2_bestFit_9 19 rfl rfl)
abbrev cX2_copy : ByteArray := prog_6_method_2_code
def yX2_copy : MethodName := ⟨RX2, "copy", "()LDocumentaryCreditDesk$Desk;"⟩
def dkwX2_copy_2 : List UInt8 := [181, 0, 42, 43, 176]
abbrev dktX2_copy_2 : List UInt8 := dkwX2_copy_2 ++ []
def dkwX2_copy_1 : List UInt8 := [180, 0, 20, 42, 180, 0, 20, 182, 0, 38, 43, 42, 180, 0, 27, 181, 0, 27, 43, 42, 180, 0, 42]
abbrev dktX2_copy_1 : List UInt8 := dkwX2_copy_1 ++ dktX2_copy_2
def dkwX2_copy_0 : List UInt8 := [187, 0, 15, 89, 42, 180, 0, 31, 183, 0, 35, 76, 43, 180, 0, 14, 42, 180, 0, 14, 182, 0, 38, 43]
abbrev dktX2_copy_0 : List UInt8 := dkwX2_copy_0 ++ dktX2_copy_1
theorem dksX2_copy_0 : cX2_copy.data.toList.drop 0 = dktX2_copy_0 := by decide +kernel
theorem dksX2_copy_1 : cX2_copy.data.toList.drop 24 = dktX2_copy_1 := dk_seg dksX2_copy_0 24 rfl rfl
theorem dksX2_copy_2 : cX2_copy.data.toList.drop 47 = dktX2_copy_2 := dk_seg dksX2_copy_1 23 rfl rfl
theorem dX2_copy_0 : decode cX2_copy 0 = .ok (.new 15, 3) := dk_187 0 15 (dk_at dksX2_copy_0 0 rfl rfl)
theorem dX2_copy_3 : decode cX2_copy 3 = .ok (.dup, 1) := dk_89 (dk_at dksX2_copy_0 3 rfl rfl)
theorem dX2_copy_4 : decode cX2_copy 4 = .ok (.aload_n 0, 1) := dk_42 (dk_at dksX2_copy_0 4 rfl rfl)
theorem dX2_copy_5 : decode cX2_copy 5 = .ok (.getfield 31, 3) := dk_180 0 31 (dk_at dksX2_copy_0 5 rfl rfl)
theorem dX2_copy_8 : decode cX2_copy 8 = .ok (.invokespecial 35, 3) := dk_183 0 35 (dk_at dksX2_copy_0 8 rfl rfl)
theorem dX2_copy_11 : decode cX2_copy 11 = .ok (.astore_n 1, 1) := dk_76 (dk_at dksX2_copy_0 11 rfl rfl)
theorem dX2_copy_12 : decode cX2_copy 12 = .ok (.aload_n 1, 1) := dk_43 (dk_at dksX2_copy_0 12 rfl rfl)
theorem dX2_copy_13 : decode cX2_copy 13 = .ok (.getfield 14, 3) := dk_180 0 14 (dk_at dksX2_copy_0 13 rfl rfl)
theorem dX2_copy_16 : decode cX2_copy 16 = .ok (.aload_n 0, 1) := dk_42 (dk_at dksX2_copy_0 16 rfl rfl)
theorem dX2_copy_17 : decode cX2_copy 17 = .ok (.getfield 14, 3) := dk_180 0 14 (dk_at dksX2_copy_0 17 rfl rfl)
theorem dX2_copy_20 : decode cX2_copy 20 = .ok (.invokevirtual 38, 3) := dk_182 0 38 (dk_at dksX2_copy_0 20 rfl rfl)
theorem dX2_copy_23 : decode cX2_copy 23 = .ok (.aload_n 1, 1) := dk_43 (dk_at dksX2_copy_0 23 rfl rfl)
theorem dX2_copy_24 : decode cX2_copy 24 = .ok (.getfield 20, 3) := dk_180 0 20 (dk_at dksX2_copy_1 0 rfl rfl)
theorem dX2_copy_27 : decode cX2_copy 27 = .ok (.aload_n 0, 1) := dk_42 (dk_at dksX2_copy_1 3 rfl rfl)
theorem dX2_copy_28 : decode cX2_copy 28 = .ok (.getfield 20, 3) := dk_180 0 20 (dk_at dksX2_copy_1 4 rfl rfl)
theorem dX2_copy_31 : decode cX2_copy 31 = .ok (.invokevirtual 38, 3) := dk_182 0 38 (dk_at dksX2_copy_1 7 rfl rfl)
theorem dX2_copy_34 : decode cX2_copy 34 = .ok (.aload_n 1, 1) := dk_43 (dk_at dksX2_copy_1 10 rfl rfl)
theorem dX2_copy_35 : decode cX2_copy 35 = .ok (.aload_n 0, 1) := dk_42 (dk_at dksX2_copy_1 11 rfl rfl)
theorem dX2_copy_36 : decode cX2_copy 36 = .ok (.getfield 27, 3) := dk_180 0 27 (dk_at dksX2_copy_1 12 rfl rfl)
theorem dX2_copy_39 : decode cX2_copy 39 = .ok (.putfield 27, 3) := dk_181 0 27 (dk_at dksX2_copy_1 15 rfl rfl)
theorem dX2_copy_42 : decode cX2_copy 42 = .ok (.aload_n 1, 1) := dk_43 (dk_at dksX2_copy_1 18 rfl rfl)
theorem dX2_copy_43 : decode cX2_copy 43 = .ok (.aload_n 0, 1) := dk_42 (dk_at dksX2_copy_1 19 rfl rfl)
theorem dX2_copy_44 : decode cX2_copy 44 = .ok (.getfield 42, 3) := dk_180 0 42 (dk_at dksX2_copy_1 20 rfl rfl)
theorem dX2_copy_47 : decode cX2_copy 47 = .ok (.putfield 42, 3) := dk_181 0 42 (dk_at dksX2_copy_2 0 rfl rfl)
theorem dX2_copy_50 : decode cX2_copy 50 = .ok (.aload_n 1, 1) := dk_43 (dk_at dksX2_copy_2 3 rfl rfl)
theorem dX2_copy_51 : decode cX2_copy 51 = .ok (.areturn, 1) := dk_176 (dk_at dksX2_copy_2 4 rfl rfl)
abbrev cX2_examine : ByteArray := prog_6_method_13_code
def yX2_examine : MethodName := ⟨RX2, "examine", "(I)I"⟩
def dkwX2_examine_3 : List UInt8 := [182, 0, 145, 29, 153, 0, 7, 5, 167, 0, 4, 4, 172]
abbrev dktX2_examine_3 : List UInt8 := dkwX2_examine_3 ++ []
def dkwX2_examine_2 : List UInt8 := [153, 0, 12, 42, 27, 182, 0, 158, 87, 167, 0, 17, 42, 180, 0, 20, 27, 44, 4, 2, 182, 0, 141]
abbrev dktX2_examine_2 : List UInt8 := dkwX2_examine_2 ++ dktX2_examine_3
def dkwX2_examine_1 : List UInt8 := [154, 0, 19, 42, 180, 0, 42, 42, 44, 182, 0, 155, 164, 0, 7, 4, 167, 0, 4, 3, 62, 29]
abbrev dktX2_examine_1 : List UInt8 := dkwX2_examine_1 ++ dktX2_examine_2
def dkwX2_examine_0 : List UInt8 := [42, 180, 0, 20, 27, 182, 0, 50, 192, 0, 54, 77, 44, 180, 0, 149, 153, 0, 23, 44, 5, 182, 0, 152]
abbrev dktX2_examine_0 : List UInt8 := dkwX2_examine_0 ++ dktX2_examine_1
theorem dksX2_examine_0 : cX2_examine.data.toList.drop 0 = dktX2_examine_0 := by decide +kernel
theorem dksX2_examine_1 : cX2_examine.data.toList.drop 24 = dktX2_examine_1 := dk_seg dksX2_examine_0 24 rfl rfl
theorem dksX2_examine_2 : cX2_examine.data.toList.drop 46 = dktX2_examine_2 := dk_seg dksX2_examine_1 22 rfl rfl
theorem dksX2_examine_3 : cX2_examine.data.toList.drop 69 = dktX2_examine_3 := dk_seg dksX2_examine_2 23 rfl rfl
theorem dX2_examine_0 : decode cX2_examine 0 = .ok (.aload_n 0, 1) := dk_42 (dk_at dksX2_examine_0 0 rfl rfl)
theorem dX2_examine_1 : decode cX2_examine 1 = .ok (.getfield 20, 3) := dk_180 0 20 (dk_at dksX2_examine_0 1 rfl rfl)
theorem dX2_examine_4 : decode cX2_examine 4 = .ok (.iload_n 1, 1) := dk_27 (dk_at dksX2_examine_0 4 rfl rfl)
theorem dX2_examine_5 : decode cX2_examine 5 = .ok (.invokevirtual 50, 3) := dk_182 0 50 (dk_at dksX2_examine_0 5 rfl rfl)
theorem dX2_examine_8 : decode cX2_examine 8 = .ok (.checkcast 54, 3) := dk_192 0 54 (dk_at dksX2_examine_0 8 rfl rfl)
theorem dX2_examine_11 : decode cX2_examine 11 = .ok (.astore_n 2, 1) := dk_77 (dk_at dksX2_examine_0 11 rfl rfl)
theorem dX2_examine_12 : decode cX2_examine 12 = .ok (.aload_n 2, 1) := dk_44 (dk_at dksX2_examine_0 12 rfl rfl)
theorem dX2_examine_13 : decode cX2_examine 13 = .ok (.getfield 149, 3) := dk_180 0 149 (dk_at dksX2_examine_0 13 rfl rfl)
theorem dX2_examine_16 : decode cX2_examine 16 = .ok (.ifCond .eq 23, 3) := dk_153 0 23 (dk_at dksX2_examine_0 16 rfl rfl)
theorem dX2_examine_19 : decode cX2_examine 19 = .ok (.aload_n 2, 1) := dk_44 (dk_at dksX2_examine_0 19 rfl rfl)
theorem dX2_examine_20 : decode cX2_examine 20 = .ok (.iconst 2, 1) := dk_5 (dk_at dksX2_examine_0 20 rfl rfl)
theorem dX2_examine_21 : decode cX2_examine 21 = .ok (.invokevirtual 152, 3) := dk_182 0 152 (dk_at dksX2_examine_0 21 rfl rfl)
theorem dX2_examine_24 : decode cX2_examine 24 = .ok (.ifCond .ne 19, 3) := dk_154 0 19 (dk_at dksX2_examine_1 0 rfl rfl)
theorem dX2_examine_27 : decode cX2_examine 27 = .ok (.aload_n 0, 1) := dk_42 (dk_at dksX2_examine_1 3 rfl rfl)
theorem dX2_examine_28 : decode cX2_examine 28 = .ok (.getfield 42, 3) := dk_180 0 42 (dk_at dksX2_examine_1 4 rfl rfl)
theorem dX2_examine_31 : decode cX2_examine 31 = .ok (.aload_n 0, 1) := dk_42 (dk_at dksX2_examine_1 7 rfl rfl)
theorem dX2_examine_32 : decode cX2_examine 32 = .ok (.aload_n 2, 1) := dk_44 (dk_at dksX2_examine_1 8 rfl rfl)
theorem dX2_examine_33 : decode cX2_examine 33 = .ok (.invokevirtual 155, 3) := dk_182 0 155 (dk_at dksX2_examine_1 9 rfl rfl)
theorem dX2_examine_36 : decode cX2_examine 36 = .ok (.if_icmp .le 7, 3) := dk_164 0 7 (dk_at dksX2_examine_1 12 rfl rfl)
theorem dX2_examine_39 : decode cX2_examine 39 = .ok (.iconst 1, 1) := dk_4 (dk_at dksX2_examine_1 15 rfl rfl)
theorem dX2_examine_40 : decode cX2_examine 40 = .ok (.goto 4, 3) := dk_167 0 4 (dk_at dksX2_examine_1 16 rfl rfl)
theorem dX2_examine_43 : decode cX2_examine 43 = .ok (.iconst 0, 1) := dk_3 (dk_at dksX2_examine_1 19 rfl rfl)
theorem dX2_examine_44 : decode cX2_examine 44 = .ok (.istore_n 3, 1) := dk_62 (dk_at dksX2_examine_1 20 rfl rfl)
theorem dX2_examine_45 : decode cX2_examine 45 = .ok (.iload_n 3, 1) := dk_29 (dk_at dksX2_examine_1 21 rfl rfl)
theorem dX2_examine_46 : decode cX2_examine 46 = .ok (.ifCond .eq 12, 3) := dk_153 0 12 (dk_at dksX2_examine_2 0 rfl rfl)
theorem dX2_examine_49 : decode cX2_examine 49 = .ok (.aload_n 0, 1) := dk_42 (dk_at dksX2_examine_2 3 rfl rfl)
theorem dX2_examine_50 : decode cX2_examine 50 = .ok (.iload_n 1, 1) := dk_27 (dk_at dksX2_examine_2 4 rfl rfl)
theorem dX2_examine_51 : decode cX2_examine 51 = .ok (.invokevirtual 158, 3) := dk_182 0 158 (dk_at dksX2_examine_2 5 rfl rfl)
theorem dX2_examine_54 : decode cX2_examine 54 = .ok (.pop, 1) := dk_87 (dk_at dksX2_examine_2 8 rfl rfl)
theorem dX2_examine_55 : decode cX2_examine 55 = .ok (.goto 17, 3) := dk_167 0 17 (dk_at dksX2_examine_2 9 rfl rfl)
theorem dX2_examine_58 : decode cX2_examine 58 = .ok (.aload_n 0, 1) := dk_42 (dk_at dksX2_examine_2 12 rfl rfl)
theorem dX2_examine_59 : decode cX2_examine 59 = .ok (.getfield 20, 3) := dk_180 0 20 (dk_at dksX2_examine_2 13 rfl rfl)
theorem dX2_examine_62 : decode cX2_examine 62 = .ok (.iload_n 1, 1) := dk_27 (dk_at dksX2_examine_2 16 rfl rfl)
theorem dX2_examine_63 : decode cX2_examine 63 = .ok (.aload_n 2, 1) := dk_44 (dk_at dksX2_examine_2 17 rfl rfl)
theorem dX2_examine_64 : decode cX2_examine 64 = .ok (.iconst 1, 1) := dk_4 (dk_at dksX2_examine_2 18 rfl rfl)
theorem dX2_examine_65 : decode cX2_examine 65 = .ok (.iconst (-1), 1) := dk_2 (dk_at dksX2_examine_2 19 rfl rfl)
theorem dX2_examine_66 : decode cX2_examine 66 = .ok (.invokevirtual 141, 3) := dk_182 0 141 (dk_at dksX2_examine_2 20 rfl rfl)
theorem dX2_examine_69 : decode cX2_examine 69 = .ok (.invokevirtual 145, 3) := dk_182 0 145 (dk_at dksX2_examine_3 0 rfl rfl)
theorem dX2_examine_72 : decode cX2_examine 72 = .ok (.iload_n 3, 1) := dk_29 (dk_at dksX2_examine_3 3 rfl rfl)
theorem dX2_examine_73 : decode cX2_examine 73 = .ok (.ifCond .eq 7, 3) := dk_153 0 7 (dk_at dksX2_examine_3 4 rfl rfl)
theorem dX2_examine_76 : decode cX2_examine 76 = .ok (.iconst 2, 1) := dk_5 (dk_at dksX2_examine_3 7 rfl rfl)
theorem dX2_examine_77 : decode cX2_examine 77 = .ok (.goto 4, 3) := dk_167 0 4 (dk_at dksX2_examine_3 8 rfl rfl)
theorem dX2_examine_80 : decode cX2_examine 80 = .ok (.iconst 1, 1) := dk_4 (dk_at dksX2_examine_3 11 rfl rfl)
theorem dX2_examine_81 : decode cX2_examine 81 = .ok (.ireturn, 1) := dk_172 (dk_at dksX2_examine_3 12 rfl rfl)
abbrev cX2_honour : ByteArray := prog_6_method_12_code
def yX2_honour : MethodName := ⟨RX2, "honour", "(I)I"⟩
def dkwX2_honour_1 : List UInt8 := [5, 29, 182, 0, 141, 182, 0, 145, 29, 172]
abbrev dktX2_honour_1 : List UInt8 := dkwX2_honour_1 ++ []
def dkwX2_honour_0 : List UInt8 := [42, 180, 0, 20, 27, 182, 0, 50, 192, 0, 54, 77, 42, 44, 182, 0, 137, 62, 42, 180, 0, 20, 27, 44]
abbrev dktX2_honour_0 : List UInt8 := dkwX2_honour_0 ++ dktX2_honour_1
theorem dksX2_honour_0 : cX2_honour.data.toList.drop 0 = dktX2_honour_0 := by decide +kernel
theorem dksX2_honour_1 : cX2_honour.data.toList.drop 24 = dktX2_honour_1 := dk_seg dksX2_honour_0 24 rfl rfl
theorem dX2_honour_0 : decode cX2_honour 0 = .ok (.aload_n 0, 1) := dk_42 (dk_at dksX2_honour_0 0 rfl rfl)
theorem dX2_honour_1 : decode cX2_honour 1 = .ok (.getfield 20, 3) := dk_180 0 20 (dk_at dksX2_honour_0 1 rfl rfl)
theorem dX2_honour_4 : decode cX2_honour 4 = .ok (.iload_n 1, 1) := dk_27 (dk_at dksX2_honour_0 4 rfl rfl)
theorem dX2_honour_5 : decode cX2_honour 5 = .ok (.invokevirtual 50, 3) := dk_182 0 50 (dk_at dksX2_honour_0 5 rfl rfl)
theorem dX2_honour_8 : decode cX2_honour 8 = .ok (.checkcast 54, 3) := dk_192 0 54 (dk_at dksX2_honour_0 8 rfl rfl)
theorem dX2_honour_11 : decode cX2_honour 11 = .ok (.astore_n 2, 1) := dk_77 (dk_at dksX2_honour_0 11 rfl rfl)
theorem dX2_honour_12 : decode cX2_honour 12 = .ok (.aload_n 0, 1) := dk_42 (dk_at dksX2_honour_0 12 rfl rfl)
theorem dX2_honour_13 : decode cX2_honour 13 = .ok (.aload_n 2, 1) := dk_44 (dk_at dksX2_honour_0 13 rfl rfl)
theorem dX2_honour_14 : decode cX2_honour 14 = .ok (.invokevirtual 137, 3) := dk_182 0 137 (dk_at dksX2_honour_0 14 rfl rfl)
theorem dX2_honour_17 : decode cX2_honour 17 = .ok (.istore_n 3, 1) := dk_62 (dk_at dksX2_honour_0 17 rfl rfl)
theorem dX2_honour_18 : decode cX2_honour 18 = .ok (.aload_n 0, 1) := dk_42 (dk_at dksX2_honour_0 18 rfl rfl)
theorem dX2_honour_19 : decode cX2_honour 19 = .ok (.getfield 20, 3) := dk_180 0 20 (dk_at dksX2_honour_0 19 rfl rfl)
theorem dX2_honour_22 : decode cX2_honour 22 = .ok (.iload_n 1, 1) := dk_27 (dk_at dksX2_honour_0 22 rfl rfl)
theorem dX2_honour_23 : decode cX2_honour 23 = .ok (.aload_n 2, 1) := dk_44 (dk_at dksX2_honour_0 23 rfl rfl)
theorem dX2_honour_24 : decode cX2_honour 24 = .ok (.iconst 2, 1) := dk_5 (dk_at dksX2_honour_1 0 rfl rfl)
theorem dX2_honour_25 : decode cX2_honour 25 = .ok (.iload_n 3, 1) := dk_29 (dk_at dksX2_honour_1 1 rfl rfl)
theorem dX2_honour_26 : decode cX2_honour 26 = .ok (.invokevirtual 141, 3) := dk_182 0 141 (dk_at dksX2_honour_1 2 rfl rfl)
theorem dX2_honour_29 : decode cX2_honour 29 = .ok (.invokevirtual 145, 3) := dk_182 0 145 (dk_at dksX2_honour_1 5 rfl rfl)
theorem dX2_honour_32 : decode cX2_honour 32 = .ok (.iload_n 3, 1) := dk_29 (dk_at dksX2_honour_1 8 rfl rfl)
theorem dX2_honour_33 : decode cX2_honour 33 = .ok (.ireturn, 1) := dk_172 (dk_at dksX2_honour_1 9 rfl rfl)
abbrev cX2_dueFrom : ByteArray := prog_6_method_11_code
def yX2_dueFrom : MethodName := ⟨RX2, "dueFrom", "(LDocumentaryCreditDesk$Presentation;)I"⟩
def dkwX2_dueFrom_1 : List UInt8 := [180, 0, 134, 96, 182, 0, 88, 172]
abbrev dktX2_dueFrom_1 : List UInt8 := dkwX2_dueFrom_1 ++ []
def dkwX2_dueFrom_0 : List UInt8 := [42, 180, 0, 31, 42, 180, 0, 42, 42, 180, 0, 14, 43, 180, 0, 56, 182, 0, 50, 192, 0, 66]
abbrev dktX2_dueFrom_0 : List UInt8 := dkwX2_dueFrom_0 ++ dktX2_dueFrom_1
theorem dksX2_dueFrom_0 : cX2_dueFrom.data.toList.drop 0 = dktX2_dueFrom_0 := by decide +kernel
theorem dksX2_dueFrom_1 : cX2_dueFrom.data.toList.drop 22 = dktX2_dueFrom_1 := dk_seg dksX2_dueFrom_0 22 rfl rfl
theorem dX2_dueFrom_0 : decode cX2_dueFrom 0 = .ok (.aload_n 0, 1) := dk_42 (dk_at dksX2_dueFrom_0 0 rfl rfl)
theorem dX2_dueFrom_1 : decode cX2_dueFrom 1 = .ok (.getfield 31, 3) := dk_180 0 31 (dk_at dksX2_dueFrom_0 1 rfl rfl)
theorem dX2_dueFrom_4 : decode cX2_dueFrom 4 = .ok (.aload_n 0, 1) := dk_42 (dk_at dksX2_dueFrom_0 4 rfl rfl)
theorem dX2_dueFrom_5 : decode cX2_dueFrom 5 = .ok (.getfield 42, 3) := dk_180 0 42 (dk_at dksX2_dueFrom_0 5 rfl rfl)
theorem dX2_dueFrom_8 : decode cX2_dueFrom 8 = .ok (.aload_n 0, 1) := dk_42 (dk_at dksX2_dueFrom_0 8 rfl rfl)
theorem dX2_dueFrom_9 : decode cX2_dueFrom 9 = .ok (.getfield 14, 3) := dk_180 0 14 (dk_at dksX2_dueFrom_0 9 rfl rfl)
theorem dX2_dueFrom_12 : decode cX2_dueFrom 12 = .ok (.aload_n 1, 1) := dk_43 (dk_at dksX2_dueFrom_0 12 rfl rfl)
theorem dX2_dueFrom_13 : decode cX2_dueFrom 13 = .ok (.getfield 56, 3) := dk_180 0 56 (dk_at dksX2_dueFrom_0 13 rfl rfl)
theorem dX2_dueFrom_16 : decode cX2_dueFrom 16 = .ok (.invokevirtual 50, 3) := dk_182 0 50 (dk_at dksX2_dueFrom_0 16 rfl rfl)
theorem dX2_dueFrom_19 : decode cX2_dueFrom 19 = .ok (.checkcast 66, 3) := dk_192 0 66 (dk_at dksX2_dueFrom_0 19 rfl rfl)
theorem dX2_dueFrom_22 : decode cX2_dueFrom 22 = .ok (.getfield 134, 3) := dk_180 0 134 (dk_at dksX2_dueFrom_1 0 rfl rfl)
theorem dX2_dueFrom_25 : decode cX2_dueFrom 25 = .ok (.iadd, 1) := dk_96 (dk_at dksX2_dueFrom_1 3 rfl rfl)
theorem dX2_dueFrom_26 : decode cX2_dueFrom 26 = .ok (.invokevirtual 88, 3) := dk_182 0 88 (dk_at dksX2_dueFrom_1 4 rfl rfl)
theorem dX2_dueFrom_29 : decode cX2_dueFrom 29 = .ok (.ireturn, 1) := dk_172 (dk_at dksX2_dueFrom_1 7 rfl rfl)
theorem q71 : (Jvm.Cond.initialized "DocumentaryCreditDesk$Desk") ∈ lw_all := lw_g (lw_at lw_m1 4 rfl) rfl
theorem q137 : (Jvm.Cond.instantiable "DocumentaryCreditDesk$Desk" (5 : Nat)) ∈ lw_all := lw_g (lw_at lw_m1 70 rfl) rfl
theorem q154 : (Jvm.Cond.instanceMethod ({ cls := "DocumentaryCreditDesk$Desk", name := "<init>", desc := "(LDocumentaryCreditDesk$Calendar;)V" } : Jvm.MethodName)) ∈ lw_all := lw_g (lw_at lw_m1 87 rfl) rfl
theorem q155 : (Jvm.Cond.code ({ cls := "DocumentaryCreditDesk$Desk", name := "<init>", desc := "(LDocumentaryCreditDesk$Calendar;)V" } : Jvm.MethodName) prog_6_method_1_code (2 : Nat) (Option.none : Option Jvm.ClassFile.FieldType)) ∈ lw_all := lw_g (lw_at lw_m1 88 rfl) rfl
theorem q156 : (Jvm.Cond.methodLink "DocumentaryCreditDesk$Desk" (3 : Nat) ({ cls := "java/lang/Object", name := "<init>", desc := "()V" } : Jvm.MethodName)) ∈ lw_all := lw_g (lw_at lw_m1 89 rfl) rfl
theorem q157 : (Jvm.Cond.classLink "DocumentaryCreditDesk$Desk" (9 : Nat) "DocumentaryCreditDesk$Book") ∈ lw_all := lw_g (lw_at lw_m1 90 rfl) rfl
theorem q159 : (Jvm.Cond.methodLink "DocumentaryCreditDesk$Desk" (11 : Nat) ({ cls := "DocumentaryCreditDesk$Book", name := "<init>", desc := "(I)V" } : Jvm.MethodName)) ∈ lw_all := lw_g (lw_at lw_m1 92 rfl) rfl
theorem q193 : (Jvm.Cond.static ({ cls := "DocumentaryCreditDesk$Desk", name := "lambda$new$0", desc := "(JJJ)J" } : Jvm.MethodName)) ∈ lw_all := lw_g (lw_at lw_m1 126 rfl) rfl
theorem q194 : (Jvm.Cond.code ({ cls := "DocumentaryCreditDesk$Desk", name := "lambda$new$0", desc := "(JJJ)J" } : Jvm.MethodName) prog_6_method_16_code (6 : Nat) (Option.some Jvm.ClassFile.FieldType.long)) ∈ lw_all := lw_g (lw_at lw_m1 127 rfl) rfl
theorem q195 : (Jvm.Cond.constantLong "DocumentaryCreditDesk$Desk" (178 : Nat) (1000 : Int64)) ∈ lw_all := lw_g (lw_at lw_m1 128 rfl) rfl
theorem q196 : (Jvm.Cond.fieldLink "DocumentaryCreditDesk$Desk" (31 : Nat) "DocumentaryCreditDesk$Desk" "calendar" "LDocumentaryCreditDesk$Calendar;") ∈ lw_all := lw_g (lw_at lw_m1 129 rfl) rfl
theorem q198 : (Jvm.Cond.fieldLink "DocumentaryCreditDesk$Desk" (14 : Nat) "DocumentaryCreditDesk$Desk" "credits" "LDocumentaryCreditDesk$Book;") ∈ lw_all := lw_g (lw_at lw_m1 131 rfl) rfl
theorem q201 : (Jvm.Cond.fieldLink "DocumentaryCreditDesk$Desk" (20 : Nat) "DocumentaryCreditDesk$Desk" "presentations" "LDocumentaryCreditDesk$Book;") ∈ lw_all := lw_g (lw_at lw_m1 134 rfl) rfl
theorem q203 : (Jvm.Cond.fieldLink "DocumentaryCreditDesk$Desk" (27 : Nat) "DocumentaryCreditDesk$Desk" "fee" "LDocumentaryCreditDesk$Fee;") ∈ lw_all := lw_g (lw_at lw_m1 136 rfl) rfl
theorem q205 : (Jvm.Cond.fieldLink "DocumentaryCreditDesk$Desk" (42 : Nat) "DocumentaryCreditDesk$Desk" "today" "I") ∈ lw_all := lw_g (lw_at lw_m1 138 rfl) rfl
theorem q207 : (Jvm.Cond.laysFinal "DocumentaryCreditDesk$Desk" "DocumentaryCreditDesk$Desk" "calendar" "LDocumentaryCreditDesk$Calendar;") ∈ lw_all := lw_g (lw_at lw_m1 140 rfl) rfl
theorem q208 : (Jvm.Cond.soleField "DocumentaryCreditDesk$Desk" "calendar") ∈ lw_all := lw_g (lw_at lw_m1 141 rfl) rfl
theorem q209 : (Jvm.Cond.laysFinal "DocumentaryCreditDesk$Desk" "DocumentaryCreditDesk$Desk" "credits" "LDocumentaryCreditDesk$Book;") ∈ lw_all := lw_g (lw_at lw_m1 142 rfl) rfl
theorem q210 : (Jvm.Cond.soleField "DocumentaryCreditDesk$Desk" "credits") ∈ lw_all := lw_g (lw_at lw_m1 143 rfl) rfl
theorem q211 : (Jvm.Cond.laysFinal "DocumentaryCreditDesk$Desk" "DocumentaryCreditDesk$Desk" "presentations" "LDocumentaryCreditDesk$Book;") ∈ lw_all := lw_g (lw_at lw_m1 144 rfl) rfl
theorem q212 : (Jvm.Cond.soleField "DocumentaryCreditDesk$Desk" "presentations") ∈ lw_all := lw_g (lw_at lw_m1 145 rfl) rfl
theorem q213 : (Jvm.Cond.lays "DocumentaryCreditDesk$Desk" "DocumentaryCreditDesk$Desk" "fee" "LDocumentaryCreditDesk$Fee;") ∈ lw_all := lw_g (lw_at lw_m1 146 rfl) rfl
theorem q214 : (Jvm.Cond.soleField "DocumentaryCreditDesk$Desk" "fee") ∈ lw_all := lw_g (lw_at lw_m1 147 rfl) rfl
theorem q215 : (Jvm.Cond.lays "DocumentaryCreditDesk$Desk" "DocumentaryCreditDesk$Desk" "today" "I") ∈ lw_all := lw_g (lw_at lw_m1 148 rfl) rfl
theorem q216 : (Jvm.Cond.soleField "DocumentaryCreditDesk$Desk" "today") ∈ lw_all := lw_g (lw_at lw_m1 149 rfl) rfl
theorem q217 : (Jvm.Cond.superclass "DocumentaryCreditDesk$Desk" "java/lang/Object") ∈ lw_all := lw_g (lw_at lw_m1 150 rfl) rfl
theorem q343 : (Jvm.Cond.instanceMethod ({ cls := "DocumentaryCreditDesk$Desk", name := "drawn", desc := "(I)I" } : Jvm.MethodName)) ∈ lw_all := lw_g (lw_at lw_m2 36 rfl) rfl
theorem q344 : (Jvm.Cond.selects "DocumentaryCreditDesk$Desk" ({ cls := "DocumentaryCreditDesk$Desk", name := "drawn", desc := "(I)I" } : Jvm.MethodName) ({ cls := "DocumentaryCreditDesk$Desk", name := "drawn", desc := "(I)I" } : Jvm.MethodName)) ∈ lw_all := lw_g (lw_at lw_m2 37 rfl) rfl
theorem q345 : (Jvm.Cond.code ({ cls := "DocumentaryCreditDesk$Desk", name := "drawn", desc := "(I)I" } : Jvm.MethodName) prog_6_method_3_code (5 : Nat) (Option.some Jvm.ClassFile.FieldType.int)) ∈ lw_all := lw_g (lw_at lw_m2 38 rfl) rfl
theorem q346 : (Jvm.Cond.methodLink "DocumentaryCreditDesk$Desk" (46 : Nat) ({ cls := "DocumentaryCreditDesk$Book", name := "size", desc := "()I" } : Jvm.MethodName)) ∈ lw_all := lw_g (lw_at lw_m2 39 rfl) rfl
theorem q347 : (Jvm.Cond.methodLink "DocumentaryCreditDesk$Desk" (50 : Nat) ({ cls := "DocumentaryCreditDesk$Book", name := "get", desc := "(I)Ljava/lang/Object;" } : Jvm.MethodName)) ∈ lw_all := lw_g (lw_at lw_m2 40 rfl) rfl
theorem q348 : (Jvm.Cond.classLink "DocumentaryCreditDesk$Desk" (54 : Nat) "DocumentaryCreditDesk$Presentation") ∈ lw_all := lw_g (lw_at lw_m2 41 rfl) rfl
theorem q349 : (Jvm.Cond.methodLink "DocumentaryCreditDesk$Desk" (59 : Nat) ({ cls := "DocumentaryCreditDesk$Presentation", name := "isDrawing", desc := "()Z" } : Jvm.MethodName)) ∈ lw_all := lw_g (lw_at lw_m2 42 rfl) rfl
theorem q358 : (Jvm.Cond.instanceMethod ({ cls := "DocumentaryCreditDesk$Desk", name := "available", desc := "(I)I" } : Jvm.MethodName)) ∈ lw_all := lw_g (lw_at lw_m2 51 rfl) rfl
theorem q359 : (Jvm.Cond.selects "DocumentaryCreditDesk$Desk" ({ cls := "DocumentaryCreditDesk$Desk", name := "available", desc := "(I)I" } : Jvm.MethodName) ({ cls := "DocumentaryCreditDesk$Desk", name := "available", desc := "(I)I" } : Jvm.MethodName)) ∈ lw_all := lw_g (lw_at lw_m2 52 rfl) rfl
theorem q360 : (Jvm.Cond.code ({ cls := "DocumentaryCreditDesk$Desk", name := "available", desc := "(I)I" } : Jvm.MethodName) prog_6_method_5_code (2 : Nat) (Option.some Jvm.ClassFile.FieldType.int)) ∈ lw_all := lw_g (lw_at lw_m2 53 rfl) rfl
theorem q361 : (Jvm.Cond.classLink "DocumentaryCreditDesk$Desk" (66 : Nat) "DocumentaryCreditDesk$Credit") ∈ lw_all := lw_g (lw_at lw_m2 54 rfl) rfl
theorem q362 : (Jvm.Cond.methodLink "DocumentaryCreditDesk$Desk" (72 : Nat) ({ cls := "DocumentaryCreditDesk$Credit", name := "max", desc := "()I" } : Jvm.MethodName)) ∈ lw_all := lw_g (lw_at lw_m2 55 rfl) rfl
theorem q366 : (Jvm.Cond.methodLink "DocumentaryCreditDesk$Desk" (75 : Nat) ({ cls := "DocumentaryCreditDesk$Desk", name := "drawn", desc := "(I)I" } : Jvm.MethodName)) ∈ lw_all := lw_g (lw_at lw_m2 59 rfl) rfl
theorem q367 : (Jvm.Cond.methodLink "DocumentaryCreditDesk$Desk" (79 : Nat) ({ cls := "DocumentaryCreditDesk$Desk", name := "transferred", desc := "(I)I" } : Jvm.MethodName)) ∈ lw_all := lw_g (lw_at lw_m2 60 rfl) rfl
theorem q368 : (Jvm.Cond.instanceMethod ({ cls := "DocumentaryCreditDesk$Desk", name := "transferred", desc := "(I)I" } : Jvm.MethodName)) ∈ lw_all := lw_g (lw_at lw_m2 61 rfl) rfl
theorem q369 : (Jvm.Cond.selects "DocumentaryCreditDesk$Desk" ({ cls := "DocumentaryCreditDesk$Desk", name := "transferred", desc := "(I)I" } : Jvm.MethodName) ({ cls := "DocumentaryCreditDesk$Desk", name := "transferred", desc := "(I)I" } : Jvm.MethodName)) ∈ lw_all := lw_g (lw_at lw_m2 62 rfl) rfl
theorem q370 : (Jvm.Cond.code ({ cls := "DocumentaryCreditDesk$Desk", name := "transferred", desc := "(I)I" } : Jvm.MethodName) prog_6_method_4_code (4 : Nat) (Option.some Jvm.ClassFile.FieldType.int)) ∈ lw_all := lw_g (lw_at lw_m2 63 rfl) rfl
theorem q963 : (Jvm.Cond.fieldLinkNest "DocumentaryCreditDesk$Desk" (68 : Nat) "DocumentaryCreditDesk$Credit" "parent" "I" "DocumentaryCreditDesk") ∈ lw_tbl := lw_at lw_m4 176 rfl
theorem q966 : (Jvm.Cond.fieldLinkNest "DocumentaryCreditDesk$Desk" (71 : Nat) "DocumentaryCreditDesk$Credit" "amount" "I" "DocumentaryCreditDesk") ∈ lw_tbl := lw_at lw_m4 179 rfl
theorem q970 : (Jvm.Cond.fieldLinkNest "DocumentaryCreditDesk$Desk" (85 : Nat) "DocumentaryCreditDesk$Credit" "expiry" "I" "DocumentaryCreditDesk") ∈ lw_tbl := lw_at lw_m4 183 rfl
theorem q973 : (Jvm.Cond.fieldLinkNest "DocumentaryCreditDesk$Desk" (102 : Nat) "DocumentaryCreditDesk$Credit" "latest" "I" "DocumentaryCreditDesk") ∈ lw_tbl := lw_at lw_m4 186 rfl
theorem q975 : (Jvm.Cond.fieldLinkNest "DocumentaryCreditDesk$Desk" (93 : Nat) "DocumentaryCreditDesk$Credit" "period" "I" "DocumentaryCreditDesk") ∈ lw_tbl := lw_at lw_m4 188 rfl
theorem q977 : (Jvm.Cond.fieldLinkNest "DocumentaryCreditDesk$Desk" (134 : Nat) "DocumentaryCreditDesk$Credit" "tenor" "I" "DocumentaryCreditDesk") ∈ lw_tbl := lw_at lw_m4 190 rfl
theorem q979 : (Jvm.Cond.fieldLinkNest "DocumentaryCreditDesk$Desk" (125 : Nat) "DocumentaryCreditDesk$Credit" "needs" "I" "DocumentaryCreditDesk") ∈ lw_tbl := lw_at lw_m4 192 rfl
theorem q981 : (Jvm.Cond.fieldLinkNest "DocumentaryCreditDesk$Desk" (115 : Nat) "DocumentaryCreditDesk$Credit" "isPartial" "Z" "DocumentaryCreditDesk") ∈ lw_tbl := lw_at lw_m4 194 rfl
theorem q1045 : (Jvm.Cond.selects "DocumentaryCreditDesk$Desk" ({ cls := "java/lang/Object", name := "getClass", desc := "()Ljava/lang/Class;" } : Jvm.MethodName) ({ cls := "java/lang/Object", name := "getClass", desc := "()Ljava/lang/Class;" } : Jvm.MethodName)) ∈ lw_all := lw_g (lw_at lw_m5 18 rfl) rfl
theorem q1421 : (Jvm.Cond.instanceMethod ({ cls := "DocumentaryCreditDesk$Desk", name := "deadline", desc := "(LDocumentaryCreditDesk$Presentation;)I" } : Jvm.MethodName)) ∈ lw_all := lw_g (lw_at lw_m6 154 rfl) rfl
theorem q1422 : (Jvm.Cond.selects "DocumentaryCreditDesk$Desk" ({ cls := "DocumentaryCreditDesk$Desk", name := "deadline", desc := "(LDocumentaryCreditDesk$Presentation;)I" } : Jvm.MethodName) ({ cls := "DocumentaryCreditDesk$Desk", name := "deadline", desc := "(LDocumentaryCreditDesk$Presentation;)I" } : Jvm.MethodName)) ∈ lw_all := lw_g (lw_at lw_m6 155 rfl) rfl
theorem q1423 : (Jvm.Cond.code ({ cls := "DocumentaryCreditDesk$Desk", name := "deadline", desc := "(LDocumentaryCreditDesk$Presentation;)I" } : Jvm.MethodName) prog_6_method_10_code (2 : Nat) (Option.some Jvm.ClassFile.FieldType.int)) ∈ lw_all := lw_g (lw_at lw_m6 156 rfl) rfl
theorem q1424 : (Jvm.Cond.methodLink "DocumentaryCreditDesk$Desk" (131 : Nat) ({ cls := "DocumentaryCreditDesk$Calendar", name := "add", desc := "(II)I" } : Jvm.MethodName)) ∈ lw_all := lw_g (lw_at lw_m6 157 rfl) rfl
theorem q1440 : (Jvm.Cond.instanceMethod ({ cls := "DocumentaryCreditDesk$Desk", name := "feeOf", desc := "(LDocumentaryCreditDesk$Presentation;)I" } : Jvm.MethodName)) ∈ lw_all := lw_g (lw_at lw_m6 173 rfl) rfl
theorem q1441 : (Jvm.Cond.selects "DocumentaryCreditDesk$Desk" ({ cls := "DocumentaryCreditDesk$Desk", name := "feeOf", desc := "(LDocumentaryCreditDesk$Presentation;)I" } : Jvm.MethodName) ({ cls := "DocumentaryCreditDesk$Desk", name := "feeOf", desc := "(LDocumentaryCreditDesk$Presentation;)I" } : Jvm.MethodName)) ∈ lw_all := lw_g (lw_at lw_m6 174 rfl) rfl
theorem q1442 : (Jvm.Cond.code ({ cls := "DocumentaryCreditDesk$Desk", name := "feeOf", desc := "(LDocumentaryCreditDesk$Presentation;)I" } : Jvm.MethodName) prog_6_method_14_code (2 : Nat) (Option.some Jvm.ClassFile.FieldType.int)) ∈ lw_all := lw_g (lw_at lw_m6 175 rfl) rfl
theorem q1443 : (Jvm.Cond.constantLong "DocumentaryCreditDesk$Desk" (161 : Nat) (999999 : Int64)) ∈ lw_all := lw_g (lw_at lw_m6 176 rfl) rfl
theorem q1444 : (Jvm.Cond.methodLink "DocumentaryCreditDesk$Desk" (163 : Nat) ({ cls := "java/lang/Integer", name := "bitCount", desc := "(I)I" } : Jvm.MethodName)) ∈ lw_all := lw_g (lw_at lw_m6 177 rfl) rfl
theorem q1450 : (Jvm.Cond.interfaceEntry "DocumentaryCreditDesk$Desk" (168 : Nat)) ∈ lw_tbl := lw_at lw_m6 183 rfl
theorem q1451 : (Jvm.Cond.methodLink "DocumentaryCreditDesk$Desk" (168 : Nat) ({ cls := "DocumentaryCreditDesk$Fee", name := "of", desc := "(JJJ)J" } : Jvm.MethodName)) ∈ lw_all := lw_g (lw_at lw_m6 184 rfl) rfl
theorem q1452 : (Jvm.Cond.methodLink "DocumentaryCreditDesk$Desk" (173 : Nat) ({ cls := "java/lang/Math", name := "min", desc := "(JJ)J" } : Jvm.MethodName)) ∈ lw_all := lw_g (lw_at lw_m6 185 rfl) rfl
theorem q1453 : (Jvm.Cond.methodLink "DocumentaryCreditDesk$Desk" (176 : Nat) ({ cls := "java/lang/Math", name := "max", desc := "(JJ)J" } : Jvm.MethodName)) ∈ lw_all := lw_g (lw_at lw_m6 186 rfl) rfl
theorem q1468 : (Jvm.Cond.instanceMethod ({ cls := "DocumentaryCreditDesk$Desk", name := "check", desc := "(IIIII)I" } : Jvm.MethodName)) ∈ lw_all := lw_g (lw_at lw_m6 201 rfl) rfl
theorem q1469 : (Jvm.Cond.selects "DocumentaryCreditDesk$Desk" ({ cls := "DocumentaryCreditDesk$Desk", name := "check", desc := "(IIIII)I" } : Jvm.MethodName) ({ cls := "DocumentaryCreditDesk$Desk", name := "check", desc := "(IIIII)I" } : Jvm.MethodName)) ∈ lw_all := lw_g (lw_at lw_m6 202 rfl) rfl
theorem q1470 : (Jvm.Cond.code ({ cls := "DocumentaryCreditDesk$Desk", name := "check", desc := "(IIIII)I" } : Jvm.MethodName) prog_6_method_9_code (8 : Nat) (Option.some Jvm.ClassFile.FieldType.int)) ∈ lw_all := lw_g (lw_at lw_m6 203 rfl) rfl
theorem q1471 : (Jvm.Cond.methodLink "DocumentaryCreditDesk$Desk" (105 : Nat) ({ cls := "DocumentaryCreditDesk$Desk", name := "bit", desc := "(ZI)I" } : Jvm.MethodName)) ∈ lw_all := lw_g (lw_at lw_m6 204 rfl) rfl
theorem q1472 : (Jvm.Cond.static ({ cls := "DocumentaryCreditDesk$Desk", name := "bit", desc := "(ZI)I" } : Jvm.MethodName)) ∈ lw_all := lw_g (lw_at lw_m6 205 rfl) rfl
theorem q1473 : (Jvm.Cond.code ({ cls := "DocumentaryCreditDesk$Desk", name := "bit", desc := "(ZI)I" } : Jvm.MethodName) prog_6_method_8_code (2 : Nat) (Option.some Jvm.ClassFile.FieldType.int)) ∈ lw_all := lw_g (lw_at lw_m6 206 rfl) rfl
theorem q1474 : (Jvm.Cond.methodLink "DocumentaryCreditDesk$Desk" (109 : Nat) ({ cls := "DocumentaryCreditDesk$Desk", name := "lastDay", desc := "(II)I" } : Jvm.MethodName)) ∈ lw_all := lw_g (lw_at lw_m6 207 rfl) rfl
theorem q1475 : (Jvm.Cond.instanceMethod ({ cls := "DocumentaryCreditDesk$Desk", name := "lastDay", desc := "(II)I" } : Jvm.MethodName)) ∈ lw_all := lw_g (lw_at lw_m6 208 rfl) rfl
theorem q1476 : (Jvm.Cond.selects "DocumentaryCreditDesk$Desk" ({ cls := "DocumentaryCreditDesk$Desk", name := "lastDay", desc := "(II)I" } : Jvm.MethodName) ({ cls := "DocumentaryCreditDesk$Desk", name := "lastDay", desc := "(II)I" } : Jvm.MethodName)) ∈ lw_all := lw_g (lw_at lw_m6 209 rfl) rfl
theorem q1477 : (Jvm.Cond.code ({ cls := "DocumentaryCreditDesk$Desk", name := "lastDay", desc := "(II)I" } : Jvm.MethodName) prog_6_method_7_code (4 : Nat) (Option.some Jvm.ClassFile.FieldType.int)) ∈ lw_all := lw_g (lw_at lw_m6 210 rfl) rfl
theorem q1478 : (Jvm.Cond.methodLink "DocumentaryCreditDesk$Desk" (88 : Nat) ({ cls := "DocumentaryCreditDesk$Calendar", name := "extended", desc := "(I)I" } : Jvm.MethodName)) ∈ lw_all := lw_g (lw_at lw_m6 211 rfl) rfl
theorem q1479 : (Jvm.Cond.methodLink "DocumentaryCreditDesk$Desk" (96 : Nat) ({ cls := "java/lang/Math", name := "min", desc := "(II)I" } : Jvm.MethodName)) ∈ lw_all := lw_g (lw_at lw_m6 212 rfl) rfl
theorem q1480 : (Jvm.Cond.methodLink "DocumentaryCreditDesk$Desk" (112 : Nat) ({ cls := "DocumentaryCreditDesk$Desk", name := "available", desc := "(I)I" } : Jvm.MethodName)) ∈ lw_all := lw_g (lw_at lw_m6 213 rfl) rfl
theorem q1481 : (Jvm.Cond.methodLink "DocumentaryCreditDesk$Desk" (119 : Nat) ({ cls := "DocumentaryCreditDesk$Credit", name := "min", desc := "()I" } : Jvm.MethodName)) ∈ lw_all := lw_g (lw_at lw_m6 214 rfl) rfl
theorem q1482 : (Jvm.Cond.methodLink "DocumentaryCreditDesk$Desk" (121 : Nat) ({ cls := "DocumentaryCreditDesk$Desk", name := "hasPresentation", desc := "(I)Z" } : Jvm.MethodName)) ∈ lw_all := lw_g (lw_at lw_m6 215 rfl) rfl
theorem q1483 : (Jvm.Cond.privateMethod ({ cls := "DocumentaryCreditDesk$Desk", name := "hasPresentation", desc := "(I)Z" } : Jvm.MethodName)) ∈ lw_tbl := lw_at lw_m6 216 rfl
theorem q1484 : (Jvm.Cond.instanceMethod ({ cls := "DocumentaryCreditDesk$Desk", name := "hasPresentation", desc := "(I)Z" } : Jvm.MethodName)) ∈ lw_all := lw_g (lw_at lw_m6 217 rfl) rfl
theorem q1485 : (Jvm.Cond.code ({ cls := "DocumentaryCreditDesk$Desk", name := "hasPresentation", desc := "(I)Z" } : Jvm.MethodName) prog_6_method_6_code (3 : Nat) (Option.some Jvm.ClassFile.FieldType.boolean)) ∈ lw_all := lw_g (lw_at lw_m6 218 rfl) rfl
theorem q1502 : (Jvm.Cond.instanceMethod ({ cls := "DocumentaryCreditDesk$Desk", name := "bestFit", desc := "(I)I" } : Jvm.MethodName)) ∈ lw_all := lw_g (lw_at lw_m6 235 rfl) rfl
theorem q1503 : (Jvm.Cond.selects "DocumentaryCreditDesk$Desk" ({ cls := "DocumentaryCreditDesk$Desk", name := "bestFit", desc := "(I)I" } : Jvm.MethodName) ({ cls := "DocumentaryCreditDesk$Desk", name := "bestFit", desc := "(I)I" } : Jvm.MethodName)) ∈ lw_all := lw_g (lw_at lw_m6 236 rfl) rfl
theorem q1504 : (Jvm.Cond.code ({ cls := "DocumentaryCreditDesk$Desk", name := "bestFit", desc := "(I)I" } : Jvm.MethodName) prog_6_method_15_code (10 : Nat) (Option.some Jvm.ClassFile.FieldType.int)) ∈ lw_all := lw_g (lw_at lw_m6 237 rfl) rfl
theorem q1527 : (Jvm.Cond.instanceMethod ({ cls := "DocumentaryCreditDesk$Desk", name := "copy", desc := "()LDocumentaryCreditDesk$Desk;" } : Jvm.MethodName)) ∈ lw_all := lw_g (lw_at lw_m7 20 rfl) rfl
theorem q1528 : (Jvm.Cond.selects "DocumentaryCreditDesk$Desk" ({ cls := "DocumentaryCreditDesk$Desk", name := "copy", desc := "()LDocumentaryCreditDesk$Desk;" } : Jvm.MethodName) ({ cls := "DocumentaryCreditDesk$Desk", name := "copy", desc := "()LDocumentaryCreditDesk$Desk;" } : Jvm.MethodName)) ∈ lw_all := lw_g (lw_at lw_m7 21 rfl) rfl
theorem q1529 : (Jvm.Cond.code ({ cls := "DocumentaryCreditDesk$Desk", name := "copy", desc := "()LDocumentaryCreditDesk$Desk;" } : Jvm.MethodName) prog_6_method_2_code (2 : Nat) (Option.some (Jvm.ClassFile.FieldType.object "DocumentaryCreditDesk$Desk"))) ∈ lw_all := lw_g (lw_at lw_m7 22 rfl) rfl
theorem q1530 : (Jvm.Cond.classLink "DocumentaryCreditDesk$Desk" (15 : Nat) "DocumentaryCreditDesk$Desk") ∈ lw_all := lw_g (lw_at lw_m7 23 rfl) rfl
theorem q1531 : (Jvm.Cond.methodLink "DocumentaryCreditDesk$Desk" (35 : Nat) ({ cls := "DocumentaryCreditDesk$Desk", name := "<init>", desc := "(LDocumentaryCreditDesk$Calendar;)V" } : Jvm.MethodName)) ∈ lw_all := lw_g (lw_at lw_m7 24 rfl) rfl
theorem q1532 : (Jvm.Cond.methodLink "DocumentaryCreditDesk$Desk" (38 : Nat) ({ cls := "DocumentaryCreditDesk$Book", name := "addAll", desc := "(LDocumentaryCreditDesk$Book;)V" } : Jvm.MethodName)) ∈ lw_all := lw_g (lw_at lw_m7 25 rfl) rfl
theorem q1544 : (Jvm.Cond.fieldLinkNest "DocumentaryCreditDesk$Desk" (56 : Nat) "DocumentaryCreditDesk$Presentation" "credit" "I" "DocumentaryCreditDesk") ∈ lw_tbl := lw_at lw_m7 37 rfl
theorem q1547 : (Jvm.Cond.fieldLinkNest "DocumentaryCreditDesk$Desk" (128 : Nat) "DocumentaryCreditDesk$Presentation" "made" "I" "DocumentaryCreditDesk") ∈ lw_tbl := lw_at lw_m7 40 rfl
theorem q1549 : (Jvm.Cond.fieldLinkNest "DocumentaryCreditDesk$Desk" (63 : Nat) "DocumentaryCreditDesk$Presentation" "amount" "I" "DocumentaryCreditDesk") ∈ lw_tbl := lw_at lw_m7 42 rfl
theorem q1552 : (Jvm.Cond.fieldLinkNest "DocumentaryCreditDesk$Desk" (149 : Nat) "DocumentaryCreditDesk$Presentation" "discrepancies" "I" "DocumentaryCreditDesk") ∈ lw_tbl := lw_at lw_m7 45 rfl
theorem q1555 : (Jvm.Cond.fieldLinkNest "DocumentaryCreditDesk$Desk" (82 : Nat) "DocumentaryCreditDesk$Presentation" "state" "I" "DocumentaryCreditDesk") ∈ lw_tbl := lw_at lw_m7 48 rfl
theorem q1581 : (Jvm.Cond.instanceMethod ({ cls := "DocumentaryCreditDesk$Desk", name := "examine", desc := "(I)I" } : Jvm.MethodName)) ∈ lw_all := lw_g (lw_at lw_m7 74 rfl) rfl
theorem q1582 : (Jvm.Cond.selects "DocumentaryCreditDesk$Desk" ({ cls := "DocumentaryCreditDesk$Desk", name := "examine", desc := "(I)I" } : Jvm.MethodName) ({ cls := "DocumentaryCreditDesk$Desk", name := "examine", desc := "(I)I" } : Jvm.MethodName)) ∈ lw_all := lw_g (lw_at lw_m7 75 rfl) rfl
theorem q1583 : (Jvm.Cond.code ({ cls := "DocumentaryCreditDesk$Desk", name := "examine", desc := "(I)I" } : Jvm.MethodName) prog_6_method_13_code (4 : Nat) (Option.some Jvm.ClassFile.FieldType.int)) ∈ lw_all := lw_g (lw_at lw_m7 76 rfl) rfl
theorem q1584 : (Jvm.Cond.methodLink "DocumentaryCreditDesk$Desk" (152 : Nat) ({ cls := "DocumentaryCreditDesk$Presentation", name := "has", desc := "(I)Z" } : Jvm.MethodName)) ∈ lw_all := lw_g (lw_at lw_m7 77 rfl) rfl
theorem q1585 : (Jvm.Cond.methodLink "DocumentaryCreditDesk$Desk" (155 : Nat) ({ cls := "DocumentaryCreditDesk$Desk", name := "deadline", desc := "(LDocumentaryCreditDesk$Presentation;)I" } : Jvm.MethodName)) ∈ lw_all := lw_g (lw_at lw_m7 78 rfl) rfl
theorem q1586 : (Jvm.Cond.methodLink "DocumentaryCreditDesk$Desk" (158 : Nat) ({ cls := "DocumentaryCreditDesk$Desk", name := "honour", desc := "(I)I" } : Jvm.MethodName)) ∈ lw_all := lw_g (lw_at lw_m7 79 rfl) rfl
theorem q1587 : (Jvm.Cond.instanceMethod ({ cls := "DocumentaryCreditDesk$Desk", name := "honour", desc := "(I)I" } : Jvm.MethodName)) ∈ lw_all := lw_g (lw_at lw_m7 80 rfl) rfl
theorem q1588 : (Jvm.Cond.selects "DocumentaryCreditDesk$Desk" ({ cls := "DocumentaryCreditDesk$Desk", name := "honour", desc := "(I)I" } : Jvm.MethodName) ({ cls := "DocumentaryCreditDesk$Desk", name := "honour", desc := "(I)I" } : Jvm.MethodName)) ∈ lw_all := lw_g (lw_at lw_m7 81 rfl) rfl
theorem q1589 : (Jvm.Cond.code ({ cls := "DocumentaryCreditDesk$Desk", name := "honour", desc := "(I)I" } : Jvm.MethodName) prog_6_method_12_code (4 : Nat) (Option.some Jvm.ClassFile.FieldType.int)) ∈ lw_all := lw_g (lw_at lw_m7 82 rfl) rfl
theorem q1590 : (Jvm.Cond.methodLink "DocumentaryCreditDesk$Desk" (137 : Nat) ({ cls := "DocumentaryCreditDesk$Desk", name := "dueFrom", desc := "(LDocumentaryCreditDesk$Presentation;)I" } : Jvm.MethodName)) ∈ lw_all := lw_g (lw_at lw_m7 83 rfl) rfl
theorem q1591 : (Jvm.Cond.privateMethod ({ cls := "DocumentaryCreditDesk$Desk", name := "dueFrom", desc := "(LDocumentaryCreditDesk$Presentation;)I" } : Jvm.MethodName)) ∈ lw_tbl := lw_at lw_m7 84 rfl
theorem q1592 : (Jvm.Cond.instanceMethod ({ cls := "DocumentaryCreditDesk$Desk", name := "dueFrom", desc := "(LDocumentaryCreditDesk$Presentation;)I" } : Jvm.MethodName)) ∈ lw_all := lw_g (lw_at lw_m7 85 rfl) rfl
theorem q1593 : (Jvm.Cond.code ({ cls := "DocumentaryCreditDesk$Desk", name := "dueFrom", desc := "(LDocumentaryCreditDesk$Presentation;)I" } : Jvm.MethodName) prog_6_method_11_code (2 : Nat) (Option.some Jvm.ClassFile.FieldType.int)) ∈ lw_all := lw_g (lw_at lw_m7 86 rfl) rfl
theorem q1594 : (Jvm.Cond.methodLink "DocumentaryCreditDesk$Desk" (141 : Nat) ({ cls := "DocumentaryCreditDesk$Presentation", name := "in", desc := "(II)LDocumentaryCreditDesk$Presentation;" } : Jvm.MethodName)) ∈ lw_all := lw_g (lw_at lw_m7 87 rfl) rfl
theorem q1600 : (Jvm.Cond.methodLink "DocumentaryCreditDesk$Desk" (145 : Nat) ({ cls := "DocumentaryCreditDesk$Book", name := "set", desc := "(ILjava/lang/Object;)V" } : Jvm.MethodName)) ∈ lw_all := lw_g (lw_at lw_m7 93 rfl) rfl
theorem q2064 : (Jvm.Cond.castable "DocumentaryCreditDesk$Desk" "java/lang/Object") ∈ lw_tbl := lw_at lw_m9 77 rfl
theorem in_X2 : ∀ w ∈ wsX20, w ∈ lw_all := lw_in wsX20 [207, 209, 211, 213, 215] (by decide +kernel) (by decide +kernel)
/-! DocumentaryCreditDesk$Calendar -/
set_option maxRecDepth 100000
def RX3 : String := "DocumentaryCreditDesk$Calendar"
def TX3 : u_T := fun k => match k with
  | 0 => ("DocumentaryCreditDesk$Calendar", "holidays", "[I", true)
  | _ => ("DocumentaryCreditDesk$Calendar", "count", "I", false)
def tyX3 : Nat → FieldType := fun k => match k with
  | 0 => .array .int
  | _ => .int
abbrev wsX30 : List Cond := u_ws RX3 TX3 2
theorem nmX3 : ∀ a, a < 2 → ∀ b, b < 2 → a ≠ b → (TX3 a).2.1 ≠ (TX3 b).2.1 := by decide +kernel
theorem tyX3_ok : ∀ k, k < 2 → parseFieldDescriptor (TX3 k).2.2.1 = some (tyX3 k) := by decide +kernel
abbrev cX3_init : ByteArray := prog_3_method_1_code
def yX3_init : MethodName := ⟨RX3, "<init>", "()V"⟩
def dkwX3_init_0 : List UInt8 := [42, 183, 0, 3, 42, 16, 16, 188, 10, 181, 0, 9, 177]
abbrev dktX3_init_0 : List UInt8 := dkwX3_init_0 ++ []
theorem dksX3_init_0 : cX3_init.data.toList.drop 0 = dktX3_init_0 := by decide +kernel
theorem dX3_init_0 : decode cX3_init 0 = .ok (.aload_n 0, 1) := dk_42 (dk_at dksX3_init_0 0 rfl rfl)
theorem dX3_init_1 : decode cX3_init 1 = .ok (.invokespecial 3, 3) := dk_183 0 3 (dk_at dksX3_init_0 1 rfl rfl)
theorem dX3_init_4 : decode cX3_init 4 = .ok (.aload_n 0, 1) := dk_42 (dk_at dksX3_init_0 4 rfl rfl)
theorem dX3_init_5 : decode cX3_init 5 = .ok (.bipush 16, 2) := dk_16 16 (dk_at dksX3_init_0 5 rfl rfl)
theorem dX3_init_7 : decode cX3_init 7 = .ok (.newarray .int, 2) := dk_188_10 (dk_at dksX3_init_0 7 rfl rfl)
theorem dX3_init_9 : decode cX3_init 9 = .ok (.putfield 9, 3) := dk_181 0 9 (dk_at dksX3_init_0 9 rfl rfl)
theorem dX3_init_12 : decode cX3_init 12 = .ok (.return_, 1) := dk_177 (dk_at dksX3_init_0 12 rfl rfl)
abbrev cX3_isHoliday : ByteArray := prog_3_method_2_code
def yX3_isHoliday : MethodName := ⟨RX3, "isHoliday", "(I)Z"⟩
def dkwX3_isHoliday_1 : List UInt8 := [132, 2, 1, 167, 255, 233, 3, 172]
abbrev dktX3_isHoliday_1 : List UInt8 := dkwX3_isHoliday_1 ++ []
def dkwX3_isHoliday_0 : List UInt8 := [3, 61, 28, 42, 180, 0, 15, 162, 0, 21, 42, 180, 0, 9, 28, 46, 27, 160, 0, 5, 4, 172]
abbrev dktX3_isHoliday_0 : List UInt8 := dkwX3_isHoliday_0 ++ dktX3_isHoliday_1
theorem dksX3_isHoliday_0 : cX3_isHoliday.data.toList.drop 0 = dktX3_isHoliday_0 := by decide +kernel
theorem dksX3_isHoliday_1 : cX3_isHoliday.data.toList.drop 22 = dktX3_isHoliday_1 := dk_seg dksX3_isHoliday_0 22 rfl rfl
theorem dX3_isHoliday_0 : decode cX3_isHoliday 0 = .ok (.iconst 0, 1) := dk_3 (dk_at dksX3_isHoliday_0 0 rfl rfl)
theorem dX3_isHoliday_1 : decode cX3_isHoliday 1 = .ok (.istore_n 2, 1) := dk_61 (dk_at dksX3_isHoliday_0 1 rfl rfl)
theorem dX3_isHoliday_2 : decode cX3_isHoliday 2 = .ok (.iload_n 2, 1) := dk_28 (dk_at dksX3_isHoliday_0 2 rfl rfl)
theorem dX3_isHoliday_3 : decode cX3_isHoliday 3 = .ok (.aload_n 0, 1) := dk_42 (dk_at dksX3_isHoliday_0 3 rfl rfl)
theorem dX3_isHoliday_4 : decode cX3_isHoliday 4 = .ok (.getfield 15, 3) := dk_180 0 15 (dk_at dksX3_isHoliday_0 4 rfl rfl)
theorem dX3_isHoliday_7 : decode cX3_isHoliday 7 = .ok (.if_icmp .ge 21, 3) := dk_162 0 21 (dk_at dksX3_isHoliday_0 7 rfl rfl)
theorem dX3_isHoliday_10 : decode cX3_isHoliday 10 = .ok (.aload_n 0, 1) := dk_42 (dk_at dksX3_isHoliday_0 10 rfl rfl)
theorem dX3_isHoliday_11 : decode cX3_isHoliday 11 = .ok (.getfield 9, 3) := dk_180 0 9 (dk_at dksX3_isHoliday_0 11 rfl rfl)
theorem dX3_isHoliday_14 : decode cX3_isHoliday 14 = .ok (.iload_n 2, 1) := dk_28 (dk_at dksX3_isHoliday_0 14 rfl rfl)
theorem dX3_isHoliday_15 : decode cX3_isHoliday 15 = .ok (.iaload, 1) := dk_46 (dk_at dksX3_isHoliday_0 15 rfl rfl)
theorem dX3_isHoliday_16 : decode cX3_isHoliday 16 = .ok (.iload_n 1, 1) := dk_27 (dk_at dksX3_isHoliday_0 16 rfl rfl)
theorem dX3_isHoliday_17 : decode cX3_isHoliday 17 = .ok (.if_icmp .ne 5, 3) := dk_160 0 5 (dk_at dksX3_isHoliday_0 17 rfl rfl)
theorem dX3_isHoliday_20 : decode cX3_isHoliday 20 = .ok (.iconst 1, 1) := dk_4 (dk_at dksX3_isHoliday_0 20 rfl rfl)
theorem dX3_isHoliday_21 : decode cX3_isHoliday 21 = .ok (.ireturn, 1) := dk_172 (dk_at dksX3_isHoliday_0 21 rfl rfl)
theorem dX3_isHoliday_22 : decode cX3_isHoliday 22 = .ok (.iinc 2 1, 3) := dk_132 2 1 (dk_at dksX3_isHoliday_1 0 rfl rfl)
theorem dX3_isHoliday_25 : decode cX3_isHoliday 25 = .ok (.goto (-23), 3) := dk_167 255 233 (dk_at dksX3_isHoliday_1 3 rfl rfl)
theorem dX3_isHoliday_28 : decode cX3_isHoliday 28 = .ok (.iconst 0, 1) := dk_3 (dk_at dksX3_isHoliday_1 6 rfl rfl)
theorem dX3_isHoliday_29 : decode cX3_isHoliday 29 = .ok (.ireturn, 1) := dk_172 (dk_at dksX3_isHoliday_1 7 rfl rfl)
abbrev cX3_add : ByteArray := prog_3_method_3_code
def yX3_add : MethodName := ⟨RX3, "add", "(I)V"⟩
def dkwX3_add_0 : List UInt8 := [42, 180, 0, 9, 42, 180, 0, 15, 27, 79, 42, 89, 180, 0, 15, 4, 96, 181, 0, 15, 177]
abbrev dktX3_add_0 : List UInt8 := dkwX3_add_0 ++ []
theorem dksX3_add_0 : cX3_add.data.toList.drop 0 = dktX3_add_0 := by decide +kernel
theorem dX3_add_0 : decode cX3_add 0 = .ok (.aload_n 0, 1) := dk_42 (dk_at dksX3_add_0 0 rfl rfl)
theorem dX3_add_1 : decode cX3_add 1 = .ok (.getfield 9, 3) := dk_180 0 9 (dk_at dksX3_add_0 1 rfl rfl)
theorem dX3_add_4 : decode cX3_add 4 = .ok (.aload_n 0, 1) := dk_42 (dk_at dksX3_add_0 4 rfl rfl)
theorem dX3_add_5 : decode cX3_add 5 = .ok (.getfield 15, 3) := dk_180 0 15 (dk_at dksX3_add_0 5 rfl rfl)
theorem dX3_add_8 : decode cX3_add 8 = .ok (.iload_n 1, 1) := dk_27 (dk_at dksX3_add_0 8 rfl rfl)
theorem dX3_add_9 : decode cX3_add 9 = .ok (.iastore, 1) := dk_79 (dk_at dksX3_add_0 9 rfl rfl)
theorem dX3_add_10 : decode cX3_add 10 = .ok (.aload_n 0, 1) := dk_42 (dk_at dksX3_add_0 10 rfl rfl)
theorem dX3_add_11 : decode cX3_add 11 = .ok (.dup, 1) := dk_89 (dk_at dksX3_add_0 11 rfl rfl)
theorem dX3_add_12 : decode cX3_add 12 = .ok (.getfield 15, 3) := dk_180 0 15 (dk_at dksX3_add_0 12 rfl rfl)
theorem dX3_add_15 : decode cX3_add 15 = .ok (.iconst 1, 1) := dk_4 (dk_at dksX3_add_0 15 rfl rfl)
theorem dX3_add_16 : decode cX3_add 16 = .ok (.iadd, 1) := dk_96 (dk_at dksX3_add_0 16 rfl rfl)
theorem dX3_add_17 : decode cX3_add 17 = .ok (.putfield 15, 3) := dk_181 0 15 (dk_at dksX3_add_0 17 rfl rfl)
theorem dX3_add_20 : decode cX3_add 20 = .ok (.return_, 1) := dk_177 (dk_at dksX3_add_0 20 rfl rfl)
abbrev cX3_isBusinessDay : ByteArray := prog_3_method_4_code
def yX3_isBusinessDay : MethodName := ⟨RX3, "isBusinessDay", "(I)Z"⟩
def dkwX3_isBusinessDay_0 : List UInt8 := [27, 16, 7, 112, 8, 162, 0, 15, 42, 27, 182, 0, 19, 154, 0, 7, 4, 167, 0, 4, 3, 172]
abbrev dktX3_isBusinessDay_0 : List UInt8 := dkwX3_isBusinessDay_0 ++ []
theorem dksX3_isBusinessDay_0 : cX3_isBusinessDay.data.toList.drop 0 = dktX3_isBusinessDay_0 := by decide +kernel
theorem dX3_isBusinessDay_0 : decode cX3_isBusinessDay 0 = .ok (.iload_n 1, 1) := dk_27 (dk_at dksX3_isBusinessDay_0 0 rfl rfl)
theorem dX3_isBusinessDay_1 : decode cX3_isBusinessDay 1 = .ok (.bipush 7, 2) := dk_16 7 (dk_at dksX3_isBusinessDay_0 1 rfl rfl)
theorem dX3_isBusinessDay_3 : decode cX3_isBusinessDay 3 = .ok (.irem, 1) := dk_112 (dk_at dksX3_isBusinessDay_0 3 rfl rfl)
theorem dX3_isBusinessDay_4 : decode cX3_isBusinessDay 4 = .ok (.iconst 5, 1) := dk_8 (dk_at dksX3_isBusinessDay_0 4 rfl rfl)
theorem dX3_isBusinessDay_5 : decode cX3_isBusinessDay 5 = .ok (.if_icmp .ge 15, 3) := dk_162 0 15 (dk_at dksX3_isBusinessDay_0 5 rfl rfl)
theorem dX3_isBusinessDay_8 : decode cX3_isBusinessDay 8 = .ok (.aload_n 0, 1) := dk_42 (dk_at dksX3_isBusinessDay_0 8 rfl rfl)
theorem dX3_isBusinessDay_9 : decode cX3_isBusinessDay 9 = .ok (.iload_n 1, 1) := dk_27 (dk_at dksX3_isBusinessDay_0 9 rfl rfl)
theorem dX3_isBusinessDay_10 : decode cX3_isBusinessDay 10 = .ok (.invokevirtual 19, 3) := dk_182 0 19 (dk_at dksX3_isBusinessDay_0 10 rfl rfl)
theorem dX3_isBusinessDay_13 : decode cX3_isBusinessDay 13 = .ok (.ifCond .ne 7, 3) := dk_154 0 7 (dk_at dksX3_isBusinessDay_0 13 rfl rfl)
theorem dX3_isBusinessDay_16 : decode cX3_isBusinessDay 16 = .ok (.iconst 1, 1) := dk_4 (dk_at dksX3_isBusinessDay_0 16 rfl rfl)
theorem dX3_isBusinessDay_17 : decode cX3_isBusinessDay 17 = .ok (.goto 4, 3) := dk_167 0 4 (dk_at dksX3_isBusinessDay_0 17 rfl rfl)
theorem dX3_isBusinessDay_20 : decode cX3_isBusinessDay 20 = .ok (.iconst 0, 1) := dk_3 (dk_at dksX3_isBusinessDay_0 20 rfl rfl)
theorem dX3_isBusinessDay_21 : decode cX3_isBusinessDay 21 = .ok (.ireturn, 1) := dk_172 (dk_at dksX3_isBusinessDay_0 21 rfl rfl)
abbrev cX3_extended : ByteArray := prog_3_method_5_code
def yX3_extended : MethodName := ⟨RX3, "extended", "(I)I"⟩
def dkwX3_extended_0 : List UInt8 := [42, 27, 182, 0, 23, 185, 0, 27, 1, 0, 192, 0, 33, 182, 0, 35, 172]
abbrev dktX3_extended_0 : List UInt8 := dkwX3_extended_0 ++ []
theorem dksX3_extended_0 : cX3_extended.data.toList.drop 0 = dktX3_extended_0 := by decide +kernel
theorem dX3_extended_0 : decode cX3_extended 0 = .ok (.aload_n 0, 1) := dk_42 (dk_at dksX3_extended_0 0 rfl rfl)
theorem dX3_extended_1 : decode cX3_extended 1 = .ok (.iload_n 1, 1) := dk_27 (dk_at dksX3_extended_0 1 rfl rfl)
theorem dX3_extended_2 : decode cX3_extended 2 = .ok (.invokevirtual 23, 3) := dk_182 0 23 (dk_at dksX3_extended_0 2 rfl rfl)
theorem dX3_extended_5 : decode cX3_extended 5 = .ok (.invokeinterface 27 1, 5) := by decide +kernel
theorem dX3_extended_10 : decode cX3_extended 10 = .ok (.checkcast 33, 3) := dk_192 0 33 (dk_at dksX3_extended_0 10 rfl rfl)
theorem dX3_extended_13 : decode cX3_extended 13 = .ok (.invokevirtual 35, 3) := dk_182 0 35 (dk_at dksX3_extended_0 13 rfl rfl)
theorem dX3_extended_16 : decode cX3_extended 16 = .ok (.ireturn, 1) := dk_172 (dk_at dksX3_extended_0 16 rfl rfl)
abbrev cX3_from : ByteArray := prog_3_method_7_code
def yX3_from : MethodName := ⟨RX3, "from", "(I)Ljava/util/Iterator;"⟩
def dkwX3_from_0 : List UInt8 := [187, 0, 39, 89, 42, 27, 183, 0, 41, 176]
abbrev dktX3_from_0 : List UInt8 := dkwX3_from_0 ++ []
theorem dksX3_from_0 : cX3_from.data.toList.drop 0 = dktX3_from_0 := by decide +kernel
theorem dX3_from_0 : decode cX3_from 0 = .ok (.new 39, 3) := dk_187 0 39 (dk_at dksX3_from_0 0 rfl rfl)
theorem dX3_from_3 : decode cX3_from 3 = .ok (.dup, 1) := dk_89 (dk_at dksX3_from_0 3 rfl rfl)
theorem dX3_from_4 : decode cX3_from 4 = .ok (.aload_n 0, 1) := dk_42 (dk_at dksX3_from_0 4 rfl rfl)
theorem dX3_from_5 : decode cX3_from 5 = .ok (.iload_n 1, 1) := dk_27 (dk_at dksX3_from_0 5 rfl rfl)
theorem dX3_from_6 : decode cX3_from 6 = .ok (.invokespecial 41, 3) := dk_183 0 41 (dk_at dksX3_from_0 6 rfl rfl)
theorem dX3_from_9 : decode cX3_from 9 = .ok (.areturn, 1) := dk_176 (dk_at dksX3_from_0 9 rfl rfl)
abbrev cX3_add_2 : ByteArray := prog_3_method_6_code
def yX3_add_2 : MethodName := ⟨RX3, "add", "(II)I"⟩
def dkwX3_add_2_1 : List UInt8 := [185, 0, 27, 1, 0, 192, 0, 33, 182, 0, 35, 54, 4, 132, 5, 1, 167, 255, 233, 21, 4, 172]
abbrev dktX3_add_2_1 : List UInt8 := dkwX3_add_2_1 ++ []
def dkwX3_add_2_0 : List UInt8 := [42, 27, 4, 96, 182, 0, 23, 78, 27, 54, 4, 3, 54, 5, 21, 5, 28, 162, 0, 23, 45]
abbrev dktX3_add_2_0 : List UInt8 := dkwX3_add_2_0 ++ dktX3_add_2_1
theorem dksX3_add_2_0 : cX3_add_2.data.toList.drop 0 = dktX3_add_2_0 := by decide +kernel
theorem dksX3_add_2_1 : cX3_add_2.data.toList.drop 21 = dktX3_add_2_1 := dk_seg dksX3_add_2_0 21 rfl rfl
theorem dX3_add_2_0 : decode cX3_add_2 0 = .ok (.aload_n 0, 1) := dk_42 (dk_at dksX3_add_2_0 0 rfl rfl)
theorem dX3_add_2_1 : decode cX3_add_2 1 = .ok (.iload_n 1, 1) := dk_27 (dk_at dksX3_add_2_0 1 rfl rfl)
theorem dX3_add_2_2 : decode cX3_add_2 2 = .ok (.iconst 1, 1) := dk_4 (dk_at dksX3_add_2_0 2 rfl rfl)
theorem dX3_add_2_3 : decode cX3_add_2 3 = .ok (.iadd, 1) := dk_96 (dk_at dksX3_add_2_0 3 rfl rfl)
theorem dX3_add_2_4 : decode cX3_add_2 4 = .ok (.invokevirtual 23, 3) := dk_182 0 23 (dk_at dksX3_add_2_0 4 rfl rfl)
theorem dX3_add_2_7 : decode cX3_add_2 7 = .ok (.astore_n 3, 1) := dk_78 (dk_at dksX3_add_2_0 7 rfl rfl)
theorem dX3_add_2_8 : decode cX3_add_2 8 = .ok (.iload_n 1, 1) := dk_27 (dk_at dksX3_add_2_0 8 rfl rfl)
theorem dX3_add_2_9 : decode cX3_add_2 9 = .ok (.istore 4, 2) := dk_54 4 (dk_at dksX3_add_2_0 9 rfl rfl)
theorem dX3_add_2_11 : decode cX3_add_2 11 = .ok (.iconst 0, 1) := dk_3 (dk_at dksX3_add_2_0 11 rfl rfl)
theorem dX3_add_2_12 : decode cX3_add_2 12 = .ok (.istore 5, 2) := dk_54 5 (dk_at dksX3_add_2_0 12 rfl rfl)
theorem dX3_add_2_14 : decode cX3_add_2 14 = .ok (.iload 5, 2) := dk_21 5 (dk_at dksX3_add_2_0 14 rfl rfl)
theorem dX3_add_2_16 : decode cX3_add_2 16 = .ok (.iload_n 2, 1) := dk_28 (dk_at dksX3_add_2_0 16 rfl rfl)
theorem dX3_add_2_17 : decode cX3_add_2 17 = .ok (.if_icmp .ge 23, 3) := dk_162 0 23 (dk_at dksX3_add_2_0 17 rfl rfl)
theorem dX3_add_2_20 : decode cX3_add_2 20 = .ok (.aload_n 3, 1) := dk_45 (dk_at dksX3_add_2_0 20 rfl rfl)
theorem dX3_add_2_21 : decode cX3_add_2 21 = .ok (.invokeinterface 27 1, 5) := by decide +kernel
theorem dX3_add_2_26 : decode cX3_add_2 26 = .ok (.checkcast 33, 3) := dk_192 0 33 (dk_at dksX3_add_2_1 5 rfl rfl)
theorem dX3_add_2_29 : decode cX3_add_2 29 = .ok (.invokevirtual 35, 3) := dk_182 0 35 (dk_at dksX3_add_2_1 8 rfl rfl)
theorem dX3_add_2_32 : decode cX3_add_2 32 = .ok (.istore 4, 2) := dk_54 4 (dk_at dksX3_add_2_1 11 rfl rfl)
theorem dX3_add_2_34 : decode cX3_add_2 34 = .ok (.iinc 5 1, 3) := dk_132 5 1 (dk_at dksX3_add_2_1 13 rfl rfl)
theorem dX3_add_2_37 : decode cX3_add_2 37 = .ok (.goto (-23), 3) := dk_167 255 233 (dk_at dksX3_add_2_1 16 rfl rfl)
theorem dX3_add_2_40 : decode cX3_add_2 40 = .ok (.iload 4, 2) := dk_21 4 (dk_at dksX3_add_2_1 19 rfl rfl)
theorem dX3_add_2_42 : decode cX3_add_2 42 = .ok (.ireturn, 1) := dk_172 (dk_at dksX3_add_2_1 21 rfl rfl)
theorem q72 : (Jvm.Cond.initialized "DocumentaryCreditDesk$Calendar") ∈ lw_all := lw_g (lw_at lw_m1 5 rfl) rfl
theorem q139 : (Jvm.Cond.instantiable "DocumentaryCreditDesk$Calendar" (2 : Nat)) ∈ lw_all := lw_g (lw_at lw_m1 72 rfl) rfl
theorem q141 : (Jvm.Cond.instanceMethod ({ cls := "DocumentaryCreditDesk$Calendar", name := "<init>", desc := "()V" } : Jvm.MethodName)) ∈ lw_all := lw_g (lw_at lw_m1 74 rfl) rfl
theorem q142 : (Jvm.Cond.code ({ cls := "DocumentaryCreditDesk$Calendar", name := "<init>", desc := "()V" } : Jvm.MethodName) prog_3_method_1_code (1 : Nat) (Option.none : Option Jvm.ClassFile.FieldType)) ∈ lw_all := lw_g (lw_at lw_m1 75 rfl) rfl
theorem q143 : (Jvm.Cond.methodLink "DocumentaryCreditDesk$Calendar" (3 : Nat) ({ cls := "java/lang/Object", name := "<init>", desc := "()V" } : Jvm.MethodName)) ∈ lw_all := lw_g (lw_at lw_m1 76 rfl) rfl
theorem q144 : (Jvm.Cond.fieldLink "DocumentaryCreditDesk$Calendar" (9 : Nat) "DocumentaryCreditDesk$Calendar" "holidays" "[I") ∈ lw_all := lw_g (lw_at lw_m1 77 rfl) rfl
theorem q145 : (Jvm.Cond.fieldLink "DocumentaryCreditDesk$Calendar" (15 : Nat) "DocumentaryCreditDesk$Calendar" "count" "I") ∈ lw_all := lw_g (lw_at lw_m1 78 rfl) rfl
theorem q147 : (Jvm.Cond.laysFinal "DocumentaryCreditDesk$Calendar" "DocumentaryCreditDesk$Calendar" "holidays" "[I") ∈ lw_all := lw_g (lw_at lw_m1 80 rfl) rfl
theorem q148 : (Jvm.Cond.soleField "DocumentaryCreditDesk$Calendar" "holidays") ∈ lw_all := lw_g (lw_at lw_m1 81 rfl) rfl
theorem q149 : (Jvm.Cond.lays "DocumentaryCreditDesk$Calendar" "DocumentaryCreditDesk$Calendar" "count" "I") ∈ lw_all := lw_g (lw_at lw_m1 82 rfl) rfl
theorem q150 : (Jvm.Cond.soleField "DocumentaryCreditDesk$Calendar" "count") ∈ lw_all := lw_g (lw_at lw_m1 83 rfl) rfl
theorem q151 : (Jvm.Cond.superclass "DocumentaryCreditDesk$Calendar" "java/lang/Object") ∈ lw_all := lw_g (lw_at lw_m1 84 rfl) rfl
theorem q929 : (Jvm.Cond.instanceMethod ({ cls := "DocumentaryCreditDesk$Calendar", name := "isHoliday", desc := "(I)Z" } : Jvm.MethodName)) ∈ lw_all := lw_g (lw_at lw_m4 142 rfl) rfl
theorem q930 : (Jvm.Cond.selects "DocumentaryCreditDesk$Calendar" ({ cls := "DocumentaryCreditDesk$Calendar", name := "isHoliday", desc := "(I)Z" } : Jvm.MethodName) ({ cls := "DocumentaryCreditDesk$Calendar", name := "isHoliday", desc := "(I)Z" } : Jvm.MethodName)) ∈ lw_all := lw_g (lw_at lw_m4 143 rfl) rfl
theorem q931 : (Jvm.Cond.code ({ cls := "DocumentaryCreditDesk$Calendar", name := "isHoliday", desc := "(I)Z" } : Jvm.MethodName) prog_3_method_2_code (3 : Nat) (Option.some Jvm.ClassFile.FieldType.boolean)) ∈ lw_all := lw_g (lw_at lw_m4 144 rfl) rfl
theorem q933 : (Jvm.Cond.instanceMethod ({ cls := "DocumentaryCreditDesk$Calendar", name := "add", desc := "(I)V" } : Jvm.MethodName)) ∈ lw_all := lw_g (lw_at lw_m4 146 rfl) rfl
theorem q934 : (Jvm.Cond.selects "DocumentaryCreditDesk$Calendar" ({ cls := "DocumentaryCreditDesk$Calendar", name := "add", desc := "(I)V" } : Jvm.MethodName) ({ cls := "DocumentaryCreditDesk$Calendar", name := "add", desc := "(I)V" } : Jvm.MethodName)) ∈ lw_all := lw_g (lw_at lw_m4 147 rfl) rfl
theorem q935 : (Jvm.Cond.code ({ cls := "DocumentaryCreditDesk$Calendar", name := "add", desc := "(I)V" } : Jvm.MethodName) prog_3_method_3_code (2 : Nat) (Option.none : Option Jvm.ClassFile.FieldType)) ∈ lw_all := lw_g (lw_at lw_m4 148 rfl) rfl
theorem q1042 : (Jvm.Cond.selects "DocumentaryCreditDesk$Calendar" ({ cls := "java/lang/Object", name := "getClass", desc := "()Ljava/lang/Class;" } : Jvm.MethodName) ({ cls := "java/lang/Object", name := "getClass", desc := "()Ljava/lang/Class;" } : Jvm.MethodName)) ∈ lw_all := lw_g (lw_at lw_m5 15 rfl) rfl
theorem q1182 : (Jvm.Cond.instanceMethod ({ cls := "DocumentaryCreditDesk$Calendar", name := "isBusinessDay", desc := "(I)Z" } : Jvm.MethodName)) ∈ lw_all := lw_g (lw_at lw_m5 155 rfl) rfl
theorem q1183 : (Jvm.Cond.selects "DocumentaryCreditDesk$Calendar" ({ cls := "DocumentaryCreditDesk$Calendar", name := "isBusinessDay", desc := "(I)Z" } : Jvm.MethodName) ({ cls := "DocumentaryCreditDesk$Calendar", name := "isBusinessDay", desc := "(I)Z" } : Jvm.MethodName)) ∈ lw_all := lw_g (lw_at lw_m5 156 rfl) rfl
theorem q1184 : (Jvm.Cond.code ({ cls := "DocumentaryCreditDesk$Calendar", name := "isBusinessDay", desc := "(I)Z" } : Jvm.MethodName) prog_3_method_4_code (2 : Nat) (Option.some Jvm.ClassFile.FieldType.boolean)) ∈ lw_all := lw_g (lw_at lw_m5 157 rfl) rfl
theorem q1185 : (Jvm.Cond.methodLink "DocumentaryCreditDesk$Calendar" (19 : Nat) ({ cls := "DocumentaryCreditDesk$Calendar", name := "isHoliday", desc := "(I)Z" } : Jvm.MethodName)) ∈ lw_all := lw_g (lw_at lw_m5 158 rfl) rfl
theorem q1194 : (Jvm.Cond.instanceMethod ({ cls := "DocumentaryCreditDesk$Calendar", name := "extended", desc := "(I)I" } : Jvm.MethodName)) ∈ lw_all := lw_g (lw_at lw_m5 167 rfl) rfl
theorem q1195 : (Jvm.Cond.selects "DocumentaryCreditDesk$Calendar" ({ cls := "DocumentaryCreditDesk$Calendar", name := "extended", desc := "(I)I" } : Jvm.MethodName) ({ cls := "DocumentaryCreditDesk$Calendar", name := "extended", desc := "(I)I" } : Jvm.MethodName)) ∈ lw_all := lw_g (lw_at lw_m5 168 rfl) rfl
theorem q1196 : (Jvm.Cond.code ({ cls := "DocumentaryCreditDesk$Calendar", name := "extended", desc := "(I)I" } : Jvm.MethodName) prog_3_method_5_code (2 : Nat) (Option.some Jvm.ClassFile.FieldType.int)) ∈ lw_all := lw_g (lw_at lw_m5 169 rfl) rfl
theorem q1197 : (Jvm.Cond.methodLink "DocumentaryCreditDesk$Calendar" (23 : Nat) ({ cls := "DocumentaryCreditDesk$Calendar", name := "from", desc := "(I)Ljava/util/Iterator;" } : Jvm.MethodName)) ∈ lw_all := lw_g (lw_at lw_m5 170 rfl) rfl
theorem q1198 : (Jvm.Cond.instanceMethod ({ cls := "DocumentaryCreditDesk$Calendar", name := "from", desc := "(I)Ljava/util/Iterator;" } : Jvm.MethodName)) ∈ lw_all := lw_g (lw_at lw_m5 171 rfl) rfl
theorem q1199 : (Jvm.Cond.selects "DocumentaryCreditDesk$Calendar" ({ cls := "DocumentaryCreditDesk$Calendar", name := "from", desc := "(I)Ljava/util/Iterator;" } : Jvm.MethodName) ({ cls := "DocumentaryCreditDesk$Calendar", name := "from", desc := "(I)Ljava/util/Iterator;" } : Jvm.MethodName)) ∈ lw_all := lw_g (lw_at lw_m5 172 rfl) rfl
theorem q1200 : (Jvm.Cond.code ({ cls := "DocumentaryCreditDesk$Calendar", name := "from", desc := "(I)Ljava/util/Iterator;" } : Jvm.MethodName) prog_3_method_7_code (2 : Nat) (Option.some (Jvm.ClassFile.FieldType.object "java/util/Iterator"))) ∈ lw_all := lw_g (lw_at lw_m5 173 rfl) rfl
theorem q1201 : (Jvm.Cond.classLink "DocumentaryCreditDesk$Calendar" (39 : Nat) "DocumentaryCreditDesk$Calendar$1") ∈ lw_all := lw_g (lw_at lw_m5 174 rfl) rfl
theorem q1203 : (Jvm.Cond.methodLink "DocumentaryCreditDesk$Calendar" (41 : Nat) ({ cls := "DocumentaryCreditDesk$Calendar$1", name := "<init>", desc := "(LDocumentaryCreditDesk$Calendar;I)V" } : Jvm.MethodName)) ∈ lw_all := lw_g (lw_at lw_m5 176 rfl) rfl
theorem q1217 : (Jvm.Cond.interfaceEntry "DocumentaryCreditDesk$Calendar" (27 : Nat)) ∈ lw_tbl := lw_at lw_m5 190 rfl
theorem q1218 : (Jvm.Cond.methodLink "DocumentaryCreditDesk$Calendar" (27 : Nat) ({ cls := "java/util/Iterator", name := "next", desc := "()Ljava/lang/Object;" } : Jvm.MethodName)) ∈ lw_all := lw_g (lw_at lw_m5 191 rfl) rfl
theorem q1271 : (Jvm.Cond.classLink "DocumentaryCreditDesk$Calendar" (33 : Nat) "java/lang/Integer") ∈ lw_all := lw_g (lw_at lw_m6 4 rfl) rfl
theorem q1272 : (Jvm.Cond.methodLink "DocumentaryCreditDesk$Calendar" (35 : Nat) ({ cls := "java/lang/Integer", name := "intValue", desc := "()I" } : Jvm.MethodName)) ∈ lw_all := lw_g (lw_at lw_m6 5 rfl) rfl
theorem q1285 : (Jvm.Cond.instanceMethod ({ cls := "DocumentaryCreditDesk$Calendar", name := "add", desc := "(II)I" } : Jvm.MethodName)) ∈ lw_all := lw_g (lw_at lw_m6 18 rfl) rfl
theorem q1286 : (Jvm.Cond.selects "DocumentaryCreditDesk$Calendar" ({ cls := "DocumentaryCreditDesk$Calendar", name := "add", desc := "(II)I" } : Jvm.MethodName) ({ cls := "DocumentaryCreditDesk$Calendar", name := "add", desc := "(II)I" } : Jvm.MethodName)) ∈ lw_all := lw_g (lw_at lw_m6 19 rfl) rfl
theorem q1287 : (Jvm.Cond.code ({ cls := "DocumentaryCreditDesk$Calendar", name := "add", desc := "(II)I" } : Jvm.MethodName) prog_3_method_6_code (6 : Nat) (Option.some Jvm.ClassFile.FieldType.int)) ∈ lw_all := lw_g (lw_at lw_m6 20 rfl) rfl
theorem q2065 : (Jvm.Cond.castable "DocumentaryCreditDesk$Calendar" "java/lang/Object") ∈ lw_tbl := lw_at lw_m9 78 rfl
theorem in_X3 : ∀ w ∈ wsX30, w ∈ lw_all := lw_in wsX30 [147, 149] (by decide +kernel) (by decide +kernel)
/-! DocumentaryCreditDesk$Book -/
set_option maxRecDepth 100000
def RX4 : String := "DocumentaryCreditDesk$Book"
def TX4 : u_T := fun k => match k with
  | 0 => ("DocumentaryCreditDesk$Book", "entries", "Ljava/util/List;", true)
  | _ => ("DocumentaryCreditDesk$Book", "capacity", "I", true)
def tyX4 : Nat → FieldType := fun k => match k with
  | 0 => .object "java/util/List"
  | _ => .int
abbrev wsX40 : List Cond := u_ws RX4 TX4 2
theorem nmX4 : ∀ a, a < 2 → ∀ b, b < 2 → a ≠ b → (TX4 a).2.1 ≠ (TX4 b).2.1 := by decide +kernel
theorem tyX4_ok : ∀ k, k < 2 → parseFieldDescriptor (TX4 k).2.2.1 = some (tyX4 k) := by decide +kernel
abbrev cX4_init : ByteArray := prog_2_method_1_code
def yX4_init : MethodName := ⟨RX4, "<init>", "(I)V"⟩
def dkwX4_init_0 : List UInt8 := [42, 183, 0, 1, 42, 187, 0, 7, 89, 183, 0, 9, 181, 0, 10, 42, 27, 181, 0, 16, 177]
abbrev dktX4_init_0 : List UInt8 := dkwX4_init_0 ++ []
theorem dksX4_init_0 : cX4_init.data.toList.drop 0 = dktX4_init_0 := by decide +kernel
theorem dX4_init_0 : decode cX4_init 0 = .ok (.aload_n 0, 1) := dk_42 (dk_at dksX4_init_0 0 rfl rfl)
theorem dX4_init_1 : decode cX4_init 1 = .ok (.invokespecial 1, 3) := dk_183 0 1 (dk_at dksX4_init_0 1 rfl rfl)
theorem dX4_init_4 : decode cX4_init 4 = .ok (.aload_n 0, 1) := dk_42 (dk_at dksX4_init_0 4 rfl rfl)
theorem dX4_init_5 : decode cX4_init 5 = .ok (.new 7, 3) := dk_187 0 7 (dk_at dksX4_init_0 5 rfl rfl)
theorem dX4_init_8 : decode cX4_init 8 = .ok (.dup, 1) := dk_89 (dk_at dksX4_init_0 8 rfl rfl)
theorem dX4_init_9 : decode cX4_init 9 = .ok (.invokespecial 9, 3) := dk_183 0 9 (dk_at dksX4_init_0 9 rfl rfl)
theorem dX4_init_12 : decode cX4_init 12 = .ok (.putfield 10, 3) := dk_181 0 10 (dk_at dksX4_init_0 12 rfl rfl)
theorem dX4_init_15 : decode cX4_init 15 = .ok (.aload_n 0, 1) := dk_42 (dk_at dksX4_init_0 15 rfl rfl)
theorem dX4_init_16 : decode cX4_init 16 = .ok (.iload_n 1, 1) := dk_27 (dk_at dksX4_init_0 16 rfl rfl)
theorem dX4_init_17 : decode cX4_init 17 = .ok (.putfield 16, 3) := dk_181 0 16 (dk_at dksX4_init_0 17 rfl rfl)
theorem dX4_init_20 : decode cX4_init 20 = .ok (.return_, 1) := dk_177 (dk_at dksX4_init_0 20 rfl rfl)
abbrev cX4_size : ByteArray := prog_2_method_6_code
def yX4_size : MethodName := ⟨RX4, "size", "()I"⟩
def dkwX4_size_0 : List UInt8 := [42, 180, 0, 10, 185, 0, 34, 1, 0, 172]
abbrev dktX4_size_0 : List UInt8 := dkwX4_size_0 ++ []
theorem dksX4_size_0 : cX4_size.data.toList.drop 0 = dktX4_size_0 := by decide +kernel
theorem dX4_size_0 : decode cX4_size 0 = .ok (.aload_n 0, 1) := dk_42 (dk_at dksX4_size_0 0 rfl rfl)
theorem dX4_size_1 : decode cX4_size 1 = .ok (.getfield 10, 3) := dk_180 0 10 (dk_at dksX4_size_0 1 rfl rfl)
theorem dX4_size_4 : decode cX4_size 4 = .ok (.invokeinterface 34 1, 5) := by decide +kernel
theorem dX4_size_9 : decode cX4_size 9 = .ok (.ireturn, 1) := dk_172 (dk_at dksX4_size_0 9 rfl rfl)
abbrev cX4_get : ByteArray := prog_2_method_5_code
def yX4_get : MethodName := ⟨RX4, "get", "(I)Ljava/lang/Object;"⟩
def dkwX4_get_0 : List UInt8 := [42, 180, 0, 10, 27, 185, 0, 39, 2, 0, 176]
abbrev dktX4_get_0 : List UInt8 := dkwX4_get_0 ++ []
theorem dksX4_get_0 : cX4_get.data.toList.drop 0 = dktX4_get_0 := by decide +kernel
theorem dX4_get_0 : decode cX4_get 0 = .ok (.aload_n 0, 1) := dk_42 (dk_at dksX4_get_0 0 rfl rfl)
theorem dX4_get_1 : decode cX4_get 1 = .ok (.getfield 10, 3) := dk_180 0 10 (dk_at dksX4_get_0 1 rfl rfl)
theorem dX4_get_4 : decode cX4_get 4 = .ok (.iload_n 1, 1) := dk_27 (dk_at dksX4_get_0 4 rfl rfl)
theorem dX4_get_5 : decode cX4_get 5 = .ok (.invokeinterface 39 2, 5) := by decide +kernel
theorem dX4_get_10 : decode cX4_get 10 = .ok (.areturn, 1) := dk_176 (dk_at dksX4_get_0 10 rfl rfl)
abbrev cX4_isFull : ByteArray := prog_2_method_7_code
def yX4_isFull : MethodName := ⟨RX4, "isFull", "()Z"⟩
def dkwX4_isFull_0 : List UInt8 := [42, 180, 0, 10, 185, 0, 34, 1, 0, 42, 180, 0, 16, 160, 0, 7, 4, 167, 0, 4, 3, 172]
abbrev dktX4_isFull_0 : List UInt8 := dkwX4_isFull_0 ++ []
theorem dksX4_isFull_0 : cX4_isFull.data.toList.drop 0 = dktX4_isFull_0 := by decide +kernel
theorem dX4_isFull_0 : decode cX4_isFull 0 = .ok (.aload_n 0, 1) := dk_42 (dk_at dksX4_isFull_0 0 rfl rfl)
theorem dX4_isFull_1 : decode cX4_isFull 1 = .ok (.getfield 10, 3) := dk_180 0 10 (dk_at dksX4_isFull_0 1 rfl rfl)
theorem dX4_isFull_4 : decode cX4_isFull 4 = .ok (.invokeinterface 34 1, 5) := by decide +kernel
theorem dX4_isFull_9 : decode cX4_isFull 9 = .ok (.aload_n 0, 1) := dk_42 (dk_at dksX4_isFull_0 9 rfl rfl)
theorem dX4_isFull_10 : decode cX4_isFull 10 = .ok (.getfield 16, 3) := dk_180 0 16 (dk_at dksX4_isFull_0 10 rfl rfl)
theorem dX4_isFull_13 : decode cX4_isFull 13 = .ok (.if_icmp .ne 7, 3) := dk_160 0 7 (dk_at dksX4_isFull_0 13 rfl rfl)
theorem dX4_isFull_16 : decode cX4_isFull 16 = .ok (.iconst 1, 1) := dk_4 (dk_at dksX4_isFull_0 16 rfl rfl)
theorem dX4_isFull_17 : decode cX4_isFull 17 = .ok (.goto 4, 3) := dk_167 0 4 (dk_at dksX4_isFull_0 17 rfl rfl)
theorem dX4_isFull_20 : decode cX4_isFull 20 = .ok (.iconst 0, 1) := dk_3 (dk_at dksX4_isFull_0 20 rfl rfl)
theorem dX4_isFull_21 : decode cX4_isFull 21 = .ok (.ireturn, 1) := dk_172 (dk_at dksX4_isFull_0 21 rfl rfl)
abbrev cX4_add : ByteArray := prog_2_method_3_code
def yX4_add : MethodName := ⟨RX4, "add", "(Ljava/lang/Object;)I"⟩
def dkwX4_add_0 : List UInt8 := [42, 180, 0, 10, 43, 185, 0, 28, 2, 0, 87, 42, 180, 0, 10, 185, 0, 34, 1, 0, 4, 100, 172]
abbrev dktX4_add_0 : List UInt8 := dkwX4_add_0 ++ []
theorem dksX4_add_0 : cX4_add.data.toList.drop 0 = dktX4_add_0 := by decide +kernel
theorem dX4_add_0 : decode cX4_add 0 = .ok (.aload_n 0, 1) := dk_42 (dk_at dksX4_add_0 0 rfl rfl)
theorem dX4_add_1 : decode cX4_add 1 = .ok (.getfield 10, 3) := dk_180 0 10 (dk_at dksX4_add_0 1 rfl rfl)
theorem dX4_add_4 : decode cX4_add 4 = .ok (.aload_n 1, 1) := dk_43 (dk_at dksX4_add_0 4 rfl rfl)
theorem dX4_add_5 : decode cX4_add 5 = .ok (.invokeinterface 28 2, 5) := by decide +kernel
theorem dX4_add_10 : decode cX4_add 10 = .ok (.pop, 1) := dk_87 (dk_at dksX4_add_0 10 rfl rfl)
theorem dX4_add_11 : decode cX4_add 11 = .ok (.aload_n 0, 1) := dk_42 (dk_at dksX4_add_0 11 rfl rfl)
theorem dX4_add_12 : decode cX4_add 12 = .ok (.getfield 10, 3) := dk_180 0 10 (dk_at dksX4_add_0 12 rfl rfl)
theorem dX4_add_15 : decode cX4_add 15 = .ok (.invokeinterface 34 1, 5) := by decide +kernel
theorem dX4_add_20 : decode cX4_add 20 = .ok (.iconst 1, 1) := dk_4 (dk_at dksX4_add_0 20 rfl rfl)
theorem dX4_add_21 : decode cX4_add 21 = .ok (.isub, 1) := dk_100 (dk_at dksX4_add_0 21 rfl rfl)
theorem dX4_add_22 : decode cX4_add 22 = .ok (.ireturn, 1) := dk_172 (dk_at dksX4_add_0 22 rfl rfl)
abbrev cX4_addAll : ByteArray := prog_2_method_2_code
def yX4_addAll : MethodName := ⟨RX4, "addAll", "(LDocumentaryCreditDesk$Book;)V"⟩
def dkwX4_addAll_1 : List UInt8 := [87, 132, 2, 1, 167, 255, 230, 177]
abbrev dktX4_addAll_1 : List UInt8 := dkwX4_addAll_1 ++ []
def dkwX4_addAll_0 : List UInt8 := [3, 61, 28, 43, 182, 0, 20, 162, 0, 24, 42, 180, 0, 10, 43, 28, 182, 0, 24, 185, 0, 28, 2, 0]
abbrev dktX4_addAll_0 : List UInt8 := dkwX4_addAll_0 ++ dktX4_addAll_1
theorem dksX4_addAll_0 : cX4_addAll.data.toList.drop 0 = dktX4_addAll_0 := by decide +kernel
theorem dksX4_addAll_1 : cX4_addAll.data.toList.drop 24 = dktX4_addAll_1 := dk_seg dksX4_addAll_0 24 rfl rfl
theorem dX4_addAll_0 : decode cX4_addAll 0 = .ok (.iconst 0, 1) := dk_3 (dk_at dksX4_addAll_0 0 rfl rfl)
theorem dX4_addAll_1 : decode cX4_addAll 1 = .ok (.istore_n 2, 1) := dk_61 (dk_at dksX4_addAll_0 1 rfl rfl)
theorem dX4_addAll_2 : decode cX4_addAll 2 = .ok (.iload_n 2, 1) := dk_28 (dk_at dksX4_addAll_0 2 rfl rfl)
theorem dX4_addAll_3 : decode cX4_addAll 3 = .ok (.aload_n 1, 1) := dk_43 (dk_at dksX4_addAll_0 3 rfl rfl)
theorem dX4_addAll_4 : decode cX4_addAll 4 = .ok (.invokevirtual 20, 3) := dk_182 0 20 (dk_at dksX4_addAll_0 4 rfl rfl)
theorem dX4_addAll_7 : decode cX4_addAll 7 = .ok (.if_icmp .ge 24, 3) := dk_162 0 24 (dk_at dksX4_addAll_0 7 rfl rfl)
theorem dX4_addAll_10 : decode cX4_addAll 10 = .ok (.aload_n 0, 1) := dk_42 (dk_at dksX4_addAll_0 10 rfl rfl)
theorem dX4_addAll_11 : decode cX4_addAll 11 = .ok (.getfield 10, 3) := dk_180 0 10 (dk_at dksX4_addAll_0 11 rfl rfl)
theorem dX4_addAll_14 : decode cX4_addAll 14 = .ok (.aload_n 1, 1) := dk_43 (dk_at dksX4_addAll_0 14 rfl rfl)
theorem dX4_addAll_15 : decode cX4_addAll 15 = .ok (.iload_n 2, 1) := dk_28 (dk_at dksX4_addAll_0 15 rfl rfl)
theorem dX4_addAll_16 : decode cX4_addAll 16 = .ok (.invokevirtual 24, 3) := dk_182 0 24 (dk_at dksX4_addAll_0 16 rfl rfl)
theorem dX4_addAll_19 : decode cX4_addAll 19 = .ok (.invokeinterface 28 2, 5) := by decide +kernel
theorem dX4_addAll_24 : decode cX4_addAll 24 = .ok (.pop, 1) := dk_87 (dk_at dksX4_addAll_1 0 rfl rfl)
theorem dX4_addAll_25 : decode cX4_addAll 25 = .ok (.iinc 2 1, 3) := dk_132 2 1 (dk_at dksX4_addAll_1 1 rfl rfl)
theorem dX4_addAll_28 : decode cX4_addAll 28 = .ok (.goto (-26), 3) := dk_167 255 230 (dk_at dksX4_addAll_1 4 rfl rfl)
theorem dX4_addAll_31 : decode cX4_addAll 31 = .ok (.return_, 1) := dk_177 (dk_at dksX4_addAll_1 7 rfl rfl)
abbrev cX4_set : ByteArray := prog_2_method_4_code
def yX4_set : MethodName := ⟨RX4, "set", "(ILjava/lang/Object;)V"⟩
def dkwX4_set_0 : List UInt8 := [42, 180, 0, 10, 27, 44, 185, 0, 35, 3, 0, 87, 177]
abbrev dktX4_set_0 : List UInt8 := dkwX4_set_0 ++ []
theorem dksX4_set_0 : cX4_set.data.toList.drop 0 = dktX4_set_0 := by decide +kernel
theorem dX4_set_0 : decode cX4_set 0 = .ok (.aload_n 0, 1) := dk_42 (dk_at dksX4_set_0 0 rfl rfl)
theorem dX4_set_1 : decode cX4_set 1 = .ok (.getfield 10, 3) := dk_180 0 10 (dk_at dksX4_set_0 1 rfl rfl)
theorem dX4_set_4 : decode cX4_set 4 = .ok (.iload_n 1, 1) := dk_27 (dk_at dksX4_set_0 4 rfl rfl)
theorem dX4_set_5 : decode cX4_set 5 = .ok (.aload_n 2, 1) := dk_44 (dk_at dksX4_set_0 5 rfl rfl)
theorem dX4_set_6 : decode cX4_set 6 = .ok (.invokeinterface 35 3, 5) := by decide +kernel
theorem dX4_set_11 : decode cX4_set 11 = .ok (.pop, 1) := dk_87 (dk_at dksX4_set_0 11 rfl rfl)
theorem dX4_set_12 : decode cX4_set 12 = .ok (.return_, 1) := dk_177 (dk_at dksX4_set_0 12 rfl rfl)
theorem q73 : (Jvm.Cond.initialized "DocumentaryCreditDesk$Book") ∈ lw_all := lw_g (lw_at lw_m1 6 rfl) rfl
theorem q158 : (Jvm.Cond.instantiable "DocumentaryCreditDesk$Book" (2 : Nat)) ∈ lw_all := lw_g (lw_at lw_m1 91 rfl) rfl
theorem q160 : (Jvm.Cond.instanceMethod ({ cls := "DocumentaryCreditDesk$Book", name := "<init>", desc := "(I)V" } : Jvm.MethodName)) ∈ lw_all := lw_g (lw_at lw_m1 93 rfl) rfl
theorem q161 : (Jvm.Cond.code ({ cls := "DocumentaryCreditDesk$Book", name := "<init>", desc := "(I)V" } : Jvm.MethodName) prog_2_method_1_code (2 : Nat) (Option.none : Option Jvm.ClassFile.FieldType)) ∈ lw_all := lw_g (lw_at lw_m1 94 rfl) rfl
theorem q162 : (Jvm.Cond.methodLink "DocumentaryCreditDesk$Book" (1 : Nat) ({ cls := "java/lang/Object", name := "<init>", desc := "()V" } : Jvm.MethodName)) ∈ lw_all := lw_g (lw_at lw_m1 95 rfl) rfl
theorem q163 : (Jvm.Cond.classLink "DocumentaryCreditDesk$Book" (7 : Nat) "java/util/ArrayList") ∈ lw_all := lw_g (lw_at lw_m1 96 rfl) rfl
theorem q165 : (Jvm.Cond.methodLink "DocumentaryCreditDesk$Book" (9 : Nat) ({ cls := "java/util/ArrayList", name := "<init>", desc := "()V" } : Jvm.MethodName)) ∈ lw_all := lw_g (lw_at lw_m1 98 rfl) rfl
theorem q186 : (Jvm.Cond.fieldLink "DocumentaryCreditDesk$Book" (10 : Nat) "DocumentaryCreditDesk$Book" "entries" "Ljava/util/List;") ∈ lw_all := lw_g (lw_at lw_m1 119 rfl) rfl
theorem q187 : (Jvm.Cond.fieldLink "DocumentaryCreditDesk$Book" (16 : Nat) "DocumentaryCreditDesk$Book" "capacity" "I") ∈ lw_all := lw_g (lw_at lw_m1 120 rfl) rfl
theorem q188 : (Jvm.Cond.laysFinal "DocumentaryCreditDesk$Book" "DocumentaryCreditDesk$Book" "entries" "Ljava/util/List;") ∈ lw_all := lw_g (lw_at lw_m1 121 rfl) rfl
theorem q189 : (Jvm.Cond.soleField "DocumentaryCreditDesk$Book" "entries") ∈ lw_all := lw_g (lw_at lw_m1 122 rfl) rfl
theorem q190 : (Jvm.Cond.laysFinal "DocumentaryCreditDesk$Book" "DocumentaryCreditDesk$Book" "capacity" "I") ∈ lw_all := lw_g (lw_at lw_m1 123 rfl) rfl
theorem q191 : (Jvm.Cond.soleField "DocumentaryCreditDesk$Book" "capacity") ∈ lw_all := lw_g (lw_at lw_m1 124 rfl) rfl
theorem q192 : (Jvm.Cond.superclass "DocumentaryCreditDesk$Book" "java/lang/Object") ∈ lw_all := lw_g (lw_at lw_m1 125 rfl) rfl
theorem q252 : (Jvm.Cond.instanceMethod ({ cls := "DocumentaryCreditDesk$Book", name := "size", desc := "()I" } : Jvm.MethodName)) ∈ lw_all := lw_g (lw_at lw_m1 185 rfl) rfl
theorem q253 : (Jvm.Cond.selects "DocumentaryCreditDesk$Book" ({ cls := "DocumentaryCreditDesk$Book", name := "size", desc := "()I" } : Jvm.MethodName) ({ cls := "DocumentaryCreditDesk$Book", name := "size", desc := "()I" } : Jvm.MethodName)) ∈ lw_all := lw_g (lw_at lw_m1 186 rfl) rfl
theorem q254 : (Jvm.Cond.code ({ cls := "DocumentaryCreditDesk$Book", name := "size", desc := "()I" } : Jvm.MethodName) prog_2_method_6_code (1 : Nat) (Option.some Jvm.ClassFile.FieldType.int)) ∈ lw_all := lw_g (lw_at lw_m1 187 rfl) rfl
theorem q255 : (Jvm.Cond.interfaceEntry "DocumentaryCreditDesk$Book" (34 : Nat)) ∈ lw_tbl := lw_at lw_m1 188 rfl
theorem q256 : (Jvm.Cond.methodLink "DocumentaryCreditDesk$Book" (34 : Nat) ({ cls := "java/util/List", name := "size", desc := "()I" } : Jvm.MethodName)) ∈ lw_all := lw_g (lw_at lw_m1 189 rfl) rfl
theorem q278 : (Jvm.Cond.instanceMethod ({ cls := "DocumentaryCreditDesk$Book", name := "get", desc := "(I)Ljava/lang/Object;" } : Jvm.MethodName)) ∈ lw_all := lw_g (lw_at lw_m1 211 rfl) rfl
theorem q279 : (Jvm.Cond.selects "DocumentaryCreditDesk$Book" ({ cls := "DocumentaryCreditDesk$Book", name := "get", desc := "(I)Ljava/lang/Object;" } : Jvm.MethodName) ({ cls := "DocumentaryCreditDesk$Book", name := "get", desc := "(I)Ljava/lang/Object;" } : Jvm.MethodName)) ∈ lw_all := lw_g (lw_at lw_m1 212 rfl) rfl
theorem q280 : (Jvm.Cond.code ({ cls := "DocumentaryCreditDesk$Book", name := "get", desc := "(I)Ljava/lang/Object;" } : Jvm.MethodName) prog_2_method_5_code (2 : Nat) (Option.some (Jvm.ClassFile.FieldType.object "java/lang/Object"))) ∈ lw_all := lw_g (lw_at lw_m1 213 rfl) rfl
theorem q281 : (Jvm.Cond.interfaceEntry "DocumentaryCreditDesk$Book" (39 : Nat)) ∈ lw_tbl := lw_at lw_m1 214 rfl
theorem q282 : (Jvm.Cond.methodLink "DocumentaryCreditDesk$Book" (39 : Nat) ({ cls := "java/util/List", name := "get", desc := "(I)Ljava/lang/Object;" } : Jvm.MethodName)) ∈ lw_all := lw_g (lw_at lw_m1 215 rfl) rfl
theorem q937 : (Jvm.Cond.instanceMethod ({ cls := "DocumentaryCreditDesk$Book", name := "isFull", desc := "()Z" } : Jvm.MethodName)) ∈ lw_all := lw_g (lw_at lw_m4 150 rfl) rfl
theorem q938 : (Jvm.Cond.selects "DocumentaryCreditDesk$Book" ({ cls := "DocumentaryCreditDesk$Book", name := "isFull", desc := "()Z" } : Jvm.MethodName) ({ cls := "DocumentaryCreditDesk$Book", name := "isFull", desc := "()Z" } : Jvm.MethodName)) ∈ lw_all := lw_g (lw_at lw_m4 151 rfl) rfl
theorem q939 : (Jvm.Cond.code ({ cls := "DocumentaryCreditDesk$Book", name := "isFull", desc := "()Z" } : Jvm.MethodName) prog_2_method_7_code (1 : Nat) (Option.some Jvm.ClassFile.FieldType.boolean)) ∈ lw_all := lw_g (lw_at lw_m4 152 rfl) rfl
theorem q1009 : (Jvm.Cond.instanceMethod ({ cls := "DocumentaryCreditDesk$Book", name := "add", desc := "(Ljava/lang/Object;)I" } : Jvm.MethodName)) ∈ lw_all := lw_g (lw_at lw_m4 222 rfl) rfl
theorem q1010 : (Jvm.Cond.selects "DocumentaryCreditDesk$Book" ({ cls := "DocumentaryCreditDesk$Book", name := "add", desc := "(Ljava/lang/Object;)I" } : Jvm.MethodName) ({ cls := "DocumentaryCreditDesk$Book", name := "add", desc := "(Ljava/lang/Object;)I" } : Jvm.MethodName)) ∈ lw_all := lw_g (lw_at lw_m4 223 rfl) rfl
theorem q1011 : (Jvm.Cond.code ({ cls := "DocumentaryCreditDesk$Book", name := "add", desc := "(Ljava/lang/Object;)I" } : Jvm.MethodName) prog_2_method_3_code (2 : Nat) (Option.some Jvm.ClassFile.FieldType.int)) ∈ lw_all := lw_g (lw_at lw_m4 224 rfl) rfl
theorem q1012 : (Jvm.Cond.interfaceEntry "DocumentaryCreditDesk$Book" (28 : Nat)) ∈ lw_tbl := lw_at lw_m4 225 rfl
theorem q1013 : (Jvm.Cond.methodLink "DocumentaryCreditDesk$Book" (28 : Nat) ({ cls := "java/util/List", name := "add", desc := "(Ljava/lang/Object;)Z" } : Jvm.MethodName)) ∈ lw_all := lw_g (lw_at lw_m4 226 rfl) rfl
theorem q1041 : (Jvm.Cond.selects "DocumentaryCreditDesk$Book" ({ cls := "java/lang/Object", name := "getClass", desc := "()Ljava/lang/Class;" } : Jvm.MethodName) ({ cls := "java/lang/Object", name := "getClass", desc := "()Ljava/lang/Class;" } : Jvm.MethodName)) ∈ lw_all := lw_g (lw_at lw_m5 14 rfl) rfl
theorem q1533 : (Jvm.Cond.instanceMethod ({ cls := "DocumentaryCreditDesk$Book", name := "addAll", desc := "(LDocumentaryCreditDesk$Book;)V" } : Jvm.MethodName)) ∈ lw_all := lw_g (lw_at lw_m7 26 rfl) rfl
theorem q1534 : (Jvm.Cond.selects "DocumentaryCreditDesk$Book" ({ cls := "DocumentaryCreditDesk$Book", name := "addAll", desc := "(LDocumentaryCreditDesk$Book;)V" } : Jvm.MethodName) ({ cls := "DocumentaryCreditDesk$Book", name := "addAll", desc := "(LDocumentaryCreditDesk$Book;)V" } : Jvm.MethodName)) ∈ lw_all := lw_g (lw_at lw_m7 27 rfl) rfl
theorem q1535 : (Jvm.Cond.code ({ cls := "DocumentaryCreditDesk$Book", name := "addAll", desc := "(LDocumentaryCreditDesk$Book;)V" } : Jvm.MethodName) prog_2_method_2_code (3 : Nat) (Option.none : Option Jvm.ClassFile.FieldType)) ∈ lw_all := lw_g (lw_at lw_m7 28 rfl) rfl
theorem q1536 : (Jvm.Cond.methodLink "DocumentaryCreditDesk$Book" (20 : Nat) ({ cls := "DocumentaryCreditDesk$Book", name := "size", desc := "()I" } : Jvm.MethodName)) ∈ lw_all := lw_g (lw_at lw_m7 29 rfl) rfl
theorem q1537 : (Jvm.Cond.methodLink "DocumentaryCreditDesk$Book" (24 : Nat) ({ cls := "DocumentaryCreditDesk$Book", name := "get", desc := "(I)Ljava/lang/Object;" } : Jvm.MethodName)) ∈ lw_all := lw_g (lw_at lw_m7 30 rfl) rfl
theorem q1601 : (Jvm.Cond.instanceMethod ({ cls := "DocumentaryCreditDesk$Book", name := "set", desc := "(ILjava/lang/Object;)V" } : Jvm.MethodName)) ∈ lw_all := lw_g (lw_at lw_m7 94 rfl) rfl
theorem q1602 : (Jvm.Cond.selects "DocumentaryCreditDesk$Book" ({ cls := "DocumentaryCreditDesk$Book", name := "set", desc := "(ILjava/lang/Object;)V" } : Jvm.MethodName) ({ cls := "DocumentaryCreditDesk$Book", name := "set", desc := "(ILjava/lang/Object;)V" } : Jvm.MethodName)) ∈ lw_all := lw_g (lw_at lw_m7 95 rfl) rfl
theorem q1603 : (Jvm.Cond.code ({ cls := "DocumentaryCreditDesk$Book", name := "set", desc := "(ILjava/lang/Object;)V" } : Jvm.MethodName) prog_2_method_4_code (3 : Nat) (Option.none : Option Jvm.ClassFile.FieldType)) ∈ lw_all := lw_g (lw_at lw_m7 96 rfl) rfl
theorem q1604 : (Jvm.Cond.interfaceEntry "DocumentaryCreditDesk$Book" (35 : Nat)) ∈ lw_tbl := lw_at lw_m7 97 rfl
theorem q1605 : (Jvm.Cond.methodLink "DocumentaryCreditDesk$Book" (35 : Nat) ({ cls := "java/util/List", name := "set", desc := "(ILjava/lang/Object;)Ljava/lang/Object;" } : Jvm.MethodName)) ∈ lw_all := lw_g (lw_at lw_m7 98 rfl) rfl
theorem q2066 : (Jvm.Cond.castable "DocumentaryCreditDesk$Book" "java/lang/Object") ∈ lw_tbl := lw_at lw_m9 79 rfl
theorem in_X4 : ∀ w ∈ wsX40, w ∈ lw_all := lw_in wsX40 [188, 190] (by decide +kernel) (by decide +kernel)
/-! DocumentaryCreditDesk$Parser -/
set_option maxRecDepth 100000
def RX6 : String := "DocumentaryCreditDesk$Parser"
def TX6 : u_T := fun k => match k with
  | 0 => ("DocumentaryCreditDesk$Parser", "length", "I", true)
  | 1 => ("DocumentaryCreditDesk$Parser", "calendar", "LDocumentaryCreditDesk$Calendar;", true)
  | 2 => ("DocumentaryCreditDesk$Parser", "desk", "LDocumentaryCreditDesk$Desk;", true)
  | 3 => ("DocumentaryCreditDesk$Parser", "next", "I", false)
  | 4 => ("DocumentaryCreditDesk$Parser", "start", "I", false)
  | 5 => ("DocumentaryCreditDesk$Parser", "depth", "I", false)
  | 6 => ("DocumentaryCreditDesk$Parser", "hasFee", "Z", false)
  | _ => ("DocumentaryCreditDesk$Parser", "this$0", "LDocumentaryCreditDesk;", true)
def tyX6 : Nat → FieldType := fun k => match k with
  | 0 => .int
  | 1 => .object "DocumentaryCreditDesk$Calendar"
  | 2 => .object "DocumentaryCreditDesk$Desk"
  | 3 => .int
  | 4 => .int
  | 5 => .int
  | 6 => .boolean
  | _ => .object "DocumentaryCreditDesk"
abbrev wsX60 : List Cond := u_ws RX6 TX6 8
theorem nmX6 : ∀ a, a < 8 → ∀ b, b < 8 → a ≠ b → (TX6 a).2.1 ≠ (TX6 b).2.1 := by decide +kernel
theorem tyX6_ok : ∀ k, k < 8 → parseFieldDescriptor (TX6 k).2.2.1 = some (tyX6 k) := by decide +kernel
abbrev cX6_init : ByteArray := prog_9_method_1_code
def yX6_init : MethodName := ⟨RX6, "<init>", "(LDocumentaryCreditDesk;I)V"⟩
def dkwX6_init_1 : List UInt8 := [89, 42, 180, 0, 18, 183, 0, 24, 181, 0, 27, 42, 28, 181, 0, 31, 177]
abbrev dktX6_init_1 : List UInt8 := dkwX6_init_1 ++ []
def dkwX6_init_0 : List UInt8 := [42, 43, 181, 0, 3, 42, 183, 0, 9, 42, 187, 0, 15, 89, 183, 0, 17, 181, 0, 18, 42, 187, 0, 22]
abbrev dktX6_init_0 : List UInt8 := dkwX6_init_0 ++ dktX6_init_1
theorem dksX6_init_0 : cX6_init.data.toList.drop 0 = dktX6_init_0 := by decide +kernel
theorem dksX6_init_1 : cX6_init.data.toList.drop 24 = dktX6_init_1 := dk_seg dksX6_init_0 24 rfl rfl
theorem dX6_init_0 : decode cX6_init 0 = .ok (.aload_n 0, 1) := dk_42 (dk_at dksX6_init_0 0 rfl rfl)
theorem dX6_init_1 : decode cX6_init 1 = .ok (.aload_n 1, 1) := dk_43 (dk_at dksX6_init_0 1 rfl rfl)
theorem dX6_init_2 : decode cX6_init 2 = .ok (.putfield 3, 3) := dk_181 0 3 (dk_at dksX6_init_0 2 rfl rfl)
theorem dX6_init_5 : decode cX6_init 5 = .ok (.aload_n 0, 1) := dk_42 (dk_at dksX6_init_0 5 rfl rfl)
theorem dX6_init_6 : decode cX6_init 6 = .ok (.invokespecial 9, 3) := dk_183 0 9 (dk_at dksX6_init_0 6 rfl rfl)
theorem dX6_init_9 : decode cX6_init 9 = .ok (.aload_n 0, 1) := dk_42 (dk_at dksX6_init_0 9 rfl rfl)
theorem dX6_init_10 : decode cX6_init 10 = .ok (.new 15, 3) := dk_187 0 15 (dk_at dksX6_init_0 10 rfl rfl)
theorem dX6_init_13 : decode cX6_init 13 = .ok (.dup, 1) := dk_89 (dk_at dksX6_init_0 13 rfl rfl)
theorem dX6_init_14 : decode cX6_init 14 = .ok (.invokespecial 17, 3) := dk_183 0 17 (dk_at dksX6_init_0 14 rfl rfl)
theorem dX6_init_17 : decode cX6_init 17 = .ok (.putfield 18, 3) := dk_181 0 18 (dk_at dksX6_init_0 17 rfl rfl)
theorem dX6_init_20 : decode cX6_init 20 = .ok (.aload_n 0, 1) := dk_42 (dk_at dksX6_init_0 20 rfl rfl)
theorem dX6_init_21 : decode cX6_init 21 = .ok (.new 22, 3) := dk_187 0 22 (dk_at dksX6_init_0 21 rfl rfl)
theorem dX6_init_24 : decode cX6_init 24 = .ok (.dup, 1) := dk_89 (dk_at dksX6_init_1 0 rfl rfl)
theorem dX6_init_25 : decode cX6_init 25 = .ok (.aload_n 0, 1) := dk_42 (dk_at dksX6_init_1 1 rfl rfl)
theorem dX6_init_26 : decode cX6_init 26 = .ok (.getfield 18, 3) := dk_180 0 18 (dk_at dksX6_init_1 2 rfl rfl)
theorem dX6_init_29 : decode cX6_init 29 = .ok (.invokespecial 24, 3) := dk_183 0 24 (dk_at dksX6_init_1 5 rfl rfl)
theorem dX6_init_32 : decode cX6_init 32 = .ok (.putfield 27, 3) := dk_181 0 27 (dk_at dksX6_init_1 8 rfl rfl)
theorem dX6_init_35 : decode cX6_init 35 = .ok (.aload_n 0, 1) := dk_42 (dk_at dksX6_init_1 11 rfl rfl)
theorem dX6_init_36 : decode cX6_init 36 = .ok (.iload_n 2, 1) := dk_28 (dk_at dksX6_init_1 12 rfl rfl)
theorem dX6_init_37 : decode cX6_init 37 = .ok (.putfield 31, 3) := dk_181 0 31 (dk_at dksX6_init_1 13 rfl rfl)
theorem dX6_init_40 : decode cX6_init 40 = .ok (.return_, 1) := dk_177 (dk_at dksX6_init_1 16 rfl rfl)
abbrev cX6_parse : ByteArray := prog_9_method_18_code
def yX6_parse : MethodName := ⟨RX6, "parse", "()LDocumentaryCreditDesk$Desk;"⟩
def dkwX6_parse_1 : List UInt8 := [167, 255, 233, 42, 180, 0, 27, 176]
abbrev dktX6_parse_1 : List UInt8 := dkwX6_parse_1 ++ []
def dkwX6_parse_0 : List UInt8 := [42, 182, 0, 50, 2, 160, 0, 14, 42, 180, 0, 35, 42, 180, 0, 31, 162, 0, 10, 42, 182, 0, 214]
abbrev dktX6_parse_0 : List UInt8 := dkwX6_parse_0 ++ dktX6_parse_1
theorem dksX6_parse_0 : cX6_parse.data.toList.drop 0 = dktX6_parse_0 := by decide +kernel
theorem dksX6_parse_1 : cX6_parse.data.toList.drop 23 = dktX6_parse_1 := dk_seg dksX6_parse_0 23 rfl rfl
theorem dX6_parse_0 : decode cX6_parse 0 = .ok (.aload_n 0, 1) := dk_42 (dk_at dksX6_parse_0 0 rfl rfl)
theorem dX6_parse_1 : decode cX6_parse 1 = .ok (.invokevirtual 50, 3) := dk_182 0 50 (dk_at dksX6_parse_0 1 rfl rfl)
theorem dX6_parse_4 : decode cX6_parse 4 = .ok (.iconst (-1), 1) := dk_2 (dk_at dksX6_parse_0 4 rfl rfl)
theorem dX6_parse_5 : decode cX6_parse 5 = .ok (.if_icmp .ne 14, 3) := dk_160 0 14 (dk_at dksX6_parse_0 5 rfl rfl)
theorem dX6_parse_8 : decode cX6_parse 8 = .ok (.aload_n 0, 1) := dk_42 (dk_at dksX6_parse_0 8 rfl rfl)
theorem dX6_parse_9 : decode cX6_parse 9 = .ok (.getfield 35, 3) := dk_180 0 35 (dk_at dksX6_parse_0 9 rfl rfl)
theorem dX6_parse_12 : decode cX6_parse 12 = .ok (.aload_n 0, 1) := dk_42 (dk_at dksX6_parse_0 12 rfl rfl)
theorem dX6_parse_13 : decode cX6_parse 13 = .ok (.getfield 31, 3) := dk_180 0 31 (dk_at dksX6_parse_0 13 rfl rfl)
theorem dX6_parse_16 : decode cX6_parse 16 = .ok (.if_icmp .ge 10, 3) := dk_162 0 10 (dk_at dksX6_parse_0 16 rfl rfl)
theorem dX6_parse_19 : decode cX6_parse 19 = .ok (.aload_n 0, 1) := dk_42 (dk_at dksX6_parse_0 19 rfl rfl)
theorem dX6_parse_20 : decode cX6_parse 20 = .ok (.invokevirtual 214, 3) := dk_182 0 214 (dk_at dksX6_parse_0 20 rfl rfl)
theorem dX6_parse_23 : decode cX6_parse 23 = .ok (.goto (-23), 3) := dk_167 255 233 (dk_at dksX6_parse_1 0 rfl rfl)
theorem dX6_parse_26 : decode cX6_parse 26 = .ok (.aload_n 0, 1) := dk_42 (dk_at dksX6_parse_1 3 rfl rfl)
theorem dX6_parse_27 : decode cX6_parse 27 = .ok (.getfield 27, 3) := dk_180 0 27 (dk_at dksX6_parse_1 4 rfl rfl)
theorem dX6_parse_30 : decode cX6_parse 30 = .ok (.areturn, 1) := dk_176 (dk_at dksX6_parse_1 7 rfl rfl)
abbrev cX6_peek : ByteArray := prog_9_method_2_code
def yX6_peek : MethodName := ⟨RX6, "peek", "()I"⟩
def dkwX6_peek_2 : List UInt8 := [180, 0, 31, 162, 0, 18, 42, 180, 0, 3, 180, 0, 38, 42, 180, 0, 35, 51, 167, 0, 4, 2, 172]
abbrev dktX6_peek_2 : List UInt8 := dkwX6_peek_2 ++ []
def dkwX6_peek_1 : List UInt8 := [16, 32, 160, 0, 16, 42, 89, 180, 0, 35, 4, 96, 181, 0, 35, 167, 255, 218, 42, 180, 0, 35, 42]
abbrev dktX6_peek_1 : List UInt8 := dkwX6_peek_1 ++ dktX6_peek_2
def dkwX6_peek_0 : List UInt8 := [42, 180, 0, 35, 42, 180, 0, 31, 162, 0, 33, 42, 180, 0, 3, 180, 0, 38, 42, 180, 0, 35, 51]
abbrev dktX6_peek_0 : List UInt8 := dkwX6_peek_0 ++ dktX6_peek_1
theorem dksX6_peek_0 : cX6_peek.data.toList.drop 0 = dktX6_peek_0 := by decide +kernel
theorem dksX6_peek_1 : cX6_peek.data.toList.drop 23 = dktX6_peek_1 := dk_seg dksX6_peek_0 23 rfl rfl
theorem dksX6_peek_2 : cX6_peek.data.toList.drop 46 = dktX6_peek_2 := dk_seg dksX6_peek_1 23 rfl rfl
theorem dX6_peek_0 : decode cX6_peek 0 = .ok (.aload_n 0, 1) := dk_42 (dk_at dksX6_peek_0 0 rfl rfl)
theorem dX6_peek_1 : decode cX6_peek 1 = .ok (.getfield 35, 3) := dk_180 0 35 (dk_at dksX6_peek_0 1 rfl rfl)
theorem dX6_peek_4 : decode cX6_peek 4 = .ok (.aload_n 0, 1) := dk_42 (dk_at dksX6_peek_0 4 rfl rfl)
theorem dX6_peek_5 : decode cX6_peek 5 = .ok (.getfield 31, 3) := dk_180 0 31 (dk_at dksX6_peek_0 5 rfl rfl)
theorem dX6_peek_8 : decode cX6_peek 8 = .ok (.if_icmp .ge 33, 3) := dk_162 0 33 (dk_at dksX6_peek_0 8 rfl rfl)
theorem dX6_peek_11 : decode cX6_peek 11 = .ok (.aload_n 0, 1) := dk_42 (dk_at dksX6_peek_0 11 rfl rfl)
theorem dX6_peek_12 : decode cX6_peek 12 = .ok (.getfield 3, 3) := dk_180 0 3 (dk_at dksX6_peek_0 12 rfl rfl)
theorem dX6_peek_15 : decode cX6_peek 15 = .ok (.getfield 38, 3) := dk_180 0 38 (dk_at dksX6_peek_0 15 rfl rfl)
theorem dX6_peek_18 : decode cX6_peek 18 = .ok (.aload_n 0, 1) := dk_42 (dk_at dksX6_peek_0 18 rfl rfl)
theorem dX6_peek_19 : decode cX6_peek 19 = .ok (.getfield 35, 3) := dk_180 0 35 (dk_at dksX6_peek_0 19 rfl rfl)
theorem dX6_peek_22 : decode cX6_peek 22 = .ok (.baload, 1) := dk_51 (dk_at dksX6_peek_0 22 rfl rfl)
theorem dX6_peek_23 : decode cX6_peek 23 = .ok (.bipush 32, 2) := dk_16 32 (dk_at dksX6_peek_1 0 rfl rfl)
theorem dX6_peek_25 : decode cX6_peek 25 = .ok (.if_icmp .ne 16, 3) := dk_160 0 16 (dk_at dksX6_peek_1 2 rfl rfl)
theorem dX6_peek_28 : decode cX6_peek 28 = .ok (.aload_n 0, 1) := dk_42 (dk_at dksX6_peek_1 5 rfl rfl)
theorem dX6_peek_29 : decode cX6_peek 29 = .ok (.dup, 1) := dk_89 (dk_at dksX6_peek_1 6 rfl rfl)
theorem dX6_peek_30 : decode cX6_peek 30 = .ok (.getfield 35, 3) := dk_180 0 35 (dk_at dksX6_peek_1 7 rfl rfl)
theorem dX6_peek_33 : decode cX6_peek 33 = .ok (.iconst 1, 1) := dk_4 (dk_at dksX6_peek_1 10 rfl rfl)
theorem dX6_peek_34 : decode cX6_peek 34 = .ok (.iadd, 1) := dk_96 (dk_at dksX6_peek_1 11 rfl rfl)
theorem dX6_peek_35 : decode cX6_peek 35 = .ok (.putfield 35, 3) := dk_181 0 35 (dk_at dksX6_peek_1 12 rfl rfl)
theorem dX6_peek_38 : decode cX6_peek 38 = .ok (.goto (-38), 3) := dk_167 255 218 (dk_at dksX6_peek_1 15 rfl rfl)
theorem dX6_peek_41 : decode cX6_peek 41 = .ok (.aload_n 0, 1) := dk_42 (dk_at dksX6_peek_1 18 rfl rfl)
theorem dX6_peek_42 : decode cX6_peek 42 = .ok (.getfield 35, 3) := dk_180 0 35 (dk_at dksX6_peek_1 19 rfl rfl)
theorem dX6_peek_45 : decode cX6_peek 45 = .ok (.aload_n 0, 1) := dk_42 (dk_at dksX6_peek_1 22 rfl rfl)
theorem dX6_peek_46 : decode cX6_peek 46 = .ok (.getfield 31, 3) := dk_180 0 31 (dk_at dksX6_peek_2 0 rfl rfl)
theorem dX6_peek_49 : decode cX6_peek 49 = .ok (.if_icmp .ge 18, 3) := dk_162 0 18 (dk_at dksX6_peek_2 3 rfl rfl)
theorem dX6_peek_52 : decode cX6_peek 52 = .ok (.aload_n 0, 1) := dk_42 (dk_at dksX6_peek_2 6 rfl rfl)
theorem dX6_peek_53 : decode cX6_peek 53 = .ok (.getfield 3, 3) := dk_180 0 3 (dk_at dksX6_peek_2 7 rfl rfl)
theorem dX6_peek_56 : decode cX6_peek 56 = .ok (.getfield 38, 3) := dk_180 0 38 (dk_at dksX6_peek_2 10 rfl rfl)
theorem dX6_peek_59 : decode cX6_peek 59 = .ok (.aload_n 0, 1) := dk_42 (dk_at dksX6_peek_2 13 rfl rfl)
theorem dX6_peek_60 : decode cX6_peek 60 = .ok (.getfield 35, 3) := dk_180 0 35 (dk_at dksX6_peek_2 14 rfl rfl)
theorem dX6_peek_63 : decode cX6_peek 63 = .ok (.baload, 1) := dk_51 (dk_at dksX6_peek_2 17 rfl rfl)
theorem dX6_peek_64 : decode cX6_peek 64 = .ok (.goto 4, 3) := dk_167 0 4 (dk_at dksX6_peek_2 18 rfl rfl)
theorem dX6_peek_67 : decode cX6_peek 67 = .ok (.iconst (-1), 1) := dk_2 (dk_at dksX6_peek_2 21 rfl rfl)
theorem dX6_peek_68 : decode cX6_peek 68 = .ok (.ireturn, 1) := dk_172 (dk_at dksX6_peek_2 22 rfl rfl)
abbrev cX6_statement : ByteArray := prog_9_method_17_code
def yX6_statement : MethodName := ⟨RX6, "statement", "()V"⟩
def dkwX6_statement_10 : List UInt8 := [177]
abbrev dktX6_statement_10 : List UInt8 := dkwX6_statement_10 ++ []
def dkwX6_statement_9 : List UInt8 := [182, 0, 130, 181, 0, 211, 167, 0, 12, 187, 0, 58, 89, 28, 183, 0, 60, 191, 42, 16, 59, 182, 0, 133]
abbrev dktX6_statement_9 : List UInt8 := dkwX6_statement_9 ++ dktX6_statement_10
def dkwX6_statement_8 : List UInt8 := [154, 0, 7, 4, 167, 0, 4, 3, 28, 182, 0, 68, 42, 4, 181, 0, 207, 42, 180, 0, 27, 42]
abbrev dktX6_statement_8 : List UInt8 := dkwX6_statement_8 ++ dktX6_statement_9
def dkwX6_statement_7 : List UInt8 := [167, 0, 4, 3, 16, 252, 28, 182, 0, 112, 42, 182, 0, 205, 167, 0, 48, 42, 42, 180, 0, 207]
abbrev dktX6_statement_7 : List UInt8 := dkwX6_statement_7 ++ dktX6_statement_8
def dkwX6_statement_6 : List UInt8 := [42, 182, 0, 199, 167, 0, 80, 42, 42, 180, 0, 27, 180, 0, 179, 182, 0, 202, 154, 0, 7, 4]
abbrev dktX6_statement_6 : List UInt8 := dkwX6_statement_6 ++ dktX6_statement_7
def dkwX6_statement_5 : List UInt8 := [170, 0, 0, 0, 0, 0, 0, 103, 0, 0, 0, 0, 0, 0, 0, 2, 0, 0, 0, 28, 0, 0, 0, 35, 0, 0, 0, 67]
abbrev dktX6_statement_5 : List UInt8 := dkwX6_statement_5 ++ dktX6_statement_6
def dkwX6_statement_4 : List UInt8 := [4, 54, 4, 167, 0, 15, 45, 18, 197, 182, 0, 90, 153, 0, 6, 5, 54, 4, 21, 4]
abbrev dktX6_statement_4 : List UInt8 := dkwX6_statement_4 ++ dktX6_statement_5
def dkwX6_statement_3 : List UInt8 := [45, 18, 193, 182, 0, 90, 153, 0, 36, 3, 54, 4, 167, 0, 30, 45, 18, 195, 182, 0, 90, 153, 0, 21]
abbrev dktX6_statement_3 : List UInt8 := dkwX6_statement_3 ++ dktX6_statement_4
def dkwX6_statement_2 : List UInt8 := [171, 0, 0, 0, 0, 0, 0, 78, 0, 0, 0, 3, 175, 101, 170, 249, 0, 0, 0, 51, 0, 1, 139, 134, 0, 0, 0, 66, 65, 21, 40, 88, 0, 0, 0, 36]
abbrev dktX6_statement_2 : List UInt8 := dkwX6_statement_2 ++ dktX6_statement_3
def dkwX6_statement_1 : List UInt8 := [78, 2, 54, 4, 45, 182, 0, 143]
abbrev dktX6_statement_1 : List UInt8 := dkwX6_statement_1 ++ dktX6_statement_2
def dkwX6_statement_0 : List UInt8 := [42, 182, 0, 87, 76, 42, 180, 0, 35, 61, 42, 89, 180, 0, 35, 43, 182, 0, 96, 96, 181, 0, 35, 43]
abbrev dktX6_statement_0 : List UInt8 := dkwX6_statement_0 ++ dktX6_statement_1
theorem dksX6_statement_0 : cX6_statement.data.toList.drop 0 = dktX6_statement_0 := by decide +kernel
theorem dksX6_statement_1 : cX6_statement.data.toList.drop 24 = dktX6_statement_1 := dk_seg dksX6_statement_0 24 rfl rfl
theorem dksX6_statement_2 : cX6_statement.data.toList.drop 32 = dktX6_statement_2 := dk_seg dksX6_statement_1 8 rfl rfl
theorem dksX6_statement_3 : cX6_statement.data.toList.drop 68 = dktX6_statement_3 := dk_seg dksX6_statement_2 36 rfl rfl
theorem dksX6_statement_4 : cX6_statement.data.toList.drop 92 = dktX6_statement_4 := dk_seg dksX6_statement_3 24 rfl rfl
theorem dksX6_statement_5 : cX6_statement.data.toList.drop 112 = dktX6_statement_5 := dk_seg dksX6_statement_4 20 rfl rfl
theorem dksX6_statement_6 : cX6_statement.data.toList.drop 140 = dktX6_statement_6 := dk_seg dksX6_statement_5 28 rfl rfl
theorem dksX6_statement_7 : cX6_statement.data.toList.drop 162 = dktX6_statement_7 := dk_seg dksX6_statement_6 22 rfl rfl
theorem dksX6_statement_8 : cX6_statement.data.toList.drop 184 = dktX6_statement_8 := dk_seg dksX6_statement_7 22 rfl rfl
theorem dksX6_statement_9 : cX6_statement.data.toList.drop 206 = dktX6_statement_9 := dk_seg dksX6_statement_8 22 rfl rfl
theorem dksX6_statement_10 : cX6_statement.data.toList.drop 230 = dktX6_statement_10 := dk_seg dksX6_statement_9 24 rfl rfl
theorem dX6_statement_0 : decode cX6_statement 0 = .ok (.aload_n 0, 1) := dk_42 (dk_at dksX6_statement_0 0 rfl rfl)
theorem dX6_statement_1 : decode cX6_statement 1 = .ok (.invokevirtual 87, 3) := dk_182 0 87 (dk_at dksX6_statement_0 1 rfl rfl)
theorem dX6_statement_4 : decode cX6_statement 4 = .ok (.astore_n 1, 1) := dk_76 (dk_at dksX6_statement_0 4 rfl rfl)
theorem dX6_statement_5 : decode cX6_statement 5 = .ok (.aload_n 0, 1) := dk_42 (dk_at dksX6_statement_0 5 rfl rfl)
theorem dX6_statement_6 : decode cX6_statement 6 = .ok (.getfield 35, 3) := dk_180 0 35 (dk_at dksX6_statement_0 6 rfl rfl)
theorem dX6_statement_9 : decode cX6_statement 9 = .ok (.istore_n 2, 1) := dk_61 (dk_at dksX6_statement_0 9 rfl rfl)
theorem dX6_statement_10 : decode cX6_statement 10 = .ok (.aload_n 0, 1) := dk_42 (dk_at dksX6_statement_0 10 rfl rfl)
theorem dX6_statement_11 : decode cX6_statement 11 = .ok (.dup, 1) := dk_89 (dk_at dksX6_statement_0 11 rfl rfl)
theorem dX6_statement_12 : decode cX6_statement 12 = .ok (.getfield 35, 3) := dk_180 0 35 (dk_at dksX6_statement_0 12 rfl rfl)
theorem dX6_statement_15 : decode cX6_statement 15 = .ok (.aload_n 1, 1) := dk_43 (dk_at dksX6_statement_0 15 rfl rfl)
theorem dX6_statement_16 : decode cX6_statement 16 = .ok (.invokevirtual 96, 3) := dk_182 0 96 (dk_at dksX6_statement_0 16 rfl rfl)
theorem dX6_statement_19 : decode cX6_statement 19 = .ok (.iadd, 1) := dk_96 (dk_at dksX6_statement_0 19 rfl rfl)
theorem dX6_statement_20 : decode cX6_statement 20 = .ok (.putfield 35, 3) := dk_181 0 35 (dk_at dksX6_statement_0 20 rfl rfl)
theorem dX6_statement_23 : decode cX6_statement 23 = .ok (.aload_n 1, 1) := dk_43 (dk_at dksX6_statement_0 23 rfl rfl)
theorem dX6_statement_24 : decode cX6_statement 24 = .ok (.astore_n 3, 1) := dk_78 (dk_at dksX6_statement_1 0 rfl rfl)
theorem dX6_statement_25 : decode cX6_statement 25 = .ok (.iconst (-1), 1) := dk_2 (dk_at dksX6_statement_1 1 rfl rfl)
theorem dX6_statement_26 : decode cX6_statement 26 = .ok (.istore 4, 2) := dk_54 4 (dk_at dksX6_statement_1 2 rfl rfl)
theorem dX6_statement_28 : decode cX6_statement 28 = .ok (.aload_n 3, 1) := dk_45 (dk_at dksX6_statement_1 4 rfl rfl)
theorem dX6_statement_29 : decode cX6_statement 29 = .ok (.invokevirtual 143, 3) := dk_182 0 143 (dk_at dksX6_statement_1 5 rfl rfl)
theorem dX6_statement_32 : decode cX6_statement 32 = .ok (.lookupswitch 78 #[(-1352291591, 51), (101254, 66), (1091905624, 36)], 36) := by decide +kernel
theorem dX6_statement_68 : decode cX6_statement 68 = .ok (.aload_n 3, 1) := dk_45 (dk_at dksX6_statement_3 0 rfl rfl)
theorem dX6_statement_69 : decode cX6_statement 69 = .ok (.ldc 193, 2) := dk_18 193 (dk_at dksX6_statement_3 1 rfl rfl)
theorem dX6_statement_71 : decode cX6_statement 71 = .ok (.invokevirtual 90, 3) := dk_182 0 90 (dk_at dksX6_statement_3 3 rfl rfl)
theorem dX6_statement_74 : decode cX6_statement 74 = .ok (.ifCond .eq 36, 3) := dk_153 0 36 (dk_at dksX6_statement_3 6 rfl rfl)
theorem dX6_statement_77 : decode cX6_statement 77 = .ok (.iconst 0, 1) := dk_3 (dk_at dksX6_statement_3 9 rfl rfl)
theorem dX6_statement_78 : decode cX6_statement 78 = .ok (.istore 4, 2) := dk_54 4 (dk_at dksX6_statement_3 10 rfl rfl)
theorem dX6_statement_80 : decode cX6_statement 80 = .ok (.goto 30, 3) := dk_167 0 30 (dk_at dksX6_statement_3 12 rfl rfl)
theorem dX6_statement_83 : decode cX6_statement 83 = .ok (.aload_n 3, 1) := dk_45 (dk_at dksX6_statement_3 15 rfl rfl)
theorem dX6_statement_84 : decode cX6_statement 84 = .ok (.ldc 195, 2) := dk_18 195 (dk_at dksX6_statement_3 16 rfl rfl)
theorem dX6_statement_86 : decode cX6_statement 86 = .ok (.invokevirtual 90, 3) := dk_182 0 90 (dk_at dksX6_statement_3 18 rfl rfl)
theorem dX6_statement_89 : decode cX6_statement 89 = .ok (.ifCond .eq 21, 3) := dk_153 0 21 (dk_at dksX6_statement_3 21 rfl rfl)
theorem dX6_statement_92 : decode cX6_statement 92 = .ok (.iconst 1, 1) := dk_4 (dk_at dksX6_statement_4 0 rfl rfl)
theorem dX6_statement_93 : decode cX6_statement 93 = .ok (.istore 4, 2) := dk_54 4 (dk_at dksX6_statement_4 1 rfl rfl)
theorem dX6_statement_95 : decode cX6_statement 95 = .ok (.goto 15, 3) := dk_167 0 15 (dk_at dksX6_statement_4 3 rfl rfl)
theorem dX6_statement_98 : decode cX6_statement 98 = .ok (.aload_n 3, 1) := dk_45 (dk_at dksX6_statement_4 6 rfl rfl)
theorem dX6_statement_99 : decode cX6_statement 99 = .ok (.ldc 197, 2) := dk_18 197 (dk_at dksX6_statement_4 7 rfl rfl)
theorem dX6_statement_101 : decode cX6_statement 101 = .ok (.invokevirtual 90, 3) := dk_182 0 90 (dk_at dksX6_statement_4 9 rfl rfl)
theorem dX6_statement_104 : decode cX6_statement 104 = .ok (.ifCond .eq 6, 3) := dk_153 0 6 (dk_at dksX6_statement_4 12 rfl rfl)
theorem dX6_statement_107 : decode cX6_statement 107 = .ok (.iconst 2, 1) := dk_5 (dk_at dksX6_statement_4 15 rfl rfl)
theorem dX6_statement_108 : decode cX6_statement 108 = .ok (.istore 4, 2) := dk_54 4 (dk_at dksX6_statement_4 16 rfl rfl)
theorem dX6_statement_110 : decode cX6_statement 110 = .ok (.iload 4, 2) := dk_21 4 (dk_at dksX6_statement_4 18 rfl rfl)
theorem dX6_statement_112 : decode cX6_statement 112 = .ok (.tableswitch 103 0 2 #[28, 35, 67], 28) := by decide +kernel
theorem dX6_statement_140 : decode cX6_statement 140 = .ok (.aload_n 0, 1) := dk_42 (dk_at dksX6_statement_6 0 rfl rfl)
theorem dX6_statement_141 : decode cX6_statement 141 = .ok (.invokevirtual 199, 3) := dk_182 0 199 (dk_at dksX6_statement_6 1 rfl rfl)
theorem dX6_statement_144 : decode cX6_statement 144 = .ok (.goto 80, 3) := dk_167 0 80 (dk_at dksX6_statement_6 4 rfl rfl)
theorem dX6_statement_147 : decode cX6_statement 147 = .ok (.aload_n 0, 1) := dk_42 (dk_at dksX6_statement_6 7 rfl rfl)
theorem dX6_statement_148 : decode cX6_statement 148 = .ok (.aload_n 0, 1) := dk_42 (dk_at dksX6_statement_6 8 rfl rfl)
theorem dX6_statement_149 : decode cX6_statement 149 = .ok (.getfield 27, 3) := dk_180 0 27 (dk_at dksX6_statement_6 9 rfl rfl)
theorem dX6_statement_152 : decode cX6_statement 152 = .ok (.getfield 179, 3) := dk_180 0 179 (dk_at dksX6_statement_6 12 rfl rfl)
theorem dX6_statement_155 : decode cX6_statement 155 = .ok (.invokevirtual 202, 3) := dk_182 0 202 (dk_at dksX6_statement_6 15 rfl rfl)
theorem dX6_statement_158 : decode cX6_statement 158 = .ok (.ifCond .ne 7, 3) := dk_154 0 7 (dk_at dksX6_statement_6 18 rfl rfl)
theorem dX6_statement_161 : decode cX6_statement 161 = .ok (.iconst 1, 1) := dk_4 (dk_at dksX6_statement_6 21 rfl rfl)
theorem dX6_statement_162 : decode cX6_statement 162 = .ok (.goto 4, 3) := dk_167 0 4 (dk_at dksX6_statement_7 0 rfl rfl)
theorem dX6_statement_165 : decode cX6_statement 165 = .ok (.iconst 0, 1) := dk_3 (dk_at dksX6_statement_7 3 rfl rfl)
theorem dX6_statement_166 : decode cX6_statement 166 = .ok (.bipush (-4), 2) := dk_16 252 (dk_at dksX6_statement_7 4 rfl rfl)
theorem dX6_statement_168 : decode cX6_statement 168 = .ok (.iload_n 2, 1) := dk_28 (dk_at dksX6_statement_7 6 rfl rfl)
theorem dX6_statement_169 : decode cX6_statement 169 = .ok (.invokevirtual 112, 3) := dk_182 0 112 (dk_at dksX6_statement_7 7 rfl rfl)
theorem dX6_statement_172 : decode cX6_statement 172 = .ok (.aload_n 0, 1) := dk_42 (dk_at dksX6_statement_7 10 rfl rfl)
theorem dX6_statement_173 : decode cX6_statement 173 = .ok (.invokevirtual 205, 3) := dk_182 0 205 (dk_at dksX6_statement_7 11 rfl rfl)
theorem dX6_statement_176 : decode cX6_statement 176 = .ok (.goto 48, 3) := dk_167 0 48 (dk_at dksX6_statement_7 14 rfl rfl)
theorem dX6_statement_179 : decode cX6_statement 179 = .ok (.aload_n 0, 1) := dk_42 (dk_at dksX6_statement_7 17 rfl rfl)
theorem dX6_statement_180 : decode cX6_statement 180 = .ok (.aload_n 0, 1) := dk_42 (dk_at dksX6_statement_7 18 rfl rfl)
theorem dX6_statement_181 : decode cX6_statement 181 = .ok (.getfield 207, 3) := dk_180 0 207 (dk_at dksX6_statement_7 19 rfl rfl)
theorem dX6_statement_184 : decode cX6_statement 184 = .ok (.ifCond .ne 7, 3) := dk_154 0 7 (dk_at dksX6_statement_8 0 rfl rfl)
theorem dX6_statement_187 : decode cX6_statement 187 = .ok (.iconst 1, 1) := dk_4 (dk_at dksX6_statement_8 3 rfl rfl)
theorem dX6_statement_188 : decode cX6_statement 188 = .ok (.goto 4, 3) := dk_167 0 4 (dk_at dksX6_statement_8 4 rfl rfl)
theorem dX6_statement_191 : decode cX6_statement 191 = .ok (.iconst 0, 1) := dk_3 (dk_at dksX6_statement_8 7 rfl rfl)
theorem dX6_statement_192 : decode cX6_statement 192 = .ok (.iload_n 2, 1) := dk_28 (dk_at dksX6_statement_8 8 rfl rfl)
theorem dX6_statement_193 : decode cX6_statement 193 = .ok (.invokevirtual 68, 3) := dk_182 0 68 (dk_at dksX6_statement_8 9 rfl rfl)
theorem dX6_statement_196 : decode cX6_statement 196 = .ok (.aload_n 0, 1) := dk_42 (dk_at dksX6_statement_8 12 rfl rfl)
theorem dX6_statement_197 : decode cX6_statement 197 = .ok (.iconst 1, 1) := dk_4 (dk_at dksX6_statement_8 13 rfl rfl)
theorem dX6_statement_198 : decode cX6_statement 198 = .ok (.putfield 207, 3) := dk_181 0 207 (dk_at dksX6_statement_8 14 rfl rfl)
theorem dX6_statement_201 : decode cX6_statement 201 = .ok (.aload_n 0, 1) := dk_42 (dk_at dksX6_statement_8 17 rfl rfl)
theorem dX6_statement_202 : decode cX6_statement 202 = .ok (.getfield 27, 3) := dk_180 0 27 (dk_at dksX6_statement_8 18 rfl rfl)
theorem dX6_statement_205 : decode cX6_statement 205 = .ok (.aload_n 0, 1) := dk_42 (dk_at dksX6_statement_8 21 rfl rfl)
theorem dX6_statement_206 : decode cX6_statement 206 = .ok (.invokevirtual 130, 3) := dk_182 0 130 (dk_at dksX6_statement_9 0 rfl rfl)
theorem dX6_statement_209 : decode cX6_statement 209 = .ok (.putfield 211, 3) := dk_181 0 211 (dk_at dksX6_statement_9 3 rfl rfl)
theorem dX6_statement_212 : decode cX6_statement 212 = .ok (.goto 12, 3) := dk_167 0 12 (dk_at dksX6_statement_9 6 rfl rfl)
theorem dX6_statement_215 : decode cX6_statement 215 = .ok (.new 58, 3) := dk_187 0 58 (dk_at dksX6_statement_9 9 rfl rfl)
theorem dX6_statement_218 : decode cX6_statement 218 = .ok (.dup, 1) := dk_89 (dk_at dksX6_statement_9 12 rfl rfl)
theorem dX6_statement_219 : decode cX6_statement 219 = .ok (.iload_n 2, 1) := dk_28 (dk_at dksX6_statement_9 13 rfl rfl)
theorem dX6_statement_220 : decode cX6_statement 220 = .ok (.invokespecial 60, 3) := dk_183 0 60 (dk_at dksX6_statement_9 14 rfl rfl)
theorem dX6_statement_223 : decode cX6_statement 223 = .ok (.athrow, 1) := dk_191 (dk_at dksX6_statement_9 17 rfl rfl)
theorem dX6_statement_224 : decode cX6_statement 224 = .ok (.aload_n 0, 1) := dk_42 (dk_at dksX6_statement_9 18 rfl rfl)
theorem dX6_statement_225 : decode cX6_statement 225 = .ok (.bipush 59, 2) := dk_16 59 (dk_at dksX6_statement_9 19 rfl rfl)
theorem dX6_statement_227 : decode cX6_statement 227 = .ok (.invokevirtual 133, 3) := dk_182 0 133 (dk_at dksX6_statement_9 21 rfl rfl)
theorem dX6_statement_230 : decode cX6_statement 230 = .ok (.return_, 1) := dk_177 (dk_at dksX6_statement_10 0 rfl rfl)
abbrev cX6_word : ByteArray := prog_9_method_8_code
def yX6_word : MethodName := ⟨RX6, "word", "()Ljava/lang/String;"⟩
def dkwX6_word_2 : List UInt8 := [43, 182, 0, 83, 176]
abbrev dktX6_word_2 : List UInt8 := dkwX6_word_2 ++ []
def dkwX6_word_1 : List UInt8 := [153, 0, 24, 43, 42, 180, 0, 3, 180, 0, 38, 28, 51, 146, 182, 0, 79, 87, 132, 2, 1, 167, 255, 230]
abbrev dktX6_word_1 : List UInt8 := dkwX6_word_1 ++ dktX6_word_2
def dkwX6_word_0 : List UInt8 := [42, 182, 0, 50, 87, 187, 0, 72, 89, 183, 0, 74, 76, 42, 180, 0, 35, 61, 42, 28, 182, 0, 75]
abbrev dktX6_word_0 : List UInt8 := dkwX6_word_0 ++ dktX6_word_1
theorem dksX6_word_0 : cX6_word.data.toList.drop 0 = dktX6_word_0 := by decide +kernel
theorem dksX6_word_1 : cX6_word.data.toList.drop 23 = dktX6_word_1 := dk_seg dksX6_word_0 23 rfl rfl
theorem dksX6_word_2 : cX6_word.data.toList.drop 47 = dktX6_word_2 := dk_seg dksX6_word_1 24 rfl rfl
theorem dX6_word_0 : decode cX6_word 0 = .ok (.aload_n 0, 1) := dk_42 (dk_at dksX6_word_0 0 rfl rfl)
theorem dX6_word_1 : decode cX6_word 1 = .ok (.invokevirtual 50, 3) := dk_182 0 50 (dk_at dksX6_word_0 1 rfl rfl)
theorem dX6_word_4 : decode cX6_word 4 = .ok (.pop, 1) := dk_87 (dk_at dksX6_word_0 4 rfl rfl)
theorem dX6_word_5 : decode cX6_word 5 = .ok (.new 72, 3) := dk_187 0 72 (dk_at dksX6_word_0 5 rfl rfl)
theorem dX6_word_8 : decode cX6_word 8 = .ok (.dup, 1) := dk_89 (dk_at dksX6_word_0 8 rfl rfl)
theorem dX6_word_9 : decode cX6_word 9 = .ok (.invokespecial 74, 3) := dk_183 0 74 (dk_at dksX6_word_0 9 rfl rfl)
theorem dX6_word_12 : decode cX6_word 12 = .ok (.astore_n 1, 1) := dk_76 (dk_at dksX6_word_0 12 rfl rfl)
theorem dX6_word_13 : decode cX6_word 13 = .ok (.aload_n 0, 1) := dk_42 (dk_at dksX6_word_0 13 rfl rfl)
theorem dX6_word_14 : decode cX6_word 14 = .ok (.getfield 35, 3) := dk_180 0 35 (dk_at dksX6_word_0 14 rfl rfl)
theorem dX6_word_17 : decode cX6_word 17 = .ok (.istore_n 2, 1) := dk_61 (dk_at dksX6_word_0 17 rfl rfl)
theorem dX6_word_18 : decode cX6_word 18 = .ok (.aload_n 0, 1) := dk_42 (dk_at dksX6_word_0 18 rfl rfl)
theorem dX6_word_19 : decode cX6_word 19 = .ok (.iload_n 2, 1) := dk_28 (dk_at dksX6_word_0 19 rfl rfl)
theorem dX6_word_20 : decode cX6_word 20 = .ok (.invokevirtual 75, 3) := dk_182 0 75 (dk_at dksX6_word_0 20 rfl rfl)
theorem dX6_word_23 : decode cX6_word 23 = .ok (.ifCond .eq 24, 3) := dk_153 0 24 (dk_at dksX6_word_1 0 rfl rfl)
theorem dX6_word_26 : decode cX6_word 26 = .ok (.aload_n 1, 1) := dk_43 (dk_at dksX6_word_1 3 rfl rfl)
theorem dX6_word_27 : decode cX6_word 27 = .ok (.aload_n 0, 1) := dk_42 (dk_at dksX6_word_1 4 rfl rfl)
theorem dX6_word_28 : decode cX6_word 28 = .ok (.getfield 3, 3) := dk_180 0 3 (dk_at dksX6_word_1 5 rfl rfl)
theorem dX6_word_31 : decode cX6_word 31 = .ok (.getfield 38, 3) := dk_180 0 38 (dk_at dksX6_word_1 8 rfl rfl)
theorem dX6_word_34 : decode cX6_word 34 = .ok (.iload_n 2, 1) := dk_28 (dk_at dksX6_word_1 11 rfl rfl)
theorem dX6_word_35 : decode cX6_word 35 = .ok (.baload, 1) := dk_51 (dk_at dksX6_word_1 12 rfl rfl)
theorem dX6_word_36 : decode cX6_word 36 = .ok (.i2c, 1) := dk_146 (dk_at dksX6_word_1 13 rfl rfl)
theorem dX6_word_37 : decode cX6_word 37 = .ok (.invokevirtual 79, 3) := dk_182 0 79 (dk_at dksX6_word_1 14 rfl rfl)
theorem dX6_word_40 : decode cX6_word 40 = .ok (.pop, 1) := dk_87 (dk_at dksX6_word_1 17 rfl rfl)
theorem dX6_word_41 : decode cX6_word 41 = .ok (.iinc 2 1, 3) := dk_132 2 1 (dk_at dksX6_word_1 18 rfl rfl)
theorem dX6_word_44 : decode cX6_word 44 = .ok (.goto (-26), 3) := dk_167 255 230 (dk_at dksX6_word_1 21 rfl rfl)
theorem dX6_word_47 : decode cX6_word 47 = .ok (.aload_n 1, 1) := dk_43 (dk_at dksX6_word_2 0 rfl rfl)
theorem dX6_word_48 : decode cX6_word 48 = .ok (.invokevirtual 83, 3) := dk_182 0 83 (dk_at dksX6_word_2 1 rfl rfl)
theorem dX6_word_51 : decode cX6_word 51 = .ok (.areturn, 1) := dk_176 (dk_at dksX6_word_2 4 rfl rfl)
abbrev cX6_isLetterAt : ByteArray := prog_9_method_3_code
def yX6_isLetterAt : MethodName := ⟨RX6, "isLetterAt", "(I)Z"⟩
def dkwX6_isLetterAt_1 : List UInt8 := [184, 0, 46, 153, 0, 7, 4, 167, 0, 4, 3, 172]
abbrev dktX6_isLetterAt_1 : List UInt8 := dkwX6_isLetterAt_1 ++ []
def dkwX6_isLetterAt_0 : List UInt8 := [27, 42, 180, 0, 31, 162, 0, 29, 42, 180, 0, 3, 180, 0, 38, 27, 51, 133, 20, 0, 42, 20, 0, 44]
abbrev dktX6_isLetterAt_0 : List UInt8 := dkwX6_isLetterAt_0 ++ dktX6_isLetterAt_1
theorem dksX6_isLetterAt_0 : cX6_isLetterAt.data.toList.drop 0 = dktX6_isLetterAt_0 := by decide +kernel
theorem dksX6_isLetterAt_1 : cX6_isLetterAt.data.toList.drop 24 = dktX6_isLetterAt_1 := dk_seg dksX6_isLetterAt_0 24 rfl rfl
theorem dX6_isLetterAt_0 : decode cX6_isLetterAt 0 = .ok (.iload_n 1, 1) := dk_27 (dk_at dksX6_isLetterAt_0 0 rfl rfl)
theorem dX6_isLetterAt_1 : decode cX6_isLetterAt 1 = .ok (.aload_n 0, 1) := dk_42 (dk_at dksX6_isLetterAt_0 1 rfl rfl)
theorem dX6_isLetterAt_2 : decode cX6_isLetterAt 2 = .ok (.getfield 31, 3) := dk_180 0 31 (dk_at dksX6_isLetterAt_0 2 rfl rfl)
theorem dX6_isLetterAt_5 : decode cX6_isLetterAt 5 = .ok (.if_icmp .ge 29, 3) := dk_162 0 29 (dk_at dksX6_isLetterAt_0 5 rfl rfl)
theorem dX6_isLetterAt_8 : decode cX6_isLetterAt 8 = .ok (.aload_n 0, 1) := dk_42 (dk_at dksX6_isLetterAt_0 8 rfl rfl)
theorem dX6_isLetterAt_9 : decode cX6_isLetterAt 9 = .ok (.getfield 3, 3) := dk_180 0 3 (dk_at dksX6_isLetterAt_0 9 rfl rfl)
theorem dX6_isLetterAt_12 : decode cX6_isLetterAt 12 = .ok (.getfield 38, 3) := dk_180 0 38 (dk_at dksX6_isLetterAt_0 12 rfl rfl)
theorem dX6_isLetterAt_15 : decode cX6_isLetterAt 15 = .ok (.iload_n 1, 1) := dk_27 (dk_at dksX6_isLetterAt_0 15 rfl rfl)
theorem dX6_isLetterAt_16 : decode cX6_isLetterAt 16 = .ok (.baload, 1) := dk_51 (dk_at dksX6_isLetterAt_0 16 rfl rfl)
theorem dX6_isLetterAt_17 : decode cX6_isLetterAt 17 = .ok (.i2l, 1) := dk_133 (dk_at dksX6_isLetterAt_0 17 rfl rfl)
theorem dX6_isLetterAt_18 : decode cX6_isLetterAt 18 = .ok (.ldc2_w 42, 3) := dk_20 0 42 (dk_at dksX6_isLetterAt_0 18 rfl rfl)
theorem dX6_isLetterAt_21 : decode cX6_isLetterAt 21 = .ok (.ldc2_w 44, 3) := dk_20 0 44 (dk_at dksX6_isLetterAt_0 21 rfl rfl)
theorem dX6_isLetterAt_24 : decode cX6_isLetterAt 24 = .ok (.invokestatic 46, 3) := dk_184 0 46 (dk_at dksX6_isLetterAt_1 0 rfl rfl)
theorem dX6_isLetterAt_27 : decode cX6_isLetterAt 27 = .ok (.ifCond .eq 7, 3) := dk_153 0 7 (dk_at dksX6_isLetterAt_1 3 rfl rfl)
theorem dX6_isLetterAt_30 : decode cX6_isLetterAt 30 = .ok (.iconst 1, 1) := dk_4 (dk_at dksX6_isLetterAt_1 6 rfl rfl)
theorem dX6_isLetterAt_31 : decode cX6_isLetterAt 31 = .ok (.goto 4, 3) := dk_167 0 4 (dk_at dksX6_isLetterAt_1 7 rfl rfl)
theorem dX6_isLetterAt_34 : decode cX6_isLetterAt 34 = .ok (.iconst 0, 1) := dk_3 (dk_at dksX6_isLetterAt_1 10 rfl rfl)
theorem dX6_isLetterAt_35 : decode cX6_isLetterAt 35 = .ok (.ireturn, 1) := dk_172 (dk_at dksX6_isLetterAt_1 11 rfl rfl)
abbrev cX6_holidays : ByteArray := prog_9_method_14_code
def yX6_holidays : MethodName := ⟨RX6, "holidays", "()V"⟩
def dkwX6_holidays_3 : List UInt8 := [182, 0, 162, 42, 182, 0, 98, 154, 255, 182, 177]
abbrev dktX6_holidays_3 : List UInt8 := dkwX6_holidays_3 ++ []
def dkwX6_holidays_2 : List UInt8 := [162, 0, 7, 4, 167, 0, 4, 3, 16, 252, 42, 180, 0, 102, 182, 0, 112, 42, 180, 0, 18, 27]
abbrev dktX6_holidays_2 : List UInt8 := dkwX6_holidays_2 ++ dktX6_holidays_3
def dkwX6_holidays_1 : List UInt8 := [167, 0, 4, 3, 16, 253, 42, 180, 0, 102, 182, 0, 112, 42, 42, 180, 0, 18, 180, 0, 159, 16, 16]
abbrev dktX6_holidays_1 : List UInt8 := dkwX6_holidays_1 ++ dktX6_holidays_2
def dkwX6_holidays_0 : List UInt8 := [42, 3, 17, 3, 231, 182, 0, 136, 60, 42, 42, 180, 0, 18, 27, 182, 0, 156, 154, 0, 7, 4]
abbrev dktX6_holidays_0 : List UInt8 := dkwX6_holidays_0 ++ dktX6_holidays_1
theorem dksX6_holidays_0 : cX6_holidays.data.toList.drop 0 = dktX6_holidays_0 := by decide +kernel
theorem dksX6_holidays_1 : cX6_holidays.data.toList.drop 22 = dktX6_holidays_1 := dk_seg dksX6_holidays_0 22 rfl rfl
theorem dksX6_holidays_2 : cX6_holidays.data.toList.drop 45 = dktX6_holidays_2 := dk_seg dksX6_holidays_1 23 rfl rfl
theorem dksX6_holidays_3 : cX6_holidays.data.toList.drop 67 = dktX6_holidays_3 := dk_seg dksX6_holidays_2 22 rfl rfl
theorem dX6_holidays_0 : decode cX6_holidays 0 = .ok (.aload_n 0, 1) := dk_42 (dk_at dksX6_holidays_0 0 rfl rfl)
theorem dX6_holidays_1 : decode cX6_holidays 1 = .ok (.iconst 0, 1) := dk_3 (dk_at dksX6_holidays_0 1 rfl rfl)
theorem dX6_holidays_2 : decode cX6_holidays 2 = .ok (.sipush 999, 3) := dk_17 3 231 (dk_at dksX6_holidays_0 2 rfl rfl)
theorem dX6_holidays_5 : decode cX6_holidays 5 = .ok (.invokevirtual 136, 3) := dk_182 0 136 (dk_at dksX6_holidays_0 5 rfl rfl)
theorem dX6_holidays_8 : decode cX6_holidays 8 = .ok (.istore_n 1, 1) := dk_60 (dk_at dksX6_holidays_0 8 rfl rfl)
theorem dX6_holidays_9 : decode cX6_holidays 9 = .ok (.aload_n 0, 1) := dk_42 (dk_at dksX6_holidays_0 9 rfl rfl)
theorem dX6_holidays_10 : decode cX6_holidays 10 = .ok (.aload_n 0, 1) := dk_42 (dk_at dksX6_holidays_0 10 rfl rfl)
theorem dX6_holidays_11 : decode cX6_holidays 11 = .ok (.getfield 18, 3) := dk_180 0 18 (dk_at dksX6_holidays_0 11 rfl rfl)
theorem dX6_holidays_14 : decode cX6_holidays 14 = .ok (.iload_n 1, 1) := dk_27 (dk_at dksX6_holidays_0 14 rfl rfl)
theorem dX6_holidays_15 : decode cX6_holidays 15 = .ok (.invokevirtual 156, 3) := dk_182 0 156 (dk_at dksX6_holidays_0 15 rfl rfl)
theorem dX6_holidays_18 : decode cX6_holidays 18 = .ok (.ifCond .ne 7, 3) := dk_154 0 7 (dk_at dksX6_holidays_0 18 rfl rfl)
theorem dX6_holidays_21 : decode cX6_holidays 21 = .ok (.iconst 1, 1) := dk_4 (dk_at dksX6_holidays_0 21 rfl rfl)
theorem dX6_holidays_22 : decode cX6_holidays 22 = .ok (.goto 4, 3) := dk_167 0 4 (dk_at dksX6_holidays_1 0 rfl rfl)
theorem dX6_holidays_25 : decode cX6_holidays 25 = .ok (.iconst 0, 1) := dk_3 (dk_at dksX6_holidays_1 3 rfl rfl)
theorem dX6_holidays_26 : decode cX6_holidays 26 = .ok (.bipush (-3), 2) := dk_16 253 (dk_at dksX6_holidays_1 4 rfl rfl)
theorem dX6_holidays_28 : decode cX6_holidays 28 = .ok (.aload_n 0, 1) := dk_42 (dk_at dksX6_holidays_1 6 rfl rfl)
theorem dX6_holidays_29 : decode cX6_holidays 29 = .ok (.getfield 102, 3) := dk_180 0 102 (dk_at dksX6_holidays_1 7 rfl rfl)
theorem dX6_holidays_32 : decode cX6_holidays 32 = .ok (.invokevirtual 112, 3) := dk_182 0 112 (dk_at dksX6_holidays_1 10 rfl rfl)
theorem dX6_holidays_35 : decode cX6_holidays 35 = .ok (.aload_n 0, 1) := dk_42 (dk_at dksX6_holidays_1 13 rfl rfl)
theorem dX6_holidays_36 : decode cX6_holidays 36 = .ok (.aload_n 0, 1) := dk_42 (dk_at dksX6_holidays_1 14 rfl rfl)
theorem dX6_holidays_37 : decode cX6_holidays 37 = .ok (.getfield 18, 3) := dk_180 0 18 (dk_at dksX6_holidays_1 15 rfl rfl)
theorem dX6_holidays_40 : decode cX6_holidays 40 = .ok (.getfield 159, 3) := dk_180 0 159 (dk_at dksX6_holidays_1 18 rfl rfl)
theorem dX6_holidays_43 : decode cX6_holidays 43 = .ok (.bipush 16, 2) := dk_16 16 (dk_at dksX6_holidays_1 21 rfl rfl)
theorem dX6_holidays_45 : decode cX6_holidays 45 = .ok (.if_icmp .ge 7, 3) := dk_162 0 7 (dk_at dksX6_holidays_2 0 rfl rfl)
theorem dX6_holidays_48 : decode cX6_holidays 48 = .ok (.iconst 1, 1) := dk_4 (dk_at dksX6_holidays_2 3 rfl rfl)
theorem dX6_holidays_49 : decode cX6_holidays 49 = .ok (.goto 4, 3) := dk_167 0 4 (dk_at dksX6_holidays_2 4 rfl rfl)
theorem dX6_holidays_52 : decode cX6_holidays 52 = .ok (.iconst 0, 1) := dk_3 (dk_at dksX6_holidays_2 7 rfl rfl)
theorem dX6_holidays_53 : decode cX6_holidays 53 = .ok (.bipush (-4), 2) := dk_16 252 (dk_at dksX6_holidays_2 8 rfl rfl)
theorem dX6_holidays_55 : decode cX6_holidays 55 = .ok (.aload_n 0, 1) := dk_42 (dk_at dksX6_holidays_2 10 rfl rfl)
theorem dX6_holidays_56 : decode cX6_holidays 56 = .ok (.getfield 102, 3) := dk_180 0 102 (dk_at dksX6_holidays_2 11 rfl rfl)
theorem dX6_holidays_59 : decode cX6_holidays 59 = .ok (.invokevirtual 112, 3) := dk_182 0 112 (dk_at dksX6_holidays_2 14 rfl rfl)
theorem dX6_holidays_62 : decode cX6_holidays 62 = .ok (.aload_n 0, 1) := dk_42 (dk_at dksX6_holidays_2 17 rfl rfl)
theorem dX6_holidays_63 : decode cX6_holidays 63 = .ok (.getfield 18, 3) := dk_180 0 18 (dk_at dksX6_holidays_2 18 rfl rfl)
theorem dX6_holidays_66 : decode cX6_holidays 66 = .ok (.iload_n 1, 1) := dk_27 (dk_at dksX6_holidays_2 21 rfl rfl)
theorem dX6_holidays_67 : decode cX6_holidays 67 = .ok (.invokevirtual 162, 3) := dk_182 0 162 (dk_at dksX6_holidays_3 0 rfl rfl)
theorem dX6_holidays_70 : decode cX6_holidays 70 = .ok (.aload_n 0, 1) := dk_42 (dk_at dksX6_holidays_3 3 rfl rfl)
theorem dX6_holidays_71 : decode cX6_holidays 71 = .ok (.invokevirtual 98, 3) := dk_182 0 98 (dk_at dksX6_holidays_3 4 rfl rfl)
theorem dX6_holidays_74 : decode cX6_holidays 74 = .ok (.ifCond .ne (-74), 3) := dk_154 255 182 (dk_at dksX6_holidays_3 7 rfl rfl)
theorem dX6_holidays_77 : decode cX6_holidays 77 = .ok (.return_, 1) := dk_177 (dk_at dksX6_holidays_3 10 rfl rfl)
abbrev cX6_number : ByteArray := prog_9_method_10_code
def yX6_number : MethodName := ⟨RX6, "number", "(II)I"⟩
def dkwX6_number_5 : List UInt8 := [42, 180, 0, 102, 182, 0, 112, 21, 4, 172]
abbrev dktX6_number_5 : List UInt8 := dkwX6_number_5 ++ []
def dkwX6_number_4 : List UInt8 := [180, 0, 35, 4, 96, 181, 0, 35, 167, 255, 182, 42, 21, 4, 133, 27, 133, 28, 133, 184, 0, 46, 16, 253]
abbrev dktX6_number_4 : List UInt8 := dkwX6_number_4 ++ dktX6_number_5
def dkwX6_number_3 : List UInt8 := [180, 0, 3, 180, 0, 38, 42, 180, 0, 35, 51, 96, 16, 48, 100, 184, 0, 106, 54, 4, 42, 89]
abbrev dktX6_number_3 : List UInt8 := dkwX6_number_3 ++ dktX6_number_4
def dkwX6_number_2 : List UInt8 := [51, 133, 20, 0, 54, 20, 0, 56, 184, 0, 46, 153, 0, 44, 18, 105, 16, 10, 21, 4, 104, 42]
abbrev dktX6_number_2 : List UInt8 := dkwX6_number_2 ++ dktX6_number_3
def dkwX6_number_1 : List UInt8 := [54, 4, 42, 180, 0, 35, 42, 180, 0, 31, 162, 0, 69, 42, 180, 0, 3, 180, 0, 38, 42, 180, 0, 35]
abbrev dktX6_number_1 : List UInt8 := dkwX6_number_1 ++ dktX6_number_2
def dkwX6_number_0 : List UInt8 := [42, 182, 0, 98, 62, 42, 29, 42, 180, 0, 35, 182, 0, 68, 42, 42, 180, 0, 35, 181, 0, 102, 3]
abbrev dktX6_number_0 : List UInt8 := dkwX6_number_0 ++ dktX6_number_1
theorem dksX6_number_0 : cX6_number.data.toList.drop 0 = dktX6_number_0 := by decide +kernel
theorem dksX6_number_1 : cX6_number.data.toList.drop 23 = dktX6_number_1 := dk_seg dksX6_number_0 23 rfl rfl
theorem dksX6_number_2 : cX6_number.data.toList.drop 47 = dktX6_number_2 := dk_seg dksX6_number_1 24 rfl rfl
theorem dksX6_number_3 : cX6_number.data.toList.drop 69 = dktX6_number_3 := dk_seg dksX6_number_2 22 rfl rfl
theorem dksX6_number_4 : cX6_number.data.toList.drop 91 = dktX6_number_4 := dk_seg dksX6_number_3 22 rfl rfl
theorem dksX6_number_5 : cX6_number.data.toList.drop 115 = dktX6_number_5 := dk_seg dksX6_number_4 24 rfl rfl
theorem dX6_number_0 : decode cX6_number 0 = .ok (.aload_n 0, 1) := dk_42 (dk_at dksX6_number_0 0 rfl rfl)
theorem dX6_number_1 : decode cX6_number 1 = .ok (.invokevirtual 98, 3) := dk_182 0 98 (dk_at dksX6_number_0 1 rfl rfl)
theorem dX6_number_4 : decode cX6_number 4 = .ok (.istore_n 3, 1) := dk_62 (dk_at dksX6_number_0 4 rfl rfl)
theorem dX6_number_5 : decode cX6_number 5 = .ok (.aload_n 0, 1) := dk_42 (dk_at dksX6_number_0 5 rfl rfl)
theorem dX6_number_6 : decode cX6_number 6 = .ok (.iload_n 3, 1) := dk_29 (dk_at dksX6_number_0 6 rfl rfl)
theorem dX6_number_7 : decode cX6_number 7 = .ok (.aload_n 0, 1) := dk_42 (dk_at dksX6_number_0 7 rfl rfl)
theorem dX6_number_8 : decode cX6_number 8 = .ok (.getfield 35, 3) := dk_180 0 35 (dk_at dksX6_number_0 8 rfl rfl)
theorem dX6_number_11 : decode cX6_number 11 = .ok (.invokevirtual 68, 3) := dk_182 0 68 (dk_at dksX6_number_0 11 rfl rfl)
theorem dX6_number_14 : decode cX6_number 14 = .ok (.aload_n 0, 1) := dk_42 (dk_at dksX6_number_0 14 rfl rfl)
theorem dX6_number_15 : decode cX6_number 15 = .ok (.aload_n 0, 1) := dk_42 (dk_at dksX6_number_0 15 rfl rfl)
theorem dX6_number_16 : decode cX6_number 16 = .ok (.getfield 35, 3) := dk_180 0 35 (dk_at dksX6_number_0 16 rfl rfl)
theorem dX6_number_19 : decode cX6_number 19 = .ok (.putfield 102, 3) := dk_181 0 102 (dk_at dksX6_number_0 19 rfl rfl)
theorem dX6_number_22 : decode cX6_number 22 = .ok (.iconst 0, 1) := dk_3 (dk_at dksX6_number_0 22 rfl rfl)
theorem dX6_number_23 : decode cX6_number 23 = .ok (.istore 4, 2) := dk_54 4 (dk_at dksX6_number_1 0 rfl rfl)
theorem dX6_number_25 : decode cX6_number 25 = .ok (.aload_n 0, 1) := dk_42 (dk_at dksX6_number_1 2 rfl rfl)
theorem dX6_number_26 : decode cX6_number 26 = .ok (.getfield 35, 3) := dk_180 0 35 (dk_at dksX6_number_1 3 rfl rfl)
theorem dX6_number_29 : decode cX6_number 29 = .ok (.aload_n 0, 1) := dk_42 (dk_at dksX6_number_1 6 rfl rfl)
theorem dX6_number_30 : decode cX6_number 30 = .ok (.getfield 31, 3) := dk_180 0 31 (dk_at dksX6_number_1 7 rfl rfl)
theorem dX6_number_33 : decode cX6_number 33 = .ok (.if_icmp .ge 69, 3) := dk_162 0 69 (dk_at dksX6_number_1 10 rfl rfl)
theorem dX6_number_36 : decode cX6_number 36 = .ok (.aload_n 0, 1) := dk_42 (dk_at dksX6_number_1 13 rfl rfl)
theorem dX6_number_37 : decode cX6_number 37 = .ok (.getfield 3, 3) := dk_180 0 3 (dk_at dksX6_number_1 14 rfl rfl)
theorem dX6_number_40 : decode cX6_number 40 = .ok (.getfield 38, 3) := dk_180 0 38 (dk_at dksX6_number_1 17 rfl rfl)
theorem dX6_number_43 : decode cX6_number 43 = .ok (.aload_n 0, 1) := dk_42 (dk_at dksX6_number_1 20 rfl rfl)
theorem dX6_number_44 : decode cX6_number 44 = .ok (.getfield 35, 3) := dk_180 0 35 (dk_at dksX6_number_1 21 rfl rfl)
theorem dX6_number_47 : decode cX6_number 47 = .ok (.baload, 1) := dk_51 (dk_at dksX6_number_2 0 rfl rfl)
theorem dX6_number_48 : decode cX6_number 48 = .ok (.i2l, 1) := dk_133 (dk_at dksX6_number_2 1 rfl rfl)
theorem dX6_number_49 : decode cX6_number 49 = .ok (.ldc2_w 54, 3) := dk_20 0 54 (dk_at dksX6_number_2 2 rfl rfl)
theorem dX6_number_52 : decode cX6_number 52 = .ok (.ldc2_w 56, 3) := dk_20 0 56 (dk_at dksX6_number_2 5 rfl rfl)
theorem dX6_number_55 : decode cX6_number 55 = .ok (.invokestatic 46, 3) := dk_184 0 46 (dk_at dksX6_number_2 8 rfl rfl)
theorem dX6_number_58 : decode cX6_number 58 = .ok (.ifCond .eq 44, 3) := dk_153 0 44 (dk_at dksX6_number_2 11 rfl rfl)
theorem dX6_number_61 : decode cX6_number 61 = .ok (.ldc 105, 2) := dk_18 105 (dk_at dksX6_number_2 14 rfl rfl)
theorem dX6_number_63 : decode cX6_number 63 = .ok (.bipush 10, 2) := dk_16 10 (dk_at dksX6_number_2 16 rfl rfl)
theorem dX6_number_65 : decode cX6_number 65 = .ok (.iload 4, 2) := dk_21 4 (dk_at dksX6_number_2 18 rfl rfl)
theorem dX6_number_67 : decode cX6_number 67 = .ok (.imul, 1) := dk_104 (dk_at dksX6_number_2 20 rfl rfl)
theorem dX6_number_68 : decode cX6_number 68 = .ok (.aload_n 0, 1) := dk_42 (dk_at dksX6_number_2 21 rfl rfl)
theorem dX6_number_69 : decode cX6_number 69 = .ok (.getfield 3, 3) := dk_180 0 3 (dk_at dksX6_number_3 0 rfl rfl)
theorem dX6_number_72 : decode cX6_number 72 = .ok (.getfield 38, 3) := dk_180 0 38 (dk_at dksX6_number_3 3 rfl rfl)
theorem dX6_number_75 : decode cX6_number 75 = .ok (.aload_n 0, 1) := dk_42 (dk_at dksX6_number_3 6 rfl rfl)
theorem dX6_number_76 : decode cX6_number 76 = .ok (.getfield 35, 3) := dk_180 0 35 (dk_at dksX6_number_3 7 rfl rfl)
theorem dX6_number_79 : decode cX6_number 79 = .ok (.baload, 1) := dk_51 (dk_at dksX6_number_3 10 rfl rfl)
theorem dX6_number_80 : decode cX6_number 80 = .ok (.iadd, 1) := dk_96 (dk_at dksX6_number_3 11 rfl rfl)
theorem dX6_number_81 : decode cX6_number 81 = .ok (.bipush 48, 2) := dk_16 48 (dk_at dksX6_number_3 12 rfl rfl)
theorem dX6_number_83 : decode cX6_number 83 = .ok (.isub, 1) := dk_100 (dk_at dksX6_number_3 14 rfl rfl)
theorem dX6_number_84 : decode cX6_number 84 = .ok (.invokestatic 106, 3) := dk_184 0 106 (dk_at dksX6_number_3 15 rfl rfl)
theorem dX6_number_87 : decode cX6_number 87 = .ok (.istore 4, 2) := dk_54 4 (dk_at dksX6_number_3 18 rfl rfl)
theorem dX6_number_89 : decode cX6_number 89 = .ok (.aload_n 0, 1) := dk_42 (dk_at dksX6_number_3 20 rfl rfl)
theorem dX6_number_90 : decode cX6_number 90 = .ok (.dup, 1) := dk_89 (dk_at dksX6_number_3 21 rfl rfl)
theorem dX6_number_91 : decode cX6_number 91 = .ok (.getfield 35, 3) := dk_180 0 35 (dk_at dksX6_number_4 0 rfl rfl)
theorem dX6_number_94 : decode cX6_number 94 = .ok (.iconst 1, 1) := dk_4 (dk_at dksX6_number_4 3 rfl rfl)
theorem dX6_number_95 : decode cX6_number 95 = .ok (.iadd, 1) := dk_96 (dk_at dksX6_number_4 4 rfl rfl)
theorem dX6_number_96 : decode cX6_number 96 = .ok (.putfield 35, 3) := dk_181 0 35 (dk_at dksX6_number_4 5 rfl rfl)
theorem dX6_number_99 : decode cX6_number 99 = .ok (.goto (-74), 3) := dk_167 255 182 (dk_at dksX6_number_4 8 rfl rfl)
theorem dX6_number_102 : decode cX6_number 102 = .ok (.aload_n 0, 1) := dk_42 (dk_at dksX6_number_4 11 rfl rfl)
theorem dX6_number_103 : decode cX6_number 103 = .ok (.iload 4, 2) := dk_21 4 (dk_at dksX6_number_4 12 rfl rfl)
theorem dX6_number_105 : decode cX6_number 105 = .ok (.i2l, 1) := dk_133 (dk_at dksX6_number_4 14 rfl rfl)
theorem dX6_number_106 : decode cX6_number 106 = .ok (.iload_n 1, 1) := dk_27 (dk_at dksX6_number_4 15 rfl rfl)
theorem dX6_number_107 : decode cX6_number 107 = .ok (.i2l, 1) := dk_133 (dk_at dksX6_number_4 16 rfl rfl)
theorem dX6_number_108 : decode cX6_number 108 = .ok (.iload_n 2, 1) := dk_28 (dk_at dksX6_number_4 17 rfl rfl)
theorem dX6_number_109 : decode cX6_number 109 = .ok (.i2l, 1) := dk_133 (dk_at dksX6_number_4 18 rfl rfl)
theorem dX6_number_110 : decode cX6_number 110 = .ok (.invokestatic 46, 3) := dk_184 0 46 (dk_at dksX6_number_4 19 rfl rfl)
theorem dX6_number_113 : decode cX6_number 113 = .ok (.bipush (-3), 2) := dk_16 253 (dk_at dksX6_number_4 22 rfl rfl)
theorem dX6_number_115 : decode cX6_number 115 = .ok (.aload_n 0, 1) := dk_42 (dk_at dksX6_number_5 0 rfl rfl)
theorem dX6_number_116 : decode cX6_number 116 = .ok (.getfield 102, 3) := dk_180 0 102 (dk_at dksX6_number_5 1 rfl rfl)
theorem dX6_number_119 : decode cX6_number 119 = .ok (.invokevirtual 112, 3) := dk_182 0 112 (dk_at dksX6_number_5 4 rfl rfl)
theorem dX6_number_122 : decode cX6_number 122 = .ok (.iload 4, 2) := dk_21 4 (dk_at dksX6_number_5 7 rfl rfl)
theorem dX6_number_124 : decode cX6_number 124 = .ok (.ireturn, 1) := dk_172 (dk_at dksX6_number_5 9 rfl rfl)
abbrev cX6_isDigitNext : ByteArray := prog_9_method_4_code
def yX6_isDigitNext : MethodName := ⟨RX6, "isDigitNext", "()Z"⟩
def dkwX6_isDigitNext_0 : List UInt8 := [42, 182, 0, 50, 133, 20, 0, 54, 20, 0, 56, 184, 0, 46, 172]
abbrev dktX6_isDigitNext_0 : List UInt8 := dkwX6_isDigitNext_0 ++ []
theorem dksX6_isDigitNext_0 : cX6_isDigitNext.data.toList.drop 0 = dktX6_isDigitNext_0 := by decide +kernel
theorem dX6_isDigitNext_0 : decode cX6_isDigitNext 0 = .ok (.aload_n 0, 1) := dk_42 (dk_at dksX6_isDigitNext_0 0 rfl rfl)
theorem dX6_isDigitNext_1 : decode cX6_isDigitNext 1 = .ok (.invokevirtual 50, 3) := dk_182 0 50 (dk_at dksX6_isDigitNext_0 1 rfl rfl)
theorem dX6_isDigitNext_4 : decode cX6_isDigitNext 4 = .ok (.i2l, 1) := dk_133 (dk_at dksX6_isDigitNext_0 4 rfl rfl)
theorem dX6_isDigitNext_5 : decode cX6_isDigitNext 5 = .ok (.ldc2_w 54, 3) := dk_20 0 54 (dk_at dksX6_isDigitNext_0 5 rfl rfl)
theorem dX6_isDigitNext_8 : decode cX6_isDigitNext 8 = .ok (.ldc2_w 56, 3) := dk_20 0 56 (dk_at dksX6_isDigitNext_0 8 rfl rfl)
theorem dX6_isDigitNext_11 : decode cX6_isDigitNext 11 = .ok (.invokestatic 46, 3) := dk_184 0 46 (dk_at dksX6_isDigitNext_0 11 rfl rfl)
theorem dX6_isDigitNext_14 : decode cX6_isDigitNext 14 = .ok (.ireturn, 1) := dk_172 (dk_at dksX6_isDigitNext_0 14 rfl rfl)
abbrev cX6_requireSyntax : ByteArray := prog_9_method_5_code
def yX6_requireSyntax : MethodName := ⟨RX6, "requireSyntax", "(ZI)V"⟩
def dkwX6_requireSyntax_0 : List UInt8 := [27, 154, 0, 12, 187, 0, 58, 89, 28, 183, 0, 60, 191, 177]
abbrev dktX6_requireSyntax_0 : List UInt8 := dkwX6_requireSyntax_0 ++ []
theorem dksX6_requireSyntax_0 : cX6_requireSyntax.data.toList.drop 0 = dktX6_requireSyntax_0 := by decide +kernel
theorem dX6_requireSyntax_0 : decode cX6_requireSyntax 0 = .ok (.iload_n 1, 1) := dk_27 (dk_at dksX6_requireSyntax_0 0 rfl rfl)
theorem dX6_requireSyntax_1 : decode cX6_requireSyntax 1 = .ok (.ifCond .ne 12, 3) := dk_154 0 12 (dk_at dksX6_requireSyntax_0 1 rfl rfl)
theorem dX6_requireSyntax_4 : decode cX6_requireSyntax 4 = .ok (.new 58, 3) := dk_187 0 58 (dk_at dksX6_requireSyntax_0 4 rfl rfl)
theorem dX6_requireSyntax_7 : decode cX6_requireSyntax 7 = .ok (.dup, 1) := dk_89 (dk_at dksX6_requireSyntax_0 7 rfl rfl)
theorem dX6_requireSyntax_8 : decode cX6_requireSyntax 8 = .ok (.iload_n 2, 1) := dk_28 (dk_at dksX6_requireSyntax_0 8 rfl rfl)
theorem dX6_requireSyntax_9 : decode cX6_requireSyntax 9 = .ok (.invokespecial 60, 3) := dk_183 0 60 (dk_at dksX6_requireSyntax_0 9 rfl rfl)
theorem dX6_requireSyntax_12 : decode cX6_requireSyntax 12 = .ok (.athrow, 1) := dk_191 (dk_at dksX6_requireSyntax_0 12 rfl rfl)
theorem dX6_requireSyntax_13 : decode cX6_requireSyntax 13 = .ok (.return_, 1) := dk_177 (dk_at dksX6_requireSyntax_0 13 rfl rfl)
abbrev cX6_requireLimit : ByteArray := prog_9_method_6_code
def yX6_requireLimit : MethodName := ⟨RX6, "requireLimit", "(ZII)V"⟩
def dkwX6_requireLimit_0 : List UInt8 := [27, 154, 0, 13, 187, 0, 63, 89, 28, 29, 183, 0, 65, 191, 177]
abbrev dktX6_requireLimit_0 : List UInt8 := dkwX6_requireLimit_0 ++ []
theorem dksX6_requireLimit_0 : cX6_requireLimit.data.toList.drop 0 = dktX6_requireLimit_0 := by decide +kernel
theorem dX6_requireLimit_0 : decode cX6_requireLimit 0 = .ok (.iload_n 1, 1) := dk_27 (dk_at dksX6_requireLimit_0 0 rfl rfl)
theorem dX6_requireLimit_1 : decode cX6_requireLimit 1 = .ok (.ifCond .ne 13, 3) := dk_154 0 13 (dk_at dksX6_requireLimit_0 1 rfl rfl)
theorem dX6_requireLimit_4 : decode cX6_requireLimit 4 = .ok (.new 63, 3) := dk_187 0 63 (dk_at dksX6_requireLimit_0 4 rfl rfl)
theorem dX6_requireLimit_7 : decode cX6_requireLimit 7 = .ok (.dup, 1) := dk_89 (dk_at dksX6_requireLimit_0 7 rfl rfl)
theorem dX6_requireLimit_8 : decode cX6_requireLimit 8 = .ok (.iload_n 2, 1) := dk_28 (dk_at dksX6_requireLimit_0 8 rfl rfl)
theorem dX6_requireLimit_9 : decode cX6_requireLimit 9 = .ok (.iload_n 3, 1) := dk_29 (dk_at dksX6_requireLimit_0 9 rfl rfl)
theorem dX6_requireLimit_10 : decode cX6_requireLimit 10 = .ok (.invokespecial 65, 3) := dk_183 0 65 (dk_at dksX6_requireLimit_0 10 rfl rfl)
theorem dX6_requireLimit_13 : decode cX6_requireLimit 13 = .ok (.athrow, 1) := dk_191 (dk_at dksX6_requireLimit_0 13 rfl rfl)
theorem dX6_requireLimit_14 : decode cX6_requireLimit 14 = .ok (.return_, 1) := dk_177 (dk_at dksX6_requireLimit_0 14 rfl rfl)
abbrev cX6_credit : ByteArray := prog_9_method_16_code
def yX6_credit : MethodName := ⟨RX6, "credit", "()V"⟩
def dkwX6_credit_5 : List UInt8 := [180, 0, 179, 187, 0, 183, 89, 2, 43, 21, 4, 28, 29, 183, 0, 185, 182, 0, 188, 87, 177]
abbrev dktX6_credit_5 : List UInt8 := dkwX6_credit_5 ++ []
def dkwX6_credit_4 : List UInt8 := [18, 174, 182, 0, 168, 153, 0, 10, 42, 182, 0, 176, 167, 0, 4, 3, 54, 4, 42, 180, 0, 27]
abbrev dktX6_credit_4 : List UInt8 := dkwX6_credit_4 ++ dktX6_credit_5
def dkwX6_credit_3 : List UInt8 := [17, 0, 180, 182, 0, 136, 79, 76, 42, 18, 166, 182, 0, 168, 61, 42, 18, 172, 182, 0, 168, 62, 42]
abbrev dktX6_credit_3 : List UInt8 := dkwX6_credit_3 ++ dktX6_credit_4
def dkwX6_credit_2 : List UInt8 := [3, 17, 3, 231, 182, 0, 136, 79, 89, 8, 42, 4, 16, 60, 182, 0, 136, 79, 89, 16, 6, 42, 3]
abbrev dktX6_credit_2 : List UInt8 := dkwX6_credit_2 ++ dktX6_credit_3
def dkwX6_credit_1 : List UInt8 := [89, 5, 42, 3, 16, 10, 182, 0, 136, 79, 89, 6, 42, 3, 17, 3, 231, 182, 0, 136, 79, 89, 7, 42]
abbrev dktX6_credit_1 : List UInt8 := dkwX6_credit_1 ++ dktX6_credit_2
def dkwX6_credit_0 : List UInt8 := [16, 7, 188, 10, 89, 3, 42, 4, 18, 165, 182, 0, 136, 79, 89, 4, 42, 3, 16, 10, 182, 0, 136, 79]
abbrev dktX6_credit_0 : List UInt8 := dkwX6_credit_0 ++ dktX6_credit_1
theorem dksX6_credit_0 : cX6_credit.data.toList.drop 0 = dktX6_credit_0 := by decide +kernel
theorem dksX6_credit_1 : cX6_credit.data.toList.drop 24 = dktX6_credit_1 := dk_seg dksX6_credit_0 24 rfl rfl
theorem dksX6_credit_2 : cX6_credit.data.toList.drop 48 = dktX6_credit_2 := dk_seg dksX6_credit_1 24 rfl rfl
theorem dksX6_credit_3 : cX6_credit.data.toList.drop 71 = dktX6_credit_3 := dk_seg dksX6_credit_2 23 rfl rfl
theorem dksX6_credit_4 : cX6_credit.data.toList.drop 94 = dktX6_credit_4 := dk_seg dksX6_credit_3 23 rfl rfl
theorem dksX6_credit_5 : cX6_credit.data.toList.drop 116 = dktX6_credit_5 := dk_seg dksX6_credit_4 22 rfl rfl
theorem dX6_credit_0 : decode cX6_credit 0 = .ok (.bipush 7, 2) := dk_16 7 (dk_at dksX6_credit_0 0 rfl rfl)
theorem dX6_credit_2 : decode cX6_credit 2 = .ok (.newarray .int, 2) := dk_188_10 (dk_at dksX6_credit_0 2 rfl rfl)
theorem dX6_credit_4 : decode cX6_credit 4 = .ok (.dup, 1) := dk_89 (dk_at dksX6_credit_0 4 rfl rfl)
theorem dX6_credit_5 : decode cX6_credit 5 = .ok (.iconst 0, 1) := dk_3 (dk_at dksX6_credit_0 5 rfl rfl)
theorem dX6_credit_6 : decode cX6_credit 6 = .ok (.aload_n 0, 1) := dk_42 (dk_at dksX6_credit_0 6 rfl rfl)
theorem dX6_credit_7 : decode cX6_credit 7 = .ok (.iconst 1, 1) := dk_4 (dk_at dksX6_credit_0 7 rfl rfl)
theorem dX6_credit_8 : decode cX6_credit 8 = .ok (.ldc 165, 2) := dk_18 165 (dk_at dksX6_credit_0 8 rfl rfl)
theorem dX6_credit_10 : decode cX6_credit 10 = .ok (.invokevirtual 136, 3) := dk_182 0 136 (dk_at dksX6_credit_0 10 rfl rfl)
theorem dX6_credit_13 : decode cX6_credit 13 = .ok (.iastore, 1) := dk_79 (dk_at dksX6_credit_0 13 rfl rfl)
theorem dX6_credit_14 : decode cX6_credit 14 = .ok (.dup, 1) := dk_89 (dk_at dksX6_credit_0 14 rfl rfl)
theorem dX6_credit_15 : decode cX6_credit 15 = .ok (.iconst 1, 1) := dk_4 (dk_at dksX6_credit_0 15 rfl rfl)
theorem dX6_credit_16 : decode cX6_credit 16 = .ok (.aload_n 0, 1) := dk_42 (dk_at dksX6_credit_0 16 rfl rfl)
theorem dX6_credit_17 : decode cX6_credit 17 = .ok (.iconst 0, 1) := dk_3 (dk_at dksX6_credit_0 17 rfl rfl)
theorem dX6_credit_18 : decode cX6_credit 18 = .ok (.bipush 10, 2) := dk_16 10 (dk_at dksX6_credit_0 18 rfl rfl)
theorem dX6_credit_20 : decode cX6_credit 20 = .ok (.invokevirtual 136, 3) := dk_182 0 136 (dk_at dksX6_credit_0 20 rfl rfl)
theorem dX6_credit_23 : decode cX6_credit 23 = .ok (.iastore, 1) := dk_79 (dk_at dksX6_credit_0 23 rfl rfl)
theorem dX6_credit_24 : decode cX6_credit 24 = .ok (.dup, 1) := dk_89 (dk_at dksX6_credit_1 0 rfl rfl)
theorem dX6_credit_25 : decode cX6_credit 25 = .ok (.iconst 2, 1) := dk_5 (dk_at dksX6_credit_1 1 rfl rfl)
theorem dX6_credit_26 : decode cX6_credit 26 = .ok (.aload_n 0, 1) := dk_42 (dk_at dksX6_credit_1 2 rfl rfl)
theorem dX6_credit_27 : decode cX6_credit 27 = .ok (.iconst 0, 1) := dk_3 (dk_at dksX6_credit_1 3 rfl rfl)
theorem dX6_credit_28 : decode cX6_credit 28 = .ok (.bipush 10, 2) := dk_16 10 (dk_at dksX6_credit_1 4 rfl rfl)
theorem dX6_credit_30 : decode cX6_credit 30 = .ok (.invokevirtual 136, 3) := dk_182 0 136 (dk_at dksX6_credit_1 6 rfl rfl)
theorem dX6_credit_33 : decode cX6_credit 33 = .ok (.iastore, 1) := dk_79 (dk_at dksX6_credit_1 9 rfl rfl)
theorem dX6_credit_34 : decode cX6_credit 34 = .ok (.dup, 1) := dk_89 (dk_at dksX6_credit_1 10 rfl rfl)
theorem dX6_credit_35 : decode cX6_credit 35 = .ok (.iconst 3, 1) := dk_6 (dk_at dksX6_credit_1 11 rfl rfl)
theorem dX6_credit_36 : decode cX6_credit 36 = .ok (.aload_n 0, 1) := dk_42 (dk_at dksX6_credit_1 12 rfl rfl)
theorem dX6_credit_37 : decode cX6_credit 37 = .ok (.iconst 0, 1) := dk_3 (dk_at dksX6_credit_1 13 rfl rfl)
theorem dX6_credit_38 : decode cX6_credit 38 = .ok (.sipush 999, 3) := dk_17 3 231 (dk_at dksX6_credit_1 14 rfl rfl)
theorem dX6_credit_41 : decode cX6_credit 41 = .ok (.invokevirtual 136, 3) := dk_182 0 136 (dk_at dksX6_credit_1 17 rfl rfl)
theorem dX6_credit_44 : decode cX6_credit 44 = .ok (.iastore, 1) := dk_79 (dk_at dksX6_credit_1 20 rfl rfl)
theorem dX6_credit_45 : decode cX6_credit 45 = .ok (.dup, 1) := dk_89 (dk_at dksX6_credit_1 21 rfl rfl)
theorem dX6_credit_46 : decode cX6_credit 46 = .ok (.iconst 4, 1) := dk_7 (dk_at dksX6_credit_1 22 rfl rfl)
theorem dX6_credit_47 : decode cX6_credit 47 = .ok (.aload_n 0, 1) := dk_42 (dk_at dksX6_credit_1 23 rfl rfl)
theorem dX6_credit_48 : decode cX6_credit 48 = .ok (.iconst 0, 1) := dk_3 (dk_at dksX6_credit_2 0 rfl rfl)
theorem dX6_credit_49 : decode cX6_credit 49 = .ok (.sipush 999, 3) := dk_17 3 231 (dk_at dksX6_credit_2 1 rfl rfl)
theorem dX6_credit_52 : decode cX6_credit 52 = .ok (.invokevirtual 136, 3) := dk_182 0 136 (dk_at dksX6_credit_2 4 rfl rfl)
theorem dX6_credit_55 : decode cX6_credit 55 = .ok (.iastore, 1) := dk_79 (dk_at dksX6_credit_2 7 rfl rfl)
theorem dX6_credit_56 : decode cX6_credit 56 = .ok (.dup, 1) := dk_89 (dk_at dksX6_credit_2 8 rfl rfl)
theorem dX6_credit_57 : decode cX6_credit 57 = .ok (.iconst 5, 1) := dk_8 (dk_at dksX6_credit_2 9 rfl rfl)
theorem dX6_credit_58 : decode cX6_credit 58 = .ok (.aload_n 0, 1) := dk_42 (dk_at dksX6_credit_2 10 rfl rfl)
theorem dX6_credit_59 : decode cX6_credit 59 = .ok (.iconst 1, 1) := dk_4 (dk_at dksX6_credit_2 11 rfl rfl)
theorem dX6_credit_60 : decode cX6_credit 60 = .ok (.bipush 60, 2) := dk_16 60 (dk_at dksX6_credit_2 12 rfl rfl)
theorem dX6_credit_62 : decode cX6_credit 62 = .ok (.invokevirtual 136, 3) := dk_182 0 136 (dk_at dksX6_credit_2 14 rfl rfl)
theorem dX6_credit_65 : decode cX6_credit 65 = .ok (.iastore, 1) := dk_79 (dk_at dksX6_credit_2 17 rfl rfl)
theorem dX6_credit_66 : decode cX6_credit 66 = .ok (.dup, 1) := dk_89 (dk_at dksX6_credit_2 18 rfl rfl)
theorem dX6_credit_67 : decode cX6_credit 67 = .ok (.bipush 6, 2) := dk_16 6 (dk_at dksX6_credit_2 19 rfl rfl)
theorem dX6_credit_69 : decode cX6_credit 69 = .ok (.aload_n 0, 1) := dk_42 (dk_at dksX6_credit_2 21 rfl rfl)
theorem dX6_credit_70 : decode cX6_credit 70 = .ok (.iconst 0, 1) := dk_3 (dk_at dksX6_credit_2 22 rfl rfl)
theorem dX6_credit_71 : decode cX6_credit 71 = .ok (.sipush 180, 3) := dk_17 0 180 (dk_at dksX6_credit_3 0 rfl rfl)
theorem dX6_credit_74 : decode cX6_credit 74 = .ok (.invokevirtual 136, 3) := dk_182 0 136 (dk_at dksX6_credit_3 3 rfl rfl)
theorem dX6_credit_77 : decode cX6_credit 77 = .ok (.iastore, 1) := dk_79 (dk_at dksX6_credit_3 6 rfl rfl)
theorem dX6_credit_78 : decode cX6_credit 78 = .ok (.astore_n 1, 1) := dk_76 (dk_at dksX6_credit_3 7 rfl rfl)
theorem dX6_credit_79 : decode cX6_credit 79 = .ok (.aload_n 0, 1) := dk_42 (dk_at dksX6_credit_3 8 rfl rfl)
theorem dX6_credit_80 : decode cX6_credit 80 = .ok (.ldc 166, 2) := dk_18 166 (dk_at dksX6_credit_3 9 rfl rfl)
theorem dX6_credit_82 : decode cX6_credit 82 = .ok (.invokevirtual 168, 3) := dk_182 0 168 (dk_at dksX6_credit_3 11 rfl rfl)
theorem dX6_credit_85 : decode cX6_credit 85 = .ok (.istore_n 2, 1) := dk_61 (dk_at dksX6_credit_3 14 rfl rfl)
theorem dX6_credit_86 : decode cX6_credit 86 = .ok (.aload_n 0, 1) := dk_42 (dk_at dksX6_credit_3 15 rfl rfl)
theorem dX6_credit_87 : decode cX6_credit 87 = .ok (.ldc 172, 2) := dk_18 172 (dk_at dksX6_credit_3 16 rfl rfl)
theorem dX6_credit_89 : decode cX6_credit 89 = .ok (.invokevirtual 168, 3) := dk_182 0 168 (dk_at dksX6_credit_3 18 rfl rfl)
theorem dX6_credit_92 : decode cX6_credit 92 = .ok (.istore_n 3, 1) := dk_62 (dk_at dksX6_credit_3 21 rfl rfl)
theorem dX6_credit_93 : decode cX6_credit 93 = .ok (.aload_n 0, 1) := dk_42 (dk_at dksX6_credit_3 22 rfl rfl)
theorem dX6_credit_94 : decode cX6_credit 94 = .ok (.ldc 174, 2) := dk_18 174 (dk_at dksX6_credit_4 0 rfl rfl)
theorem dX6_credit_96 : decode cX6_credit 96 = .ok (.invokevirtual 168, 3) := dk_182 0 168 (dk_at dksX6_credit_4 2 rfl rfl)
theorem dX6_credit_99 : decode cX6_credit 99 = .ok (.ifCond .eq 10, 3) := dk_153 0 10 (dk_at dksX6_credit_4 5 rfl rfl)
theorem dX6_credit_102 : decode cX6_credit 102 = .ok (.aload_n 0, 1) := dk_42 (dk_at dksX6_credit_4 8 rfl rfl)
theorem dX6_credit_103 : decode cX6_credit 103 = .ok (.invokevirtual 176, 3) := dk_182 0 176 (dk_at dksX6_credit_4 9 rfl rfl)
theorem dX6_credit_106 : decode cX6_credit 106 = .ok (.goto 4, 3) := dk_167 0 4 (dk_at dksX6_credit_4 12 rfl rfl)
theorem dX6_credit_109 : decode cX6_credit 109 = .ok (.iconst 0, 1) := dk_3 (dk_at dksX6_credit_4 15 rfl rfl)
theorem dX6_credit_110 : decode cX6_credit 110 = .ok (.istore 4, 2) := dk_54 4 (dk_at dksX6_credit_4 16 rfl rfl)
theorem dX6_credit_112 : decode cX6_credit 112 = .ok (.aload_n 0, 1) := dk_42 (dk_at dksX6_credit_4 18 rfl rfl)
theorem dX6_credit_113 : decode cX6_credit 113 = .ok (.getfield 27, 3) := dk_180 0 27 (dk_at dksX6_credit_4 19 rfl rfl)
theorem dX6_credit_116 : decode cX6_credit 116 = .ok (.getfield 179, 3) := dk_180 0 179 (dk_at dksX6_credit_5 0 rfl rfl)
theorem dX6_credit_119 : decode cX6_credit 119 = .ok (.new 183, 3) := dk_187 0 183 (dk_at dksX6_credit_5 3 rfl rfl)
theorem dX6_credit_122 : decode cX6_credit 122 = .ok (.dup, 1) := dk_89 (dk_at dksX6_credit_5 6 rfl rfl)
theorem dX6_credit_123 : decode cX6_credit 123 = .ok (.iconst (-1), 1) := dk_2 (dk_at dksX6_credit_5 7 rfl rfl)
theorem dX6_credit_124 : decode cX6_credit 124 = .ok (.aload_n 1, 1) := dk_43 (dk_at dksX6_credit_5 8 rfl rfl)
theorem dX6_credit_125 : decode cX6_credit 125 = .ok (.iload 4, 2) := dk_21 4 (dk_at dksX6_credit_5 9 rfl rfl)
theorem dX6_credit_127 : decode cX6_credit 127 = .ok (.iload_n 2, 1) := dk_28 (dk_at dksX6_credit_5 11 rfl rfl)
theorem dX6_credit_128 : decode cX6_credit 128 = .ok (.iload_n 3, 1) := dk_29 (dk_at dksX6_credit_5 12 rfl rfl)
theorem dX6_credit_129 : decode cX6_credit 129 = .ok (.invokespecial 185, 3) := dk_183 0 185 (dk_at dksX6_credit_5 13 rfl rfl)
theorem dX6_credit_132 : decode cX6_credit 132 = .ok (.invokevirtual 188, 3) := dk_182 0 188 (dk_at dksX6_credit_5 16 rfl rfl)
theorem dX6_credit_135 : decode cX6_credit 135 = .ok (.pop, 1) := dk_87 (dk_at dksX6_credit_5 19 rfl rfl)
theorem dX6_credit_136 : decode cX6_credit 136 = .ok (.return_, 1) := dk_177 (dk_at dksX6_credit_5 20 rfl rfl)
abbrev cX6_accept : ByteArray := prog_9_method_9_code
def yX6_accept : MethodName := ⟨RX6, "accept", "(Ljava/lang/String;)Z"⟩
def dkwX6_accept_1 : List UInt8 := [181, 0, 35, 4, 172]
abbrev dktX6_accept_1 : List UInt8 := dkwX6_accept_1 ++ []
def dkwX6_accept_0 : List UInt8 := [42, 182, 0, 87, 43, 182, 0, 90, 154, 0, 5, 3, 172, 42, 89, 180, 0, 35, 43, 182, 0, 96, 96]
abbrev dktX6_accept_0 : List UInt8 := dkwX6_accept_0 ++ dktX6_accept_1
theorem dksX6_accept_0 : cX6_accept.data.toList.drop 0 = dktX6_accept_0 := by decide +kernel
theorem dksX6_accept_1 : cX6_accept.data.toList.drop 23 = dktX6_accept_1 := dk_seg dksX6_accept_0 23 rfl rfl
theorem dX6_accept_0 : decode cX6_accept 0 = .ok (.aload_n 0, 1) := dk_42 (dk_at dksX6_accept_0 0 rfl rfl)
theorem dX6_accept_1 : decode cX6_accept 1 = .ok (.invokevirtual 87, 3) := dk_182 0 87 (dk_at dksX6_accept_0 1 rfl rfl)
theorem dX6_accept_4 : decode cX6_accept 4 = .ok (.aload_n 1, 1) := dk_43 (dk_at dksX6_accept_0 4 rfl rfl)
theorem dX6_accept_5 : decode cX6_accept 5 = .ok (.invokevirtual 90, 3) := dk_182 0 90 (dk_at dksX6_accept_0 5 rfl rfl)
theorem dX6_accept_8 : decode cX6_accept 8 = .ok (.ifCond .ne 5, 3) := dk_154 0 5 (dk_at dksX6_accept_0 8 rfl rfl)
theorem dX6_accept_11 : decode cX6_accept 11 = .ok (.iconst 0, 1) := dk_3 (dk_at dksX6_accept_0 11 rfl rfl)
theorem dX6_accept_12 : decode cX6_accept 12 = .ok (.ireturn, 1) := dk_172 (dk_at dksX6_accept_0 12 rfl rfl)
theorem dX6_accept_13 : decode cX6_accept 13 = .ok (.aload_n 0, 1) := dk_42 (dk_at dksX6_accept_0 13 rfl rfl)
theorem dX6_accept_14 : decode cX6_accept 14 = .ok (.dup, 1) := dk_89 (dk_at dksX6_accept_0 14 rfl rfl)
theorem dX6_accept_15 : decode cX6_accept 15 = .ok (.getfield 35, 3) := dk_180 0 35 (dk_at dksX6_accept_0 15 rfl rfl)
theorem dX6_accept_18 : decode cX6_accept 18 = .ok (.aload_n 1, 1) := dk_43 (dk_at dksX6_accept_0 18 rfl rfl)
theorem dX6_accept_19 : decode cX6_accept 19 = .ok (.invokevirtual 96, 3) := dk_182 0 96 (dk_at dksX6_accept_0 19 rfl rfl)
theorem dX6_accept_22 : decode cX6_accept 22 = .ok (.iadd, 1) := dk_96 (dk_at dksX6_accept_0 22 rfl rfl)
theorem dX6_accept_23 : decode cX6_accept 23 = .ok (.putfield 35, 3) := dk_181 0 35 (dk_at dksX6_accept_1 0 rfl rfl)
theorem dX6_accept_26 : decode cX6_accept 26 = .ok (.iconst 1, 1) := dk_4 (dk_at dksX6_accept_1 3 rfl rfl)
theorem dX6_accept_27 : decode cX6_accept 27 = .ok (.ireturn, 1) := dk_172 (dk_at dksX6_accept_1 4 rfl rfl)
abbrev cX6_documents : ByteArray := prog_9_method_15_code
def yX6_documents : MethodName := ⟨RX6, "documents", "()I"⟩
def dkwX6_documents_1 : List UInt8 := [16, 253, 42, 180, 0, 102, 182, 0, 112, 27, 4, 28, 120, 128, 60, 42, 182, 0, 98, 154, 255, 215, 27, 172]
abbrev dktX6_documents_1 : List UInt8 := dkwX6_documents_1 ++ []
def dkwX6_documents_0 : List UInt8 := [3, 60, 42, 3, 16, 7, 182, 0, 136, 61, 42, 27, 28, 122, 4, 126, 154, 0, 7, 4, 167, 0, 4, 3]
abbrev dktX6_documents_0 : List UInt8 := dkwX6_documents_0 ++ dktX6_documents_1
theorem dksX6_documents_0 : cX6_documents.data.toList.drop 0 = dktX6_documents_0 := by decide +kernel
theorem dksX6_documents_1 : cX6_documents.data.toList.drop 24 = dktX6_documents_1 := dk_seg dksX6_documents_0 24 rfl rfl
theorem dX6_documents_0 : decode cX6_documents 0 = .ok (.iconst 0, 1) := dk_3 (dk_at dksX6_documents_0 0 rfl rfl)
theorem dX6_documents_1 : decode cX6_documents 1 = .ok (.istore_n 1, 1) := dk_60 (dk_at dksX6_documents_0 1 rfl rfl)
theorem dX6_documents_2 : decode cX6_documents 2 = .ok (.aload_n 0, 1) := dk_42 (dk_at dksX6_documents_0 2 rfl rfl)
theorem dX6_documents_3 : decode cX6_documents 3 = .ok (.iconst 0, 1) := dk_3 (dk_at dksX6_documents_0 3 rfl rfl)
theorem dX6_documents_4 : decode cX6_documents 4 = .ok (.bipush 7, 2) := dk_16 7 (dk_at dksX6_documents_0 4 rfl rfl)
theorem dX6_documents_6 : decode cX6_documents 6 = .ok (.invokevirtual 136, 3) := dk_182 0 136 (dk_at dksX6_documents_0 6 rfl rfl)
theorem dX6_documents_9 : decode cX6_documents 9 = .ok (.istore_n 2, 1) := dk_61 (dk_at dksX6_documents_0 9 rfl rfl)
theorem dX6_documents_10 : decode cX6_documents 10 = .ok (.aload_n 0, 1) := dk_42 (dk_at dksX6_documents_0 10 rfl rfl)
theorem dX6_documents_11 : decode cX6_documents 11 = .ok (.iload_n 1, 1) := dk_27 (dk_at dksX6_documents_0 11 rfl rfl)
theorem dX6_documents_12 : decode cX6_documents 12 = .ok (.iload_n 2, 1) := dk_28 (dk_at dksX6_documents_0 12 rfl rfl)
theorem dX6_documents_13 : decode cX6_documents 13 = .ok (.ishr, 1) := dk_122 (dk_at dksX6_documents_0 13 rfl rfl)
theorem dX6_documents_14 : decode cX6_documents 14 = .ok (.iconst 1, 1) := dk_4 (dk_at dksX6_documents_0 14 rfl rfl)
theorem dX6_documents_15 : decode cX6_documents 15 = .ok (.iand, 1) := dk_126 (dk_at dksX6_documents_0 15 rfl rfl)
theorem dX6_documents_16 : decode cX6_documents 16 = .ok (.ifCond .ne 7, 3) := dk_154 0 7 (dk_at dksX6_documents_0 16 rfl rfl)
theorem dX6_documents_19 : decode cX6_documents 19 = .ok (.iconst 1, 1) := dk_4 (dk_at dksX6_documents_0 19 rfl rfl)
theorem dX6_documents_20 : decode cX6_documents 20 = .ok (.goto 4, 3) := dk_167 0 4 (dk_at dksX6_documents_0 20 rfl rfl)
theorem dX6_documents_23 : decode cX6_documents 23 = .ok (.iconst 0, 1) := dk_3 (dk_at dksX6_documents_0 23 rfl rfl)
theorem dX6_documents_24 : decode cX6_documents 24 = .ok (.bipush (-3), 2) := dk_16 253 (dk_at dksX6_documents_1 0 rfl rfl)
theorem dX6_documents_26 : decode cX6_documents 26 = .ok (.aload_n 0, 1) := dk_42 (dk_at dksX6_documents_1 2 rfl rfl)
theorem dX6_documents_27 : decode cX6_documents 27 = .ok (.getfield 102, 3) := dk_180 0 102 (dk_at dksX6_documents_1 3 rfl rfl)
theorem dX6_documents_30 : decode cX6_documents 30 = .ok (.invokevirtual 112, 3) := dk_182 0 112 (dk_at dksX6_documents_1 6 rfl rfl)
theorem dX6_documents_33 : decode cX6_documents 33 = .ok (.iload_n 1, 1) := dk_27 (dk_at dksX6_documents_1 9 rfl rfl)
theorem dX6_documents_34 : decode cX6_documents 34 = .ok (.iconst 1, 1) := dk_4 (dk_at dksX6_documents_1 10 rfl rfl)
theorem dX6_documents_35 : decode cX6_documents 35 = .ok (.iload_n 2, 1) := dk_28 (dk_at dksX6_documents_1 11 rfl rfl)
theorem dX6_documents_36 : decode cX6_documents 36 = .ok (.ishl, 1) := dk_120 (dk_at dksX6_documents_1 12 rfl rfl)
theorem dX6_documents_37 : decode cX6_documents 37 = .ok (.ior, 1) := dk_128 (dk_at dksX6_documents_1 13 rfl rfl)
theorem dX6_documents_38 : decode cX6_documents 38 = .ok (.istore_n 1, 1) := dk_60 (dk_at dksX6_documents_1 14 rfl rfl)
theorem dX6_documents_39 : decode cX6_documents 39 = .ok (.aload_n 0, 1) := dk_42 (dk_at dksX6_documents_1 15 rfl rfl)
theorem dX6_documents_40 : decode cX6_documents 40 = .ok (.invokevirtual 98, 3) := dk_182 0 98 (dk_at dksX6_documents_1 16 rfl rfl)
theorem dX6_documents_43 : decode cX6_documents 43 = .ok (.ifCond .ne (-41), 3) := dk_154 255 215 (dk_at dksX6_documents_1 19 rfl rfl)
theorem dX6_documents_46 : decode cX6_documents 46 = .ok (.iload_n 1, 1) := dk_27 (dk_at dksX6_documents_1 22 rfl rfl)
theorem dX6_documents_47 : decode cX6_documents 47 = .ok (.ireturn, 1) := dk_172 (dk_at dksX6_documents_1 23 rfl rfl)
abbrev cX6_sum : ByteArray := prog_9_method_11_code
def yX6_sum : MethodName := ⟨RX6, "sum", "()LDocumentaryCreditDesk$Fee;"⟩
def dkwX6_sum_2 : List UInt8 := [42, 182, 0, 116, 184, 0, 120, 76, 167, 255, 205, 43, 176]
abbrev dktX6_sum_2 : List UInt8 := dkwX6_sum_2 ++ []
def dkwX6_sum_1 : List UInt8 := [180, 0, 3, 180, 0, 38, 42, 180, 0, 35, 51, 61, 42, 89, 180, 0, 35, 4, 96, 181, 0, 35, 28, 43]
abbrev dktX6_sum_1 : List UInt8 := dkwX6_sum_1 ++ dktX6_sum_2
def dkwX6_sum_0 : List UInt8 := [42, 182, 0, 116, 76, 42, 182, 0, 50, 16, 43, 159, 0, 12, 42, 182, 0, 50, 16, 45, 160, 0, 39, 42]
abbrev dktX6_sum_0 : List UInt8 := dkwX6_sum_0 ++ dktX6_sum_1
theorem dksX6_sum_0 : cX6_sum.data.toList.drop 0 = dktX6_sum_0 := by decide +kernel
theorem dksX6_sum_1 : cX6_sum.data.toList.drop 24 = dktX6_sum_1 := dk_seg dksX6_sum_0 24 rfl rfl
theorem dksX6_sum_2 : cX6_sum.data.toList.drop 48 = dktX6_sum_2 := dk_seg dksX6_sum_1 24 rfl rfl
theorem dX6_sum_0 : decode cX6_sum 0 = .ok (.aload_n 0, 1) := dk_42 (dk_at dksX6_sum_0 0 rfl rfl)
theorem dX6_sum_1 : decode cX6_sum 1 = .ok (.invokevirtual 116, 3) := dk_182 0 116 (dk_at dksX6_sum_0 1 rfl rfl)
theorem dX6_sum_4 : decode cX6_sum 4 = .ok (.astore_n 1, 1) := dk_76 (dk_at dksX6_sum_0 4 rfl rfl)
theorem dX6_sum_5 : decode cX6_sum 5 = .ok (.aload_n 0, 1) := dk_42 (dk_at dksX6_sum_0 5 rfl rfl)
theorem dX6_sum_6 : decode cX6_sum 6 = .ok (.invokevirtual 50, 3) := dk_182 0 50 (dk_at dksX6_sum_0 6 rfl rfl)
theorem dX6_sum_9 : decode cX6_sum 9 = .ok (.bipush 43, 2) := dk_16 43 (dk_at dksX6_sum_0 9 rfl rfl)
theorem dX6_sum_11 : decode cX6_sum 11 = .ok (.if_icmp .eq 12, 3) := dk_159 0 12 (dk_at dksX6_sum_0 11 rfl rfl)
theorem dX6_sum_14 : decode cX6_sum 14 = .ok (.aload_n 0, 1) := dk_42 (dk_at dksX6_sum_0 14 rfl rfl)
theorem dX6_sum_15 : decode cX6_sum 15 = .ok (.invokevirtual 50, 3) := dk_182 0 50 (dk_at dksX6_sum_0 15 rfl rfl)
theorem dX6_sum_18 : decode cX6_sum 18 = .ok (.bipush 45, 2) := dk_16 45 (dk_at dksX6_sum_0 18 rfl rfl)
theorem dX6_sum_20 : decode cX6_sum 20 = .ok (.if_icmp .ne 39, 3) := dk_160 0 39 (dk_at dksX6_sum_0 20 rfl rfl)
theorem dX6_sum_23 : decode cX6_sum 23 = .ok (.aload_n 0, 1) := dk_42 (dk_at dksX6_sum_0 23 rfl rfl)
theorem dX6_sum_24 : decode cX6_sum 24 = .ok (.getfield 3, 3) := dk_180 0 3 (dk_at dksX6_sum_1 0 rfl rfl)
theorem dX6_sum_27 : decode cX6_sum 27 = .ok (.getfield 38, 3) := dk_180 0 38 (dk_at dksX6_sum_1 3 rfl rfl)
theorem dX6_sum_30 : decode cX6_sum 30 = .ok (.aload_n 0, 1) := dk_42 (dk_at dksX6_sum_1 6 rfl rfl)
theorem dX6_sum_31 : decode cX6_sum 31 = .ok (.getfield 35, 3) := dk_180 0 35 (dk_at dksX6_sum_1 7 rfl rfl)
theorem dX6_sum_34 : decode cX6_sum 34 = .ok (.baload, 1) := dk_51 (dk_at dksX6_sum_1 10 rfl rfl)
theorem dX6_sum_35 : decode cX6_sum 35 = .ok (.istore_n 2, 1) := dk_61 (dk_at dksX6_sum_1 11 rfl rfl)
theorem dX6_sum_36 : decode cX6_sum 36 = .ok (.aload_n 0, 1) := dk_42 (dk_at dksX6_sum_1 12 rfl rfl)
theorem dX6_sum_37 : decode cX6_sum 37 = .ok (.dup, 1) := dk_89 (dk_at dksX6_sum_1 13 rfl rfl)
theorem dX6_sum_38 : decode cX6_sum 38 = .ok (.getfield 35, 3) := dk_180 0 35 (dk_at dksX6_sum_1 14 rfl rfl)
theorem dX6_sum_41 : decode cX6_sum 41 = .ok (.iconst 1, 1) := dk_4 (dk_at dksX6_sum_1 17 rfl rfl)
theorem dX6_sum_42 : decode cX6_sum 42 = .ok (.iadd, 1) := dk_96 (dk_at dksX6_sum_1 18 rfl rfl)
theorem dX6_sum_43 : decode cX6_sum 43 = .ok (.putfield 35, 3) := dk_181 0 35 (dk_at dksX6_sum_1 19 rfl rfl)
theorem dX6_sum_46 : decode cX6_sum 46 = .ok (.iload_n 2, 1) := dk_28 (dk_at dksX6_sum_1 22 rfl rfl)
theorem dX6_sum_47 : decode cX6_sum 47 = .ok (.aload_n 1, 1) := dk_43 (dk_at dksX6_sum_1 23 rfl rfl)
theorem dX6_sum_48 : decode cX6_sum 48 = .ok (.aload_n 0, 1) := dk_42 (dk_at dksX6_sum_2 0 rfl rfl)
theorem dX6_sum_49 : decode cX6_sum 49 = .ok (.invokevirtual 116, 3) := dk_182 0 116 (dk_at dksX6_sum_2 1 rfl rfl)
theorem dX6_sum_52 : decode cX6_sum 52 = .ok (.invokestatic 120, 3) := dk_184 0 120 (dk_at dksX6_sum_2 4 rfl rfl)
theorem dX6_sum_55 : decode cX6_sum 55 = .ok (.astore_n 1, 1) := dk_76 (dk_at dksX6_sum_2 7 rfl rfl)
theorem dX6_sum_56 : decode cX6_sum 56 = .ok (.goto (-51), 3) := dk_167 255 205 (dk_at dksX6_sum_2 8 rfl rfl)
theorem dX6_sum_59 : decode cX6_sum 59 = .ok (.aload_n 1, 1) := dk_43 (dk_at dksX6_sum_2 11 rfl rfl)
theorem dX6_sum_60 : decode cX6_sum 60 = .ok (.areturn, 1) := dk_176 (dk_at dksX6_sum_2 12 rfl rfl)
abbrev cX6_term : ByteArray := prog_9_method_12_code
def yX6_term : MethodName := ⟨RX6, "term", "()LDocumentaryCreditDesk$Fee;"⟩
def dkwX6_term_2 : List UInt8 := [42, 182, 0, 124, 184, 0, 120, 76, 167, 255, 205, 43, 176]
abbrev dktX6_term_2 : List UInt8 := dkwX6_term_2 ++ []
def dkwX6_term_1 : List UInt8 := [180, 0, 3, 180, 0, 38, 42, 180, 0, 35, 51, 61, 42, 89, 180, 0, 35, 4, 96, 181, 0, 35, 28, 43]
abbrev dktX6_term_1 : List UInt8 := dkwX6_term_1 ++ dktX6_term_2
def dkwX6_term_0 : List UInt8 := [42, 182, 0, 124, 76, 42, 182, 0, 50, 16, 42, 159, 0, 12, 42, 182, 0, 50, 16, 47, 160, 0, 39, 42]
abbrev dktX6_term_0 : List UInt8 := dkwX6_term_0 ++ dktX6_term_1
theorem dksX6_term_0 : cX6_term.data.toList.drop 0 = dktX6_term_0 := by decide +kernel
theorem dksX6_term_1 : cX6_term.data.toList.drop 24 = dktX6_term_1 := dk_seg dksX6_term_0 24 rfl rfl
theorem dksX6_term_2 : cX6_term.data.toList.drop 48 = dktX6_term_2 := dk_seg dksX6_term_1 24 rfl rfl
theorem dX6_term_0 : decode cX6_term 0 = .ok (.aload_n 0, 1) := dk_42 (dk_at dksX6_term_0 0 rfl rfl)
theorem dX6_term_1 : decode cX6_term 1 = .ok (.invokevirtual 124, 3) := dk_182 0 124 (dk_at dksX6_term_0 1 rfl rfl)
theorem dX6_term_4 : decode cX6_term 4 = .ok (.astore_n 1, 1) := dk_76 (dk_at dksX6_term_0 4 rfl rfl)
theorem dX6_term_5 : decode cX6_term 5 = .ok (.aload_n 0, 1) := dk_42 (dk_at dksX6_term_0 5 rfl rfl)
theorem dX6_term_6 : decode cX6_term 6 = .ok (.invokevirtual 50, 3) := dk_182 0 50 (dk_at dksX6_term_0 6 rfl rfl)
theorem dX6_term_9 : decode cX6_term 9 = .ok (.bipush 42, 2) := dk_16 42 (dk_at dksX6_term_0 9 rfl rfl)
theorem dX6_term_11 : decode cX6_term 11 = .ok (.if_icmp .eq 12, 3) := dk_159 0 12 (dk_at dksX6_term_0 11 rfl rfl)
theorem dX6_term_14 : decode cX6_term 14 = .ok (.aload_n 0, 1) := dk_42 (dk_at dksX6_term_0 14 rfl rfl)
theorem dX6_term_15 : decode cX6_term 15 = .ok (.invokevirtual 50, 3) := dk_182 0 50 (dk_at dksX6_term_0 15 rfl rfl)
theorem dX6_term_18 : decode cX6_term 18 = .ok (.bipush 47, 2) := dk_16 47 (dk_at dksX6_term_0 18 rfl rfl)
theorem dX6_term_20 : decode cX6_term 20 = .ok (.if_icmp .ne 39, 3) := dk_160 0 39 (dk_at dksX6_term_0 20 rfl rfl)
theorem dX6_term_23 : decode cX6_term 23 = .ok (.aload_n 0, 1) := dk_42 (dk_at dksX6_term_0 23 rfl rfl)
theorem dX6_term_24 : decode cX6_term 24 = .ok (.getfield 3, 3) := dk_180 0 3 (dk_at dksX6_term_1 0 rfl rfl)
theorem dX6_term_27 : decode cX6_term 27 = .ok (.getfield 38, 3) := dk_180 0 38 (dk_at dksX6_term_1 3 rfl rfl)
theorem dX6_term_30 : decode cX6_term 30 = .ok (.aload_n 0, 1) := dk_42 (dk_at dksX6_term_1 6 rfl rfl)
theorem dX6_term_31 : decode cX6_term 31 = .ok (.getfield 35, 3) := dk_180 0 35 (dk_at dksX6_term_1 7 rfl rfl)
theorem dX6_term_34 : decode cX6_term 34 = .ok (.baload, 1) := dk_51 (dk_at dksX6_term_1 10 rfl rfl)
theorem dX6_term_35 : decode cX6_term 35 = .ok (.istore_n 2, 1) := dk_61 (dk_at dksX6_term_1 11 rfl rfl)
theorem dX6_term_36 : decode cX6_term 36 = .ok (.aload_n 0, 1) := dk_42 (dk_at dksX6_term_1 12 rfl rfl)
theorem dX6_term_37 : decode cX6_term 37 = .ok (.dup, 1) := dk_89 (dk_at dksX6_term_1 13 rfl rfl)
theorem dX6_term_38 : decode cX6_term 38 = .ok (.getfield 35, 3) := dk_180 0 35 (dk_at dksX6_term_1 14 rfl rfl)
theorem dX6_term_41 : decode cX6_term 41 = .ok (.iconst 1, 1) := dk_4 (dk_at dksX6_term_1 17 rfl rfl)
theorem dX6_term_42 : decode cX6_term 42 = .ok (.iadd, 1) := dk_96 (dk_at dksX6_term_1 18 rfl rfl)
theorem dX6_term_43 : decode cX6_term 43 = .ok (.putfield 35, 3) := dk_181 0 35 (dk_at dksX6_term_1 19 rfl rfl)
theorem dX6_term_46 : decode cX6_term 46 = .ok (.iload_n 2, 1) := dk_28 (dk_at dksX6_term_1 22 rfl rfl)
theorem dX6_term_47 : decode cX6_term 47 = .ok (.aload_n 1, 1) := dk_43 (dk_at dksX6_term_1 23 rfl rfl)
theorem dX6_term_48 : decode cX6_term 48 = .ok (.aload_n 0, 1) := dk_42 (dk_at dksX6_term_2 0 rfl rfl)
theorem dX6_term_49 : decode cX6_term 49 = .ok (.invokevirtual 124, 3) := dk_182 0 124 (dk_at dksX6_term_2 1 rfl rfl)
theorem dX6_term_52 : decode cX6_term 52 = .ok (.invokestatic 120, 3) := dk_184 0 120 (dk_at dksX6_term_2 4 rfl rfl)
theorem dX6_term_55 : decode cX6_term 55 = .ok (.astore_n 1, 1) := dk_76 (dk_at dksX6_term_2 7 rfl rfl)
theorem dX6_term_56 : decode cX6_term 56 = .ok (.goto (-51), 3) := dk_167 255 205 (dk_at dksX6_term_2 8 rfl rfl)
theorem dX6_term_59 : decode cX6_term 59 = .ok (.aload_n 1, 1) := dk_43 (dk_at dksX6_term_2 11 rfl rfl)
theorem dX6_term_60 : decode cX6_term 60 = .ok (.areturn, 1) := dk_176 (dk_at dksX6_term_2 12 rfl rfl)
abbrev cX6_factor : ByteArray := prog_9_method_13_code
def yX6_factor : MethodName := ⟨RX6, "factor", "()LDocumentaryCreditDesk$Fee;"⟩
def dkwX6_factor_12 : List UInt8 := [183, 0, 60, 191]
abbrev dktX6_factor_12 : List UInt8 := dkwX6_factor_12 ++ []
def dkwX6_factor_11 : List UInt8 := [186, 0, 152, 0, 0, 176, 186, 0, 154, 0, 0, 176, 186, 0, 155, 0, 0, 176, 187, 0, 58, 89, 28]
abbrev dktX6_factor_11 : List UInt8 := dkwX6_factor_11 ++ dktX6_factor_12
def dkwX6_factor_10 : List UInt8 := [170, 0, 0, 0, 0, 0, 0, 46, 0, 0, 0, 0, 0, 0, 0, 2, 0, 0, 0, 28, 0, 0, 0, 34, 0, 0, 0, 40]
abbrev dktX6_factor_10 : List UInt8 := dkwX6_factor_10 ++ dktX6_factor_11
def dkwX6_factor_9 : List UInt8 := [4, 54, 4, 167, 0, 15, 45, 18, 150, 182, 0, 90, 153, 0, 6, 5, 54, 4, 21, 4]
abbrev dktX6_factor_9 : List UInt8 := dkwX6_factor_9 ++ dktX6_factor_10
def dkwX6_factor_8 : List UInt8 := [45, 18, 146, 182, 0, 90, 153, 0, 36, 3, 54, 4, 167, 0, 30, 45, 18, 148, 182, 0, 90, 153, 0, 21]
abbrev dktX6_factor_8 : List UInt8 := dkwX6_factor_8 ++ dktX6_factor_9
def dkwX6_factor_7 : List UInt8 := [171, 0, 0, 0, 0, 76, 0, 0, 0, 3, 171, 186, 80, 88, 0, 0, 0, 34, 178, 213, 111, 107, 0, 0, 0, 64, 0, 46, 240, 87, 0, 0, 0, 49]
abbrev dktX6_factor_7 : List UInt8 := dkwX6_factor_7 ++ dktX6_factor_8
def dkwX6_factor_6 : List UInt8 := [45, 182, 0, 143]
abbrev dktX6_factor_6 : List UInt8 := dkwX6_factor_6 ++ dktX6_factor_7
def dkwX6_factor_5 : List UInt8 := [76, 42, 180, 0, 35, 61, 42, 89, 180, 0, 35, 43, 182, 0, 96, 96, 181, 0, 35, 43, 78, 2, 54, 4]
abbrev dktX6_factor_5 : List UInt8 := dkwX6_factor_5 ++ dktX6_factor_6
def dkwX6_factor_4 : List UInt8 := [153, 0, 20, 42, 3, 17, 39, 15, 182, 0, 136, 133, 64, 31, 186, 0, 139, 0, 0, 176, 42, 182, 0, 87]
abbrev dktX6_factor_4 : List UInt8 := dkwX6_factor_4 ++ dktX6_factor_5
def dkwX6_factor_3 : List UInt8 := [100, 181, 0, 127, 44, 176, 78, 42, 89, 180, 0, 127, 4, 100, 181, 0, 127, 45, 191, 42, 182, 0, 98]
abbrev dktX6_factor_3 : List UInt8 := dkwX6_factor_3 ++ dktX6_factor_4
def dkwX6_factor_2 : List UInt8 := [4, 96, 181, 0, 127, 42, 182, 0, 130, 76, 42, 16, 41, 182, 0, 133, 43, 77, 42, 89, 180, 0, 127, 4]
abbrev dktX6_factor_2 : List UInt8 := dkwX6_factor_2 ++ dktX6_factor_3
def dkwX6_factor_1 : List UInt8 := [16, 251, 42, 180, 0, 35, 182, 0, 112, 42, 89, 180, 0, 35, 4, 96, 181, 0, 35, 42, 89, 180, 0, 127]
abbrev dktX6_factor_1 : List UInt8 := dkwX6_factor_1 ++ dktX6_factor_2
def dkwX6_factor_0 : List UInt8 := [42, 182, 0, 50, 16, 40, 160, 0, 84, 42, 42, 180, 0, 127, 7, 162, 0, 7, 4, 167, 0, 4, 3]
abbrev dktX6_factor_0 : List UInt8 := dkwX6_factor_0 ++ dktX6_factor_1
theorem dksX6_factor_0 : cX6_factor.data.toList.drop 0 = dktX6_factor_0 := by decide +kernel
theorem dksX6_factor_1 : cX6_factor.data.toList.drop 23 = dktX6_factor_1 := dk_seg dksX6_factor_0 23 rfl rfl
theorem dksX6_factor_2 : cX6_factor.data.toList.drop 47 = dktX6_factor_2 := dk_seg dksX6_factor_1 24 rfl rfl
theorem dksX6_factor_3 : cX6_factor.data.toList.drop 71 = dktX6_factor_3 := dk_seg dksX6_factor_2 24 rfl rfl
theorem dksX6_factor_4 : cX6_factor.data.toList.drop 94 = dktX6_factor_4 := dk_seg dksX6_factor_3 23 rfl rfl
theorem dksX6_factor_5 : cX6_factor.data.toList.drop 118 = dktX6_factor_5 := dk_seg dksX6_factor_4 24 rfl rfl
theorem dksX6_factor_6 : cX6_factor.data.toList.drop 142 = dktX6_factor_6 := dk_seg dksX6_factor_5 24 rfl rfl
theorem dksX6_factor_7 : cX6_factor.data.toList.drop 146 = dktX6_factor_7 := dk_seg dksX6_factor_6 4 rfl rfl
theorem dksX6_factor_8 : cX6_factor.data.toList.drop 180 = dktX6_factor_8 := dk_seg dksX6_factor_7 34 rfl rfl
theorem dksX6_factor_9 : cX6_factor.data.toList.drop 204 = dktX6_factor_9 := dk_seg dksX6_factor_8 24 rfl rfl
theorem dksX6_factor_10 : cX6_factor.data.toList.drop 224 = dktX6_factor_10 := dk_seg dksX6_factor_9 20 rfl rfl
theorem dksX6_factor_11 : cX6_factor.data.toList.drop 252 = dktX6_factor_11 := dk_seg dksX6_factor_10 28 rfl rfl
theorem dksX6_factor_12 : cX6_factor.data.toList.drop 275 = dktX6_factor_12 := dk_seg dksX6_factor_11 23 rfl rfl
theorem dX6_factor_0 : decode cX6_factor 0 = .ok (.aload_n 0, 1) := dk_42 (dk_at dksX6_factor_0 0 rfl rfl)
theorem dX6_factor_1 : decode cX6_factor 1 = .ok (.invokevirtual 50, 3) := dk_182 0 50 (dk_at dksX6_factor_0 1 rfl rfl)
theorem dX6_factor_4 : decode cX6_factor 4 = .ok (.bipush 40, 2) := dk_16 40 (dk_at dksX6_factor_0 4 rfl rfl)
theorem dX6_factor_6 : decode cX6_factor 6 = .ok (.if_icmp .ne 84, 3) := dk_160 0 84 (dk_at dksX6_factor_0 6 rfl rfl)
theorem dX6_factor_9 : decode cX6_factor 9 = .ok (.aload_n 0, 1) := dk_42 (dk_at dksX6_factor_0 9 rfl rfl)
theorem dX6_factor_10 : decode cX6_factor 10 = .ok (.aload_n 0, 1) := dk_42 (dk_at dksX6_factor_0 10 rfl rfl)
theorem dX6_factor_11 : decode cX6_factor 11 = .ok (.getfield 127, 3) := dk_180 0 127 (dk_at dksX6_factor_0 11 rfl rfl)
theorem dX6_factor_14 : decode cX6_factor 14 = .ok (.iconst 4, 1) := dk_7 (dk_at dksX6_factor_0 14 rfl rfl)
theorem dX6_factor_15 : decode cX6_factor 15 = .ok (.if_icmp .ge 7, 3) := dk_162 0 7 (dk_at dksX6_factor_0 15 rfl rfl)
theorem dX6_factor_18 : decode cX6_factor 18 = .ok (.iconst 1, 1) := dk_4 (dk_at dksX6_factor_0 18 rfl rfl)
theorem dX6_factor_19 : decode cX6_factor 19 = .ok (.goto 4, 3) := dk_167 0 4 (dk_at dksX6_factor_0 19 rfl rfl)
theorem dX6_factor_22 : decode cX6_factor 22 = .ok (.iconst 0, 1) := dk_3 (dk_at dksX6_factor_0 22 rfl rfl)
theorem dX6_factor_23 : decode cX6_factor 23 = .ok (.bipush (-5), 2) := dk_16 251 (dk_at dksX6_factor_1 0 rfl rfl)
theorem dX6_factor_25 : decode cX6_factor 25 = .ok (.aload_n 0, 1) := dk_42 (dk_at dksX6_factor_1 2 rfl rfl)
theorem dX6_factor_26 : decode cX6_factor 26 = .ok (.getfield 35, 3) := dk_180 0 35 (dk_at dksX6_factor_1 3 rfl rfl)
theorem dX6_factor_29 : decode cX6_factor 29 = .ok (.invokevirtual 112, 3) := dk_182 0 112 (dk_at dksX6_factor_1 6 rfl rfl)
theorem dX6_factor_32 : decode cX6_factor 32 = .ok (.aload_n 0, 1) := dk_42 (dk_at dksX6_factor_1 9 rfl rfl)
theorem dX6_factor_33 : decode cX6_factor 33 = .ok (.dup, 1) := dk_89 (dk_at dksX6_factor_1 10 rfl rfl)
theorem dX6_factor_34 : decode cX6_factor 34 = .ok (.getfield 35, 3) := dk_180 0 35 (dk_at dksX6_factor_1 11 rfl rfl)
theorem dX6_factor_37 : decode cX6_factor 37 = .ok (.iconst 1, 1) := dk_4 (dk_at dksX6_factor_1 14 rfl rfl)
theorem dX6_factor_38 : decode cX6_factor 38 = .ok (.iadd, 1) := dk_96 (dk_at dksX6_factor_1 15 rfl rfl)
theorem dX6_factor_39 : decode cX6_factor 39 = .ok (.putfield 35, 3) := dk_181 0 35 (dk_at dksX6_factor_1 16 rfl rfl)
theorem dX6_factor_42 : decode cX6_factor 42 = .ok (.aload_n 0, 1) := dk_42 (dk_at dksX6_factor_1 19 rfl rfl)
theorem dX6_factor_43 : decode cX6_factor 43 = .ok (.dup, 1) := dk_89 (dk_at dksX6_factor_1 20 rfl rfl)
theorem dX6_factor_44 : decode cX6_factor 44 = .ok (.getfield 127, 3) := dk_180 0 127 (dk_at dksX6_factor_1 21 rfl rfl)
theorem dX6_factor_47 : decode cX6_factor 47 = .ok (.iconst 1, 1) := dk_4 (dk_at dksX6_factor_2 0 rfl rfl)
theorem dX6_factor_48 : decode cX6_factor 48 = .ok (.iadd, 1) := dk_96 (dk_at dksX6_factor_2 1 rfl rfl)
theorem dX6_factor_49 : decode cX6_factor 49 = .ok (.putfield 127, 3) := dk_181 0 127 (dk_at dksX6_factor_2 2 rfl rfl)
theorem dX6_factor_52 : decode cX6_factor 52 = .ok (.aload_n 0, 1) := dk_42 (dk_at dksX6_factor_2 5 rfl rfl)
theorem dX6_factor_53 : decode cX6_factor 53 = .ok (.invokevirtual 130, 3) := dk_182 0 130 (dk_at dksX6_factor_2 6 rfl rfl)
theorem dX6_factor_56 : decode cX6_factor 56 = .ok (.astore_n 1, 1) := dk_76 (dk_at dksX6_factor_2 9 rfl rfl)
theorem dX6_factor_57 : decode cX6_factor 57 = .ok (.aload_n 0, 1) := dk_42 (dk_at dksX6_factor_2 10 rfl rfl)
theorem dX6_factor_58 : decode cX6_factor 58 = .ok (.bipush 41, 2) := dk_16 41 (dk_at dksX6_factor_2 11 rfl rfl)
theorem dX6_factor_60 : decode cX6_factor 60 = .ok (.invokevirtual 133, 3) := dk_182 0 133 (dk_at dksX6_factor_2 13 rfl rfl)
theorem dX6_factor_63 : decode cX6_factor 63 = .ok (.aload_n 1, 1) := dk_43 (dk_at dksX6_factor_2 16 rfl rfl)
theorem dX6_factor_64 : decode cX6_factor 64 = .ok (.astore_n 2, 1) := dk_77 (dk_at dksX6_factor_2 17 rfl rfl)
theorem dX6_factor_65 : decode cX6_factor 65 = .ok (.aload_n 0, 1) := dk_42 (dk_at dksX6_factor_2 18 rfl rfl)
theorem dX6_factor_66 : decode cX6_factor 66 = .ok (.dup, 1) := dk_89 (dk_at dksX6_factor_2 19 rfl rfl)
theorem dX6_factor_67 : decode cX6_factor 67 = .ok (.getfield 127, 3) := dk_180 0 127 (dk_at dksX6_factor_2 20 rfl rfl)
theorem dX6_factor_70 : decode cX6_factor 70 = .ok (.iconst 1, 1) := dk_4 (dk_at dksX6_factor_2 23 rfl rfl)
theorem dX6_factor_71 : decode cX6_factor 71 = .ok (.isub, 1) := dk_100 (dk_at dksX6_factor_3 0 rfl rfl)
theorem dX6_factor_72 : decode cX6_factor 72 = .ok (.putfield 127, 3) := dk_181 0 127 (dk_at dksX6_factor_3 1 rfl rfl)
theorem dX6_factor_75 : decode cX6_factor 75 = .ok (.aload_n 2, 1) := dk_44 (dk_at dksX6_factor_3 4 rfl rfl)
theorem dX6_factor_76 : decode cX6_factor 76 = .ok (.areturn, 1) := dk_176 (dk_at dksX6_factor_3 5 rfl rfl)
theorem dX6_factor_77 : decode cX6_factor 77 = .ok (.astore_n 3, 1) := dk_78 (dk_at dksX6_factor_3 6 rfl rfl)
theorem dX6_factor_78 : decode cX6_factor 78 = .ok (.aload_n 0, 1) := dk_42 (dk_at dksX6_factor_3 7 rfl rfl)
theorem dX6_factor_79 : decode cX6_factor 79 = .ok (.dup, 1) := dk_89 (dk_at dksX6_factor_3 8 rfl rfl)
theorem dX6_factor_80 : decode cX6_factor 80 = .ok (.getfield 127, 3) := dk_180 0 127 (dk_at dksX6_factor_3 9 rfl rfl)
theorem dX6_factor_83 : decode cX6_factor 83 = .ok (.iconst 1, 1) := dk_4 (dk_at dksX6_factor_3 12 rfl rfl)
theorem dX6_factor_84 : decode cX6_factor 84 = .ok (.isub, 1) := dk_100 (dk_at dksX6_factor_3 13 rfl rfl)
theorem dX6_factor_85 : decode cX6_factor 85 = .ok (.putfield 127, 3) := dk_181 0 127 (dk_at dksX6_factor_3 14 rfl rfl)
theorem dX6_factor_88 : decode cX6_factor 88 = .ok (.aload_n 3, 1) := dk_45 (dk_at dksX6_factor_3 17 rfl rfl)
theorem dX6_factor_89 : decode cX6_factor 89 = .ok (.athrow, 1) := dk_191 (dk_at dksX6_factor_3 18 rfl rfl)
theorem dX6_factor_90 : decode cX6_factor 90 = .ok (.aload_n 0, 1) := dk_42 (dk_at dksX6_factor_3 19 rfl rfl)
theorem dX6_factor_91 : decode cX6_factor 91 = .ok (.invokevirtual 98, 3) := dk_182 0 98 (dk_at dksX6_factor_3 20 rfl rfl)
theorem dX6_factor_94 : decode cX6_factor 94 = .ok (.ifCond .eq 20, 3) := dk_153 0 20 (dk_at dksX6_factor_4 0 rfl rfl)
theorem dX6_factor_97 : decode cX6_factor 97 = .ok (.aload_n 0, 1) := dk_42 (dk_at dksX6_factor_4 3 rfl rfl)
theorem dX6_factor_98 : decode cX6_factor 98 = .ok (.iconst 0, 1) := dk_3 (dk_at dksX6_factor_4 4 rfl rfl)
theorem dX6_factor_99 : decode cX6_factor 99 = .ok (.sipush 9999, 3) := dk_17 39 15 (dk_at dksX6_factor_4 5 rfl rfl)
theorem dX6_factor_102 : decode cX6_factor 102 = .ok (.invokevirtual 136, 3) := dk_182 0 136 (dk_at dksX6_factor_4 8 rfl rfl)
theorem dX6_factor_105 : decode cX6_factor 105 = .ok (.i2l, 1) := dk_133 (dk_at dksX6_factor_4 11 rfl rfl)
theorem dX6_factor_106 : decode cX6_factor 106 = .ok (.lstore_n 1, 1) := dk_64 (dk_at dksX6_factor_4 12 rfl rfl)
theorem dX6_factor_107 : decode cX6_factor 107 = .ok (.lload_n 1, 1) := dk_31 (dk_at dksX6_factor_4 13 rfl rfl)
theorem dX6_factor_108 : decode cX6_factor 108 = .ok (.invokedynamic 139, 5) := by decide +kernel
theorem dX6_factor_113 : decode cX6_factor 113 = .ok (.areturn, 1) := dk_176 (dk_at dksX6_factor_4 19 rfl rfl)
theorem dX6_factor_114 : decode cX6_factor 114 = .ok (.aload_n 0, 1) := dk_42 (dk_at dksX6_factor_4 20 rfl rfl)
theorem dX6_factor_115 : decode cX6_factor 115 = .ok (.invokevirtual 87, 3) := dk_182 0 87 (dk_at dksX6_factor_4 21 rfl rfl)
theorem dX6_factor_118 : decode cX6_factor 118 = .ok (.astore_n 1, 1) := dk_76 (dk_at dksX6_factor_5 0 rfl rfl)
theorem dX6_factor_119 : decode cX6_factor 119 = .ok (.aload_n 0, 1) := dk_42 (dk_at dksX6_factor_5 1 rfl rfl)
theorem dX6_factor_120 : decode cX6_factor 120 = .ok (.getfield 35, 3) := dk_180 0 35 (dk_at dksX6_factor_5 2 rfl rfl)
theorem dX6_factor_123 : decode cX6_factor 123 = .ok (.istore_n 2, 1) := dk_61 (dk_at dksX6_factor_5 5 rfl rfl)
theorem dX6_factor_124 : decode cX6_factor 124 = .ok (.aload_n 0, 1) := dk_42 (dk_at dksX6_factor_5 6 rfl rfl)
theorem dX6_factor_125 : decode cX6_factor 125 = .ok (.dup, 1) := dk_89 (dk_at dksX6_factor_5 7 rfl rfl)
theorem dX6_factor_126 : decode cX6_factor 126 = .ok (.getfield 35, 3) := dk_180 0 35 (dk_at dksX6_factor_5 8 rfl rfl)
theorem dX6_factor_129 : decode cX6_factor 129 = .ok (.aload_n 1, 1) := dk_43 (dk_at dksX6_factor_5 11 rfl rfl)
theorem dX6_factor_130 : decode cX6_factor 130 = .ok (.invokevirtual 96, 3) := dk_182 0 96 (dk_at dksX6_factor_5 12 rfl rfl)
theorem dX6_factor_133 : decode cX6_factor 133 = .ok (.iadd, 1) := dk_96 (dk_at dksX6_factor_5 15 rfl rfl)
theorem dX6_factor_134 : decode cX6_factor 134 = .ok (.putfield 35, 3) := dk_181 0 35 (dk_at dksX6_factor_5 16 rfl rfl)
theorem dX6_factor_137 : decode cX6_factor 137 = .ok (.aload_n 1, 1) := dk_43 (dk_at dksX6_factor_5 19 rfl rfl)
theorem dX6_factor_138 : decode cX6_factor 138 = .ok (.astore_n 3, 1) := dk_78 (dk_at dksX6_factor_5 20 rfl rfl)
theorem dX6_factor_139 : decode cX6_factor 139 = .ok (.iconst (-1), 1) := dk_2 (dk_at dksX6_factor_5 21 rfl rfl)
theorem dX6_factor_140 : decode cX6_factor 140 = .ok (.istore 4, 2) := dk_54 4 (dk_at dksX6_factor_5 22 rfl rfl)
theorem dX6_factor_142 : decode cX6_factor 142 = .ok (.aload_n 3, 1) := dk_45 (dk_at dksX6_factor_6 0 rfl rfl)
theorem dX6_factor_143 : decode cX6_factor 143 = .ok (.invokevirtual 143, 3) := dk_182 0 143 (dk_at dksX6_factor_6 1 rfl rfl)
theorem dX6_factor_146 : decode cX6_factor 146 = .ok (.lookupswitch 76 #[(-1413853096, 34), (-1294635157, 64), (3076183, 49)], 34) := by decide +kernel
theorem dX6_factor_180 : decode cX6_factor 180 = .ok (.aload_n 3, 1) := dk_45 (dk_at dksX6_factor_8 0 rfl rfl)
theorem dX6_factor_181 : decode cX6_factor 181 = .ok (.ldc 146, 2) := dk_18 146 (dk_at dksX6_factor_8 1 rfl rfl)
theorem dX6_factor_183 : decode cX6_factor 183 = .ok (.invokevirtual 90, 3) := dk_182 0 90 (dk_at dksX6_factor_8 3 rfl rfl)
theorem dX6_factor_186 : decode cX6_factor 186 = .ok (.ifCond .eq 36, 3) := dk_153 0 36 (dk_at dksX6_factor_8 6 rfl rfl)
theorem dX6_factor_189 : decode cX6_factor 189 = .ok (.iconst 0, 1) := dk_3 (dk_at dksX6_factor_8 9 rfl rfl)
theorem dX6_factor_190 : decode cX6_factor 190 = .ok (.istore 4, 2) := dk_54 4 (dk_at dksX6_factor_8 10 rfl rfl)
theorem dX6_factor_192 : decode cX6_factor 192 = .ok (.goto 30, 3) := dk_167 0 30 (dk_at dksX6_factor_8 12 rfl rfl)
theorem dX6_factor_195 : decode cX6_factor 195 = .ok (.aload_n 3, 1) := dk_45 (dk_at dksX6_factor_8 15 rfl rfl)
theorem dX6_factor_196 : decode cX6_factor 196 = .ok (.ldc 148, 2) := dk_18 148 (dk_at dksX6_factor_8 16 rfl rfl)
theorem dX6_factor_198 : decode cX6_factor 198 = .ok (.invokevirtual 90, 3) := dk_182 0 90 (dk_at dksX6_factor_8 18 rfl rfl)
theorem dX6_factor_201 : decode cX6_factor 201 = .ok (.ifCond .eq 21, 3) := dk_153 0 21 (dk_at dksX6_factor_8 21 rfl rfl)
theorem dX6_factor_204 : decode cX6_factor 204 = .ok (.iconst 1, 1) := dk_4 (dk_at dksX6_factor_9 0 rfl rfl)
theorem dX6_factor_205 : decode cX6_factor 205 = .ok (.istore 4, 2) := dk_54 4 (dk_at dksX6_factor_9 1 rfl rfl)
theorem dX6_factor_207 : decode cX6_factor 207 = .ok (.goto 15, 3) := dk_167 0 15 (dk_at dksX6_factor_9 3 rfl rfl)
theorem dX6_factor_210 : decode cX6_factor 210 = .ok (.aload_n 3, 1) := dk_45 (dk_at dksX6_factor_9 6 rfl rfl)
theorem dX6_factor_211 : decode cX6_factor 211 = .ok (.ldc 150, 2) := dk_18 150 (dk_at dksX6_factor_9 7 rfl rfl)
theorem dX6_factor_213 : decode cX6_factor 213 = .ok (.invokevirtual 90, 3) := dk_182 0 90 (dk_at dksX6_factor_9 9 rfl rfl)
theorem dX6_factor_216 : decode cX6_factor 216 = .ok (.ifCond .eq 6, 3) := dk_153 0 6 (dk_at dksX6_factor_9 12 rfl rfl)
theorem dX6_factor_219 : decode cX6_factor 219 = .ok (.iconst 2, 1) := dk_5 (dk_at dksX6_factor_9 15 rfl rfl)
theorem dX6_factor_220 : decode cX6_factor 220 = .ok (.istore 4, 2) := dk_54 4 (dk_at dksX6_factor_9 16 rfl rfl)
theorem dX6_factor_222 : decode cX6_factor 222 = .ok (.iload 4, 2) := dk_21 4 (dk_at dksX6_factor_9 18 rfl rfl)
theorem dX6_factor_224 : decode cX6_factor 224 = .ok (.tableswitch 46 0 2 #[28, 34, 40], 28) := by decide +kernel
theorem dX6_factor_252 : decode cX6_factor 252 = .ok (.invokedynamic 152, 5) := by decide +kernel
theorem dX6_factor_257 : decode cX6_factor 257 = .ok (.areturn, 1) := dk_176 (dk_at dksX6_factor_11 5 rfl rfl)
theorem dX6_factor_258 : decode cX6_factor 258 = .ok (.invokedynamic 154, 5) := by decide +kernel
theorem dX6_factor_263 : decode cX6_factor 263 = .ok (.areturn, 1) := dk_176 (dk_at dksX6_factor_11 11 rfl rfl)
theorem dX6_factor_264 : decode cX6_factor 264 = .ok (.invokedynamic 155, 5) := by decide +kernel
theorem dX6_factor_269 : decode cX6_factor 269 = .ok (.areturn, 1) := dk_176 (dk_at dksX6_factor_11 17 rfl rfl)
theorem dX6_factor_270 : decode cX6_factor 270 = .ok (.new 58, 3) := dk_187 0 58 (dk_at dksX6_factor_11 18 rfl rfl)
theorem dX6_factor_273 : decode cX6_factor 273 = .ok (.dup, 1) := dk_89 (dk_at dksX6_factor_11 21 rfl rfl)
theorem dX6_factor_274 : decode cX6_factor 274 = .ok (.iload_n 2, 1) := dk_28 (dk_at dksX6_factor_11 22 rfl rfl)
theorem dX6_factor_275 : decode cX6_factor 275 = .ok (.invokespecial 60, 3) := dk_183 0 60 (dk_at dksX6_factor_12 0 rfl rfl)
theorem dX6_factor_278 : decode cX6_factor 278 = .ok (.athrow, 1) := dk_191 (dk_at dksX6_factor_12 3 rfl rfl)
abbrev cX6_expect : ByteArray := prog_9_method_7_code
def yX6_expect : MethodName := ⟨RX6, "expect", "(I)V"⟩
def dkwX6_expect_1 : List UInt8 := [89, 180, 0, 35, 4, 96, 181, 0, 35, 177]
abbrev dktX6_expect_1 : List UInt8 := dkwX6_expect_1 ++ []
def dkwX6_expect_0 : List UInt8 := [42, 182, 0, 50, 27, 160, 0, 7, 4, 167, 0, 4, 3, 61, 42, 28, 42, 180, 0, 35, 182, 0, 68, 42]
abbrev dktX6_expect_0 : List UInt8 := dkwX6_expect_0 ++ dktX6_expect_1
theorem dksX6_expect_0 : cX6_expect.data.toList.drop 0 = dktX6_expect_0 := by decide +kernel
theorem dksX6_expect_1 : cX6_expect.data.toList.drop 24 = dktX6_expect_1 := dk_seg dksX6_expect_0 24 rfl rfl
theorem dX6_expect_0 : decode cX6_expect 0 = .ok (.aload_n 0, 1) := dk_42 (dk_at dksX6_expect_0 0 rfl rfl)
theorem dX6_expect_1 : decode cX6_expect 1 = .ok (.invokevirtual 50, 3) := dk_182 0 50 (dk_at dksX6_expect_0 1 rfl rfl)
theorem dX6_expect_4 : decode cX6_expect 4 = .ok (.iload_n 1, 1) := dk_27 (dk_at dksX6_expect_0 4 rfl rfl)
theorem dX6_expect_5 : decode cX6_expect 5 = .ok (.if_icmp .ne 7, 3) := dk_160 0 7 (dk_at dksX6_expect_0 5 rfl rfl)
theorem dX6_expect_8 : decode cX6_expect 8 = .ok (.iconst 1, 1) := dk_4 (dk_at dksX6_expect_0 8 rfl rfl)
theorem dX6_expect_9 : decode cX6_expect 9 = .ok (.goto 4, 3) := dk_167 0 4 (dk_at dksX6_expect_0 9 rfl rfl)
theorem dX6_expect_12 : decode cX6_expect 12 = .ok (.iconst 0, 1) := dk_3 (dk_at dksX6_expect_0 12 rfl rfl)
theorem dX6_expect_13 : decode cX6_expect 13 = .ok (.istore_n 2, 1) := dk_61 (dk_at dksX6_expect_0 13 rfl rfl)
theorem dX6_expect_14 : decode cX6_expect 14 = .ok (.aload_n 0, 1) := dk_42 (dk_at dksX6_expect_0 14 rfl rfl)
theorem dX6_expect_15 : decode cX6_expect 15 = .ok (.iload_n 2, 1) := dk_28 (dk_at dksX6_expect_0 15 rfl rfl)
theorem dX6_expect_16 : decode cX6_expect 16 = .ok (.aload_n 0, 1) := dk_42 (dk_at dksX6_expect_0 16 rfl rfl)
theorem dX6_expect_17 : decode cX6_expect 17 = .ok (.getfield 35, 3) := dk_180 0 35 (dk_at dksX6_expect_0 17 rfl rfl)
theorem dX6_expect_20 : decode cX6_expect 20 = .ok (.invokevirtual 68, 3) := dk_182 0 68 (dk_at dksX6_expect_0 20 rfl rfl)
theorem dX6_expect_23 : decode cX6_expect 23 = .ok (.aload_n 0, 1) := dk_42 (dk_at dksX6_expect_0 23 rfl rfl)
theorem dX6_expect_24 : decode cX6_expect 24 = .ok (.dup, 1) := dk_89 (dk_at dksX6_expect_1 0 rfl rfl)
theorem dX6_expect_25 : decode cX6_expect 25 = .ok (.getfield 35, 3) := dk_180 0 35 (dk_at dksX6_expect_1 1 rfl rfl)
theorem dX6_expect_28 : decode cX6_expect 28 = .ok (.iconst 1, 1) := dk_4 (dk_at dksX6_expect_1 4 rfl rfl)
theorem dX6_expect_29 : decode cX6_expect 29 = .ok (.iadd, 1) := dk_96 (dk_at dksX6_expect_1 5 rfl rfl)
theorem dX6_expect_30 : decode cX6_expect 30 = .ok (.putfield 35, 3) := dk_181 0 35 (dk_at dksX6_expect_1 6 rfl rfl)
theorem dX6_expect_33 : decode cX6_expect 33 = .ok (.return_, 1) := dk_177 (dk_at dksX6_expect_1 9 rfl rfl)
abbrev cX6_lambda_factor_0 : ByteArray := prog_9_method_22_code
def yX6_lambda_factor_0 : MethodName := ⟨RX6, "lambda$factor$0", "(JJJJ)J"⟩
theorem dX6_lambda_factor_0_0 : decode cX6_lambda_factor_0 0 = .ok (.lload_n 0, 1) := by decide +kernel
theorem dX6_lambda_factor_0_1 : decode cX6_lambda_factor_0 1 = .ok (.lreturn, 1) := by decide +kernel
abbrev cX6_lambda_factor_1 : ByteArray := prog_9_method_21_code
def yX6_lambda_factor_1 : MethodName := ⟨RX6, "lambda$factor$1", "(JJJ)J"⟩
theorem dX6_lambda_factor_1_0 : decode cX6_lambda_factor_1 0 = .ok (.lload_n 0, 1) := by decide +kernel
theorem dX6_lambda_factor_1_1 : decode cX6_lambda_factor_1 1 = .ok (.lreturn, 1) := by decide +kernel
abbrev cX6_lambda_factor_2 : ByteArray := prog_9_method_20_code
def yX6_lambda_factor_2 : MethodName := ⟨RX6, "lambda$factor$2", "(JJJ)J"⟩
theorem dX6_lambda_factor_2_0 : decode cX6_lambda_factor_2 0 = .ok (.lload_n 2, 1) := by decide +kernel
theorem dX6_lambda_factor_2_1 : decode cX6_lambda_factor_2 1 = .ok (.lreturn, 1) := by decide +kernel
abbrev cX6_lambda_factor_3 : ByteArray := prog_9_method_19_code
def yX6_lambda_factor_3 : MethodName := ⟨RX6, "lambda$factor$3", "(JJJ)J"⟩
theorem dX6_lambda_factor_3_0 : decode cX6_lambda_factor_3 0 = .ok (.lload 4, 2) := by decide +kernel
theorem dX6_lambda_factor_3_2 : decode cX6_lambda_factor_3 2 = .ok (.lreturn, 1) := by decide +kernel
theorem q81 : (Jvm.Cond.initialized "DocumentaryCreditDesk$Parser") ∈ lw_all := lw_g (lw_at lw_m1 14 rfl) rfl
theorem q146 : (Jvm.Cond.fieldLinkNest "DocumentaryCreditDesk$Parser" (159 : Nat) "DocumentaryCreditDesk$Calendar" "count" "I" "DocumentaryCreditDesk") ∈ lw_tbl := lw_at lw_m1 79 rfl
theorem q200 : (Jvm.Cond.fieldLinkNest "DocumentaryCreditDesk$Parser" (179 : Nat) "DocumentaryCreditDesk$Desk" "credits" "LDocumentaryCreditDesk$Book;" "DocumentaryCreditDesk") ∈ lw_tbl := lw_at lw_m1 133 rfl
theorem q204 : (Jvm.Cond.fieldLinkNest "DocumentaryCreditDesk$Parser" (211 : Nat) "DocumentaryCreditDesk$Desk" "fee" "LDocumentaryCreditDesk$Fee;" "DocumentaryCreditDesk") ∈ lw_tbl := lw_at lw_m1 137 rfl
theorem q218 : (Jvm.Cond.fieldLinkNest "DocumentaryCreditDesk$Parser" (38 : Nat) "DocumentaryCreditDesk" "buffer" "[B" "DocumentaryCreditDesk") ∈ lw_tbl := lw_at lw_m1 151 rfl
theorem q453 : (Jvm.Cond.instantiable "DocumentaryCreditDesk$Parser" (8 : Nat)) ∈ lw_all := lw_g (lw_at lw_m2 146 rfl) rfl
theorem q455 : (Jvm.Cond.instanceMethod ({ cls := "DocumentaryCreditDesk$Parser", name := "<init>", desc := "(LDocumentaryCreditDesk;I)V" } : Jvm.MethodName)) ∈ lw_all := lw_g (lw_at lw_m2 148 rfl) rfl
theorem q456 : (Jvm.Cond.code ({ cls := "DocumentaryCreditDesk$Parser", name := "<init>", desc := "(LDocumentaryCreditDesk;I)V" } : Jvm.MethodName) prog_9_method_1_code (3 : Nat) (Option.none : Option Jvm.ClassFile.FieldType)) ∈ lw_all := lw_g (lw_at lw_m2 149 rfl) rfl
theorem q457 : (Jvm.Cond.methodLink "DocumentaryCreditDesk$Parser" (9 : Nat) ({ cls := "java/lang/Object", name := "<init>", desc := "()V" } : Jvm.MethodName)) ∈ lw_all := lw_g (lw_at lw_m2 150 rfl) rfl
theorem q458 : (Jvm.Cond.classLink "DocumentaryCreditDesk$Parser" (15 : Nat) "DocumentaryCreditDesk$Calendar") ∈ lw_all := lw_g (lw_at lw_m2 151 rfl) rfl
theorem q459 : (Jvm.Cond.methodLinkNest "DocumentaryCreditDesk$Parser" (17 : Nat) ({ cls := "DocumentaryCreditDesk$Calendar", name := "<init>", desc := "()V" } : Jvm.MethodName) "DocumentaryCreditDesk") ∈ lw_tbl := lw_at lw_m2 152 rfl
theorem q460 : (Jvm.Cond.classLink "DocumentaryCreditDesk$Parser" (22 : Nat) "DocumentaryCreditDesk$Desk") ∈ lw_all := lw_g (lw_at lw_m2 153 rfl) rfl
theorem q461 : (Jvm.Cond.methodLink "DocumentaryCreditDesk$Parser" (24 : Nat) ({ cls := "DocumentaryCreditDesk$Desk", name := "<init>", desc := "(LDocumentaryCreditDesk$Calendar;)V" } : Jvm.MethodName)) ∈ lw_all := lw_g (lw_at lw_m2 154 rfl) rfl
theorem q462 : (Jvm.Cond.fieldLink "DocumentaryCreditDesk$Parser" (31 : Nat) "DocumentaryCreditDesk$Parser" "length" "I") ∈ lw_all := lw_g (lw_at lw_m2 155 rfl) rfl
theorem q463 : (Jvm.Cond.fieldLink "DocumentaryCreditDesk$Parser" (18 : Nat) "DocumentaryCreditDesk$Parser" "calendar" "LDocumentaryCreditDesk$Calendar;") ∈ lw_all := lw_g (lw_at lw_m2 156 rfl) rfl
theorem q464 : (Jvm.Cond.fieldLink "DocumentaryCreditDesk$Parser" (27 : Nat) "DocumentaryCreditDesk$Parser" "desk" "LDocumentaryCreditDesk$Desk;") ∈ lw_all := lw_g (lw_at lw_m2 157 rfl) rfl
theorem q465 : (Jvm.Cond.fieldLink "DocumentaryCreditDesk$Parser" (35 : Nat) "DocumentaryCreditDesk$Parser" "next" "I") ∈ lw_all := lw_g (lw_at lw_m2 158 rfl) rfl
theorem q466 : (Jvm.Cond.fieldLink "DocumentaryCreditDesk$Parser" (102 : Nat) "DocumentaryCreditDesk$Parser" "start" "I") ∈ lw_all := lw_g (lw_at lw_m2 159 rfl) rfl
theorem q467 : (Jvm.Cond.fieldLink "DocumentaryCreditDesk$Parser" (127 : Nat) "DocumentaryCreditDesk$Parser" "depth" "I") ∈ lw_all := lw_g (lw_at lw_m2 160 rfl) rfl
theorem q468 : (Jvm.Cond.fieldLink "DocumentaryCreditDesk$Parser" (207 : Nat) "DocumentaryCreditDesk$Parser" "hasFee" "Z") ∈ lw_all := lw_g (lw_at lw_m2 161 rfl) rfl
theorem q469 : (Jvm.Cond.fieldLink "DocumentaryCreditDesk$Parser" (3 : Nat) "DocumentaryCreditDesk$Parser" "this$0" "LDocumentaryCreditDesk;") ∈ lw_all := lw_g (lw_at lw_m2 162 rfl) rfl
theorem q470 : (Jvm.Cond.laysFinal "DocumentaryCreditDesk$Parser" "DocumentaryCreditDesk$Parser" "length" "I") ∈ lw_all := lw_g (lw_at lw_m2 163 rfl) rfl
theorem q471 : (Jvm.Cond.soleField "DocumentaryCreditDesk$Parser" "length") ∈ lw_all := lw_g (lw_at lw_m2 164 rfl) rfl
theorem q472 : (Jvm.Cond.laysFinal "DocumentaryCreditDesk$Parser" "DocumentaryCreditDesk$Parser" "calendar" "LDocumentaryCreditDesk$Calendar;") ∈ lw_all := lw_g (lw_at lw_m2 165 rfl) rfl
theorem q473 : (Jvm.Cond.soleField "DocumentaryCreditDesk$Parser" "calendar") ∈ lw_all := lw_g (lw_at lw_m2 166 rfl) rfl
theorem q474 : (Jvm.Cond.laysFinal "DocumentaryCreditDesk$Parser" "DocumentaryCreditDesk$Parser" "desk" "LDocumentaryCreditDesk$Desk;") ∈ lw_all := lw_g (lw_at lw_m2 167 rfl) rfl
theorem q475 : (Jvm.Cond.soleField "DocumentaryCreditDesk$Parser" "desk") ∈ lw_all := lw_g (lw_at lw_m2 168 rfl) rfl
theorem q476 : (Jvm.Cond.lays "DocumentaryCreditDesk$Parser" "DocumentaryCreditDesk$Parser" "next" "I") ∈ lw_all := lw_g (lw_at lw_m2 169 rfl) rfl
theorem q477 : (Jvm.Cond.soleField "DocumentaryCreditDesk$Parser" "next") ∈ lw_all := lw_g (lw_at lw_m2 170 rfl) rfl
theorem q478 : (Jvm.Cond.lays "DocumentaryCreditDesk$Parser" "DocumentaryCreditDesk$Parser" "start" "I") ∈ lw_all := lw_g (lw_at lw_m2 171 rfl) rfl
theorem q479 : (Jvm.Cond.soleField "DocumentaryCreditDesk$Parser" "start") ∈ lw_all := lw_g (lw_at lw_m2 172 rfl) rfl
theorem q480 : (Jvm.Cond.lays "DocumentaryCreditDesk$Parser" "DocumentaryCreditDesk$Parser" "depth" "I") ∈ lw_all := lw_g (lw_at lw_m2 173 rfl) rfl
theorem q481 : (Jvm.Cond.soleField "DocumentaryCreditDesk$Parser" "depth") ∈ lw_all := lw_g (lw_at lw_m2 174 rfl) rfl
theorem q482 : (Jvm.Cond.lays "DocumentaryCreditDesk$Parser" "DocumentaryCreditDesk$Parser" "hasFee" "Z") ∈ lw_all := lw_g (lw_at lw_m2 175 rfl) rfl
theorem q483 : (Jvm.Cond.soleField "DocumentaryCreditDesk$Parser" "hasFee") ∈ lw_all := lw_g (lw_at lw_m2 176 rfl) rfl
theorem q484 : (Jvm.Cond.laysFinal "DocumentaryCreditDesk$Parser" "DocumentaryCreditDesk$Parser" "this$0" "LDocumentaryCreditDesk;") ∈ lw_all := lw_g (lw_at lw_m2 177 rfl) rfl
theorem q485 : (Jvm.Cond.soleField "DocumentaryCreditDesk$Parser" "this$0") ∈ lw_all := lw_g (lw_at lw_m2 178 rfl) rfl
theorem q486 : (Jvm.Cond.superclass "DocumentaryCreditDesk$Parser" "java/lang/Object") ∈ lw_all := lw_g (lw_at lw_m2 179 rfl) rfl
theorem q488 : (Jvm.Cond.instanceMethod ({ cls := "DocumentaryCreditDesk$Parser", name := "parse", desc := "()LDocumentaryCreditDesk$Desk;" } : Jvm.MethodName)) ∈ lw_all := lw_g (lw_at lw_m2 181 rfl) rfl
theorem q489 : (Jvm.Cond.selects "DocumentaryCreditDesk$Parser" ({ cls := "DocumentaryCreditDesk$Parser", name := "parse", desc := "()LDocumentaryCreditDesk$Desk;" } : Jvm.MethodName) ({ cls := "DocumentaryCreditDesk$Parser", name := "parse", desc := "()LDocumentaryCreditDesk$Desk;" } : Jvm.MethodName)) ∈ lw_all := lw_g (lw_at lw_m2 182 rfl) rfl
theorem q490 : (Jvm.Cond.code ({ cls := "DocumentaryCreditDesk$Parser", name := "parse", desc := "()LDocumentaryCreditDesk$Desk;" } : Jvm.MethodName) prog_9_method_18_code (1 : Nat) (Option.some (Jvm.ClassFile.FieldType.object "DocumentaryCreditDesk$Desk"))) ∈ lw_all := lw_g (lw_at lw_m2 183 rfl) rfl
theorem q491 : (Jvm.Cond.methodLink "DocumentaryCreditDesk$Parser" (50 : Nat) ({ cls := "DocumentaryCreditDesk$Parser", name := "peek", desc := "()I" } : Jvm.MethodName)) ∈ lw_all := lw_g (lw_at lw_m2 184 rfl) rfl
theorem q492 : (Jvm.Cond.privateMethod ({ cls := "DocumentaryCreditDesk$Parser", name := "peek", desc := "()I" } : Jvm.MethodName)) ∈ lw_tbl := lw_at lw_m2 185 rfl
theorem q493 : (Jvm.Cond.instanceMethod ({ cls := "DocumentaryCreditDesk$Parser", name := "peek", desc := "()I" } : Jvm.MethodName)) ∈ lw_all := lw_g (lw_at lw_m2 186 rfl) rfl
theorem q494 : (Jvm.Cond.code ({ cls := "DocumentaryCreditDesk$Parser", name := "peek", desc := "()I" } : Jvm.MethodName) prog_9_method_2_code (1 : Nat) (Option.some Jvm.ClassFile.FieldType.int)) ∈ lw_all := lw_g (lw_at lw_m2 187 rfl) rfl
theorem q495 : (Jvm.Cond.methodLink "DocumentaryCreditDesk$Parser" (214 : Nat) ({ cls := "DocumentaryCreditDesk$Parser", name := "statement", desc := "()V" } : Jvm.MethodName)) ∈ lw_all := lw_g (lw_at lw_m2 188 rfl) rfl
theorem q496 : (Jvm.Cond.privateMethod ({ cls := "DocumentaryCreditDesk$Parser", name := "statement", desc := "()V" } : Jvm.MethodName)) ∈ lw_tbl := lw_at lw_m2 189 rfl
theorem q497 : (Jvm.Cond.instanceMethod ({ cls := "DocumentaryCreditDesk$Parser", name := "statement", desc := "()V" } : Jvm.MethodName)) ∈ lw_all := lw_g (lw_at lw_m2 190 rfl) rfl
theorem q498 : (Jvm.Cond.code ({ cls := "DocumentaryCreditDesk$Parser", name := "statement", desc := "()V" } : Jvm.MethodName) prog_9_method_17_code (5 : Nat) (Option.none : Option Jvm.ClassFile.FieldType)) ∈ lw_all := lw_g (lw_at lw_m2 191 rfl) rfl
theorem q499 : (Jvm.Cond.methodLink "DocumentaryCreditDesk$Parser" (87 : Nat) ({ cls := "DocumentaryCreditDesk$Parser", name := "word", desc := "()Ljava/lang/String;" } : Jvm.MethodName)) ∈ lw_all := lw_g (lw_at lw_m2 192 rfl) rfl
theorem q500 : (Jvm.Cond.privateMethod ({ cls := "DocumentaryCreditDesk$Parser", name := "word", desc := "()Ljava/lang/String;" } : Jvm.MethodName)) ∈ lw_tbl := lw_at lw_m2 193 rfl
theorem q501 : (Jvm.Cond.instanceMethod ({ cls := "DocumentaryCreditDesk$Parser", name := "word", desc := "()Ljava/lang/String;" } : Jvm.MethodName)) ∈ lw_all := lw_g (lw_at lw_m2 194 rfl) rfl
theorem q502 : (Jvm.Cond.code ({ cls := "DocumentaryCreditDesk$Parser", name := "word", desc := "()Ljava/lang/String;" } : Jvm.MethodName) prog_9_method_8_code (3 : Nat) (Option.some (Jvm.ClassFile.FieldType.object "java/lang/String"))) ∈ lw_all := lw_g (lw_at lw_m2 195 rfl) rfl
theorem q503 : (Jvm.Cond.classLink "DocumentaryCreditDesk$Parser" (72 : Nat) "java/lang/StringBuilder") ∈ lw_all := lw_g (lw_at lw_m2 196 rfl) rfl
theorem q505 : (Jvm.Cond.methodLink "DocumentaryCreditDesk$Parser" (74 : Nat) ({ cls := "java/lang/StringBuilder", name := "<init>", desc := "()V" } : Jvm.MethodName)) ∈ lw_all := lw_g (lw_at lw_m2 198 rfl) rfl
theorem q534 : (Jvm.Cond.methodLink "DocumentaryCreditDesk$Parser" (75 : Nat) ({ cls := "DocumentaryCreditDesk$Parser", name := "isLetterAt", desc := "(I)Z" } : Jvm.MethodName)) ∈ lw_all := lw_g (lw_at lw_m2 227 rfl) rfl
theorem q535 : (Jvm.Cond.privateMethod ({ cls := "DocumentaryCreditDesk$Parser", name := "isLetterAt", desc := "(I)Z" } : Jvm.MethodName)) ∈ lw_tbl := lw_at lw_m2 228 rfl
theorem q536 : (Jvm.Cond.instanceMethod ({ cls := "DocumentaryCreditDesk$Parser", name := "isLetterAt", desc := "(I)Z" } : Jvm.MethodName)) ∈ lw_all := lw_g (lw_at lw_m2 229 rfl) rfl
theorem q537 : (Jvm.Cond.code ({ cls := "DocumentaryCreditDesk$Parser", name := "isLetterAt", desc := "(I)Z" } : Jvm.MethodName) prog_9_method_3_code (2 : Nat) (Option.some Jvm.ClassFile.FieldType.boolean)) ∈ lw_all := lw_g (lw_at lw_m2 230 rfl) rfl
theorem q538 : (Jvm.Cond.constantLong "DocumentaryCreditDesk$Parser" (42 : Nat) (97 : Int64)) ∈ lw_all := lw_g (lw_at lw_m2 231 rfl) rfl
theorem q539 : (Jvm.Cond.constantLong "DocumentaryCreditDesk$Parser" (44 : Nat) (122 : Int64)) ∈ lw_all := lw_g (lw_at lw_m2 232 rfl) rfl
theorem q540 : (Jvm.Cond.methodLinkNest "DocumentaryCreditDesk$Parser" (46 : Nat) ({ cls := "DocumentaryCreditDesk", name := "isBetween", desc := "(JJJ)Z" } : Jvm.MethodName) "DocumentaryCreditDesk") ∈ lw_tbl := lw_at lw_m2 233 rfl
theorem q541 : (Jvm.Cond.methodLink "DocumentaryCreditDesk$Parser" (79 : Nat) ({ cls := "java/lang/StringBuilder", name := "append", desc := "(C)Ljava/lang/StringBuilder;" } : Jvm.MethodName)) ∈ lw_all := lw_g (lw_at lw_m2 234 rfl) rfl
theorem q634 : (Jvm.Cond.methodLink "DocumentaryCreditDesk$Parser" (83 : Nat) ({ cls := "java/lang/StringBuilder", name := "toString", desc := "()Ljava/lang/String;" } : Jvm.MethodName)) ∈ lw_all := lw_g (lw_at lw_m3 87 rfl) rfl
theorem q785 : (Jvm.Cond.methodLink "DocumentaryCreditDesk$Parser" (96 : Nat) ({ cls := "java/lang/String", name := "length", desc := "()I" } : Jvm.MethodName)) ∈ lw_all := lw_g (lw_at lw_m3 238 rfl) rfl
theorem q786 : (Jvm.Cond.methodLink "DocumentaryCreditDesk$Parser" (143 : Nat) ({ cls := "java/lang/String", name := "hashCode", desc := "()I" } : Jvm.MethodName)) ∈ lw_all := lw_g (lw_at lw_m3 239 rfl) rfl
theorem q847 : (Jvm.Cond.stringRef "DocumentaryCreditDesk$Parser" (193 : Nat) "holiday") ∈ lw_tbl := lw_at lw_m4 60 rfl
theorem q848 : (Jvm.Cond.methodLink "DocumentaryCreditDesk$Parser" (90 : Nat) ({ cls := "java/lang/String", name := "equals", desc := "(Ljava/lang/Object;)Z" } : Jvm.MethodName)) ∈ lw_all := lw_g (lw_at lw_m4 61 rfl) rfl
theorem q856 : (Jvm.Cond.stringRef "DocumentaryCreditDesk$Parser" (195 : Nat) "credit") ∈ lw_tbl := lw_at lw_m4 69 rfl
theorem q857 : (Jvm.Cond.stringRef "DocumentaryCreditDesk$Parser" (197 : Nat) "fee") ∈ lw_tbl := lw_at lw_m4 70 rfl
theorem q858 : (Jvm.Cond.methodLink "DocumentaryCreditDesk$Parser" (199 : Nat) ({ cls := "DocumentaryCreditDesk$Parser", name := "holidays", desc := "()V" } : Jvm.MethodName)) ∈ lw_all := lw_g (lw_at lw_m4 71 rfl) rfl
theorem q859 : (Jvm.Cond.privateMethod ({ cls := "DocumentaryCreditDesk$Parser", name := "holidays", desc := "()V" } : Jvm.MethodName)) ∈ lw_tbl := lw_at lw_m4 72 rfl
theorem q860 : (Jvm.Cond.instanceMethod ({ cls := "DocumentaryCreditDesk$Parser", name := "holidays", desc := "()V" } : Jvm.MethodName)) ∈ lw_all := lw_g (lw_at lw_m4 73 rfl) rfl
theorem q861 : (Jvm.Cond.code ({ cls := "DocumentaryCreditDesk$Parser", name := "holidays", desc := "()V" } : Jvm.MethodName) prog_9_method_14_code (2 : Nat) (Option.none : Option Jvm.ClassFile.FieldType)) ∈ lw_all := lw_g (lw_at lw_m4 74 rfl) rfl
theorem q862 : (Jvm.Cond.methodLink "DocumentaryCreditDesk$Parser" (136 : Nat) ({ cls := "DocumentaryCreditDesk$Parser", name := "number", desc := "(II)I" } : Jvm.MethodName)) ∈ lw_all := lw_g (lw_at lw_m4 75 rfl) rfl
theorem q863 : (Jvm.Cond.privateMethod ({ cls := "DocumentaryCreditDesk$Parser", name := "number", desc := "(II)I" } : Jvm.MethodName)) ∈ lw_tbl := lw_at lw_m4 76 rfl
theorem q864 : (Jvm.Cond.instanceMethod ({ cls := "DocumentaryCreditDesk$Parser", name := "number", desc := "(II)I" } : Jvm.MethodName)) ∈ lw_all := lw_g (lw_at lw_m4 77 rfl) rfl
theorem q865 : (Jvm.Cond.code ({ cls := "DocumentaryCreditDesk$Parser", name := "number", desc := "(II)I" } : Jvm.MethodName) prog_9_method_10_code (5 : Nat) (Option.some Jvm.ClassFile.FieldType.int)) ∈ lw_all := lw_g (lw_at lw_m4 78 rfl) rfl
theorem q866 : (Jvm.Cond.methodLink "DocumentaryCreditDesk$Parser" (98 : Nat) ({ cls := "DocumentaryCreditDesk$Parser", name := "isDigitNext", desc := "()Z" } : Jvm.MethodName)) ∈ lw_all := lw_g (lw_at lw_m4 79 rfl) rfl
theorem q867 : (Jvm.Cond.privateMethod ({ cls := "DocumentaryCreditDesk$Parser", name := "isDigitNext", desc := "()Z" } : Jvm.MethodName)) ∈ lw_tbl := lw_at lw_m4 80 rfl
theorem q868 : (Jvm.Cond.instanceMethod ({ cls := "DocumentaryCreditDesk$Parser", name := "isDigitNext", desc := "()Z" } : Jvm.MethodName)) ∈ lw_all := lw_g (lw_at lw_m4 81 rfl) rfl
theorem q869 : (Jvm.Cond.code ({ cls := "DocumentaryCreditDesk$Parser", name := "isDigitNext", desc := "()Z" } : Jvm.MethodName) prog_9_method_4_code (1 : Nat) (Option.some Jvm.ClassFile.FieldType.boolean)) ∈ lw_all := lw_g (lw_at lw_m4 82 rfl) rfl
theorem q870 : (Jvm.Cond.constantLong "DocumentaryCreditDesk$Parser" (54 : Nat) (48 : Int64)) ∈ lw_all := lw_g (lw_at lw_m4 83 rfl) rfl
theorem q871 : (Jvm.Cond.constantLong "DocumentaryCreditDesk$Parser" (56 : Nat) (57 : Int64)) ∈ lw_all := lw_g (lw_at lw_m4 84 rfl) rfl
theorem q872 : (Jvm.Cond.methodLink "DocumentaryCreditDesk$Parser" (68 : Nat) ({ cls := "DocumentaryCreditDesk$Parser", name := "requireSyntax", desc := "(ZI)V" } : Jvm.MethodName)) ∈ lw_all := lw_g (lw_at lw_m4 85 rfl) rfl
theorem q873 : (Jvm.Cond.privateMethod ({ cls := "DocumentaryCreditDesk$Parser", name := "requireSyntax", desc := "(ZI)V" } : Jvm.MethodName)) ∈ lw_tbl := lw_at lw_m4 86 rfl
theorem q874 : (Jvm.Cond.instanceMethod ({ cls := "DocumentaryCreditDesk$Parser", name := "requireSyntax", desc := "(ZI)V" } : Jvm.MethodName)) ∈ lw_all := lw_g (lw_at lw_m4 87 rfl) rfl
theorem q875 : (Jvm.Cond.code ({ cls := "DocumentaryCreditDesk$Parser", name := "requireSyntax", desc := "(ZI)V" } : Jvm.MethodName) prog_9_method_5_code (3 : Nat) (Option.none : Option Jvm.ClassFile.FieldType)) ∈ lw_all := lw_g (lw_at lw_m4 88 rfl) rfl
theorem q876 : (Jvm.Cond.classLink "DocumentaryCreditDesk$Parser" (58 : Nat) "DocumentaryCreditDesk$SyntaxException") ∈ lw_all := lw_g (lw_at lw_m4 89 rfl) rfl
theorem q885 : (Jvm.Cond.methodLink "DocumentaryCreditDesk$Parser" (60 : Nat) ({ cls := "DocumentaryCreditDesk$SyntaxException", name := "<init>", desc := "(I)V" } : Jvm.MethodName)) ∈ lw_all := lw_g (lw_at lw_m4 98 rfl) rfl
theorem q903 : (Jvm.Cond.constant "DocumentaryCreditDesk$Parser" (105 : Nat) (1000000 : Int32)) ∈ lw_all := lw_g (lw_at lw_m4 116 rfl) rfl
theorem q904 : (Jvm.Cond.methodLink "DocumentaryCreditDesk$Parser" (106 : Nat) ({ cls := "java/lang/Math", name := "min", desc := "(II)I" } : Jvm.MethodName)) ∈ lw_all := lw_g (lw_at lw_m4 117 rfl) rfl
theorem q905 : (Jvm.Cond.methodLink "DocumentaryCreditDesk$Parser" (112 : Nat) ({ cls := "DocumentaryCreditDesk$Parser", name := "requireLimit", desc := "(ZII)V" } : Jvm.MethodName)) ∈ lw_all := lw_g (lw_at lw_m4 118 rfl) rfl
theorem q906 : (Jvm.Cond.privateMethod ({ cls := "DocumentaryCreditDesk$Parser", name := "requireLimit", desc := "(ZII)V" } : Jvm.MethodName)) ∈ lw_tbl := lw_at lw_m4 119 rfl
theorem q907 : (Jvm.Cond.instanceMethod ({ cls := "DocumentaryCreditDesk$Parser", name := "requireLimit", desc := "(ZII)V" } : Jvm.MethodName)) ∈ lw_all := lw_g (lw_at lw_m4 120 rfl) rfl
theorem q908 : (Jvm.Cond.code ({ cls := "DocumentaryCreditDesk$Parser", name := "requireLimit", desc := "(ZII)V" } : Jvm.MethodName) prog_9_method_6_code (4 : Nat) (Option.none : Option Jvm.ClassFile.FieldType)) ∈ lw_all := lw_g (lw_at lw_m4 121 rfl) rfl
theorem q909 : (Jvm.Cond.classLink "DocumentaryCreditDesk$Parser" (63 : Nat) "DocumentaryCreditDesk$LimitException") ∈ lw_all := lw_g (lw_at lw_m4 122 rfl) rfl
theorem q918 : (Jvm.Cond.methodLink "DocumentaryCreditDesk$Parser" (65 : Nat) ({ cls := "DocumentaryCreditDesk$LimitException", name := "<init>", desc := "(II)V" } : Jvm.MethodName)) ∈ lw_all := lw_g (lw_at lw_m4 131 rfl) rfl
theorem q928 : (Jvm.Cond.methodLink "DocumentaryCreditDesk$Parser" (156 : Nat) ({ cls := "DocumentaryCreditDesk$Calendar", name := "isHoliday", desc := "(I)Z" } : Jvm.MethodName)) ∈ lw_all := lw_g (lw_at lw_m4 141 rfl) rfl
theorem q932 : (Jvm.Cond.methodLink "DocumentaryCreditDesk$Parser" (162 : Nat) ({ cls := "DocumentaryCreditDesk$Calendar", name := "add", desc := "(I)V" } : Jvm.MethodName)) ∈ lw_all := lw_g (lw_at lw_m4 145 rfl) rfl
theorem q936 : (Jvm.Cond.methodLink "DocumentaryCreditDesk$Parser" (202 : Nat) ({ cls := "DocumentaryCreditDesk$Book", name := "isFull", desc := "()Z" } : Jvm.MethodName)) ∈ lw_all := lw_g (lw_at lw_m4 149 rfl) rfl
theorem q940 : (Jvm.Cond.methodLink "DocumentaryCreditDesk$Parser" (205 : Nat) ({ cls := "DocumentaryCreditDesk$Parser", name := "credit", desc := "()V" } : Jvm.MethodName)) ∈ lw_all := lw_g (lw_at lw_m4 153 rfl) rfl
theorem q941 : (Jvm.Cond.privateMethod ({ cls := "DocumentaryCreditDesk$Parser", name := "credit", desc := "()V" } : Jvm.MethodName)) ∈ lw_tbl := lw_at lw_m4 154 rfl
theorem q942 : (Jvm.Cond.instanceMethod ({ cls := "DocumentaryCreditDesk$Parser", name := "credit", desc := "()V" } : Jvm.MethodName)) ∈ lw_all := lw_g (lw_at lw_m4 155 rfl) rfl
theorem q943 : (Jvm.Cond.code ({ cls := "DocumentaryCreditDesk$Parser", name := "credit", desc := "()V" } : Jvm.MethodName) prog_9_method_16_code (5 : Nat) (Option.none : Option Jvm.ClassFile.FieldType)) ∈ lw_all := lw_g (lw_at lw_m4 156 rfl) rfl
theorem q944 : (Jvm.Cond.constant "DocumentaryCreditDesk$Parser" (165 : Nat) (999999 : Int32)) ∈ lw_all := lw_g (lw_at lw_m4 157 rfl) rfl
theorem q945 : (Jvm.Cond.stringRef "DocumentaryCreditDesk$Parser" (166 : Nat) "partial") ∈ lw_tbl := lw_at lw_m4 158 rfl
theorem q946 : (Jvm.Cond.methodLink "DocumentaryCreditDesk$Parser" (168 : Nat) ({ cls := "DocumentaryCreditDesk$Parser", name := "accept", desc := "(Ljava/lang/String;)Z" } : Jvm.MethodName)) ∈ lw_all := lw_g (lw_at lw_m4 159 rfl) rfl
theorem q947 : (Jvm.Cond.privateMethod ({ cls := "DocumentaryCreditDesk$Parser", name := "accept", desc := "(Ljava/lang/String;)Z" } : Jvm.MethodName)) ∈ lw_tbl := lw_at lw_m4 160 rfl
theorem q948 : (Jvm.Cond.instanceMethod ({ cls := "DocumentaryCreditDesk$Parser", name := "accept", desc := "(Ljava/lang/String;)Z" } : Jvm.MethodName)) ∈ lw_all := lw_g (lw_at lw_m4 161 rfl) rfl
theorem q949 : (Jvm.Cond.code ({ cls := "DocumentaryCreditDesk$Parser", name := "accept", desc := "(Ljava/lang/String;)Z" } : Jvm.MethodName) prog_9_method_9_code (2 : Nat) (Option.some Jvm.ClassFile.FieldType.boolean)) ∈ lw_all := lw_g (lw_at lw_m4 162 rfl) rfl
theorem q950 : (Jvm.Cond.stringRef "DocumentaryCreditDesk$Parser" (172 : Nat) "transferable") ∈ lw_tbl := lw_at lw_m4 163 rfl
theorem q951 : (Jvm.Cond.stringRef "DocumentaryCreditDesk$Parser" (174 : Nat) "needs") ∈ lw_tbl := lw_at lw_m4 164 rfl
theorem q952 : (Jvm.Cond.methodLink "DocumentaryCreditDesk$Parser" (176 : Nat) ({ cls := "DocumentaryCreditDesk$Parser", name := "documents", desc := "()I" } : Jvm.MethodName)) ∈ lw_all := lw_g (lw_at lw_m4 165 rfl) rfl
theorem q953 : (Jvm.Cond.privateMethod ({ cls := "DocumentaryCreditDesk$Parser", name := "documents", desc := "()I" } : Jvm.MethodName)) ∈ lw_tbl := lw_at lw_m4 166 rfl
theorem q954 : (Jvm.Cond.instanceMethod ({ cls := "DocumentaryCreditDesk$Parser", name := "documents", desc := "()I" } : Jvm.MethodName)) ∈ lw_all := lw_g (lw_at lw_m4 167 rfl) rfl
theorem q955 : (Jvm.Cond.code ({ cls := "DocumentaryCreditDesk$Parser", name := "documents", desc := "()I" } : Jvm.MethodName) prog_9_method_15_code (3 : Nat) (Option.some Jvm.ClassFile.FieldType.int)) ∈ lw_all := lw_g (lw_at lw_m4 168 rfl) rfl
theorem q956 : (Jvm.Cond.classLink "DocumentaryCreditDesk$Parser" (183 : Nat) "DocumentaryCreditDesk$Credit") ∈ lw_all := lw_g (lw_at lw_m4 169 rfl) rfl
theorem q958 : (Jvm.Cond.methodLink "DocumentaryCreditDesk$Parser" (185 : Nat) ({ cls := "DocumentaryCreditDesk$Credit", name := "<init>", desc := "(I[IIZZ)V" } : Jvm.MethodName)) ∈ lw_all := lw_g (lw_at lw_m4 171 rfl) rfl
theorem q1008 : (Jvm.Cond.methodLink "DocumentaryCreditDesk$Parser" (188 : Nat) ({ cls := "DocumentaryCreditDesk$Book", name := "add", desc := "(Ljava/lang/Object;)I" } : Jvm.MethodName)) ∈ lw_all := lw_g (lw_at lw_m4 221 rfl) rfl
theorem q1047 : (Jvm.Cond.selects "DocumentaryCreditDesk$Parser" ({ cls := "java/lang/Object", name := "getClass", desc := "()Ljava/lang/Class;" } : Jvm.MethodName) ({ cls := "java/lang/Object", name := "getClass", desc := "()Ljava/lang/Class;" } : Jvm.MethodName)) ∈ lw_all := lw_g (lw_at lw_m5 20 rfl) rfl
theorem q1070 : (Jvm.Cond.methodLink "DocumentaryCreditDesk$Parser" (130 : Nat) ({ cls := "DocumentaryCreditDesk$Parser", name := "sum", desc := "()LDocumentaryCreditDesk$Fee;" } : Jvm.MethodName)) ∈ lw_all := lw_g (lw_at lw_m5 43 rfl) rfl
theorem q1071 : (Jvm.Cond.privateMethod ({ cls := "DocumentaryCreditDesk$Parser", name := "sum", desc := "()LDocumentaryCreditDesk$Fee;" } : Jvm.MethodName)) ∈ lw_tbl := lw_at lw_m5 44 rfl
theorem q1072 : (Jvm.Cond.instanceMethod ({ cls := "DocumentaryCreditDesk$Parser", name := "sum", desc := "()LDocumentaryCreditDesk$Fee;" } : Jvm.MethodName)) ∈ lw_all := lw_g (lw_at lw_m5 45 rfl) rfl
theorem q1073 : (Jvm.Cond.code ({ cls := "DocumentaryCreditDesk$Parser", name := "sum", desc := "()LDocumentaryCreditDesk$Fee;" } : Jvm.MethodName) prog_9_method_11_code (3 : Nat) (Option.some (Jvm.ClassFile.FieldType.object "DocumentaryCreditDesk$Fee"))) ∈ lw_all := lw_g (lw_at lw_m5 46 rfl) rfl
theorem q1074 : (Jvm.Cond.methodLink "DocumentaryCreditDesk$Parser" (116 : Nat) ({ cls := "DocumentaryCreditDesk$Parser", name := "term", desc := "()LDocumentaryCreditDesk$Fee;" } : Jvm.MethodName)) ∈ lw_all := lw_g (lw_at lw_m5 47 rfl) rfl
theorem q1075 : (Jvm.Cond.privateMethod ({ cls := "DocumentaryCreditDesk$Parser", name := "term", desc := "()LDocumentaryCreditDesk$Fee;" } : Jvm.MethodName)) ∈ lw_tbl := lw_at lw_m5 48 rfl
theorem q1076 : (Jvm.Cond.instanceMethod ({ cls := "DocumentaryCreditDesk$Parser", name := "term", desc := "()LDocumentaryCreditDesk$Fee;" } : Jvm.MethodName)) ∈ lw_all := lw_g (lw_at lw_m5 49 rfl) rfl
theorem q1077 : (Jvm.Cond.code ({ cls := "DocumentaryCreditDesk$Parser", name := "term", desc := "()LDocumentaryCreditDesk$Fee;" } : Jvm.MethodName) prog_9_method_12_code (3 : Nat) (Option.some (Jvm.ClassFile.FieldType.object "DocumentaryCreditDesk$Fee"))) ∈ lw_all := lw_g (lw_at lw_m5 50 rfl) rfl
theorem q1078 : (Jvm.Cond.methodLink "DocumentaryCreditDesk$Parser" (124 : Nat) ({ cls := "DocumentaryCreditDesk$Parser", name := "factor", desc := "()LDocumentaryCreditDesk$Fee;" } : Jvm.MethodName)) ∈ lw_all := lw_g (lw_at lw_m5 51 rfl) rfl
theorem q1079 : (Jvm.Cond.privateMethod ({ cls := "DocumentaryCreditDesk$Parser", name := "factor", desc := "()LDocumentaryCreditDesk$Fee;" } : Jvm.MethodName)) ∈ lw_tbl := lw_at lw_m5 52 rfl
theorem q1080 : (Jvm.Cond.instanceMethod ({ cls := "DocumentaryCreditDesk$Parser", name := "factor", desc := "()LDocumentaryCreditDesk$Fee;" } : Jvm.MethodName)) ∈ lw_all := lw_g (lw_at lw_m5 53 rfl) rfl
theorem q1081 : (Jvm.Cond.codeWith ({ cls := "DocumentaryCreditDesk$Parser", name := "factor", desc := "()LDocumentaryCreditDesk$Fee;" } : Jvm.MethodName) prog_9_method_13_code (5 : Nat) (Option.some (Jvm.ClassFile.FieldType.object "DocumentaryCreditDesk$Fee")) [((52 : Nat), (65 : Nat), (77 : Nat), (0 : Nat))]) ∈ lw_all := lw_g (lw_at lw_m5 54 rfl) rfl
theorem q1082 : (Jvm.Cond.methodLink "DocumentaryCreditDesk$Parser" (133 : Nat) ({ cls := "DocumentaryCreditDesk$Parser", name := "expect", desc := "(I)V" } : Jvm.MethodName)) ∈ lw_all := lw_g (lw_at lw_m5 55 rfl) rfl
theorem q1083 : (Jvm.Cond.privateMethod ({ cls := "DocumentaryCreditDesk$Parser", name := "expect", desc := "(I)V" } : Jvm.MethodName)) ∈ lw_tbl := lw_at lw_m5 56 rfl
theorem q1084 : (Jvm.Cond.instanceMethod ({ cls := "DocumentaryCreditDesk$Parser", name := "expect", desc := "(I)V" } : Jvm.MethodName)) ∈ lw_all := lw_g (lw_at lw_m5 57 rfl) rfl
theorem q1085 : (Jvm.Cond.code ({ cls := "DocumentaryCreditDesk$Parser", name := "expect", desc := "(I)V" } : Jvm.MethodName) prog_9_method_7_code (3 : Nat) (Option.none : Option Jvm.ClassFile.FieldType)) ∈ lw_all := lw_g (lw_at lw_m5 58 rfl) rfl
theorem q1086 : (Jvm.Cond.static ({ cls := "DocumentaryCreditDesk$Parser", name := "lambda$factor$0", desc := "(JJJJ)J" } : Jvm.MethodName)) ∈ lw_all := lw_g (lw_at lw_m5 59 rfl) rfl
theorem q1087 : (Jvm.Cond.code ({ cls := "DocumentaryCreditDesk$Parser", name := "lambda$factor$0", desc := "(JJJJ)J" } : Jvm.MethodName) prog_9_method_22_code (8 : Nat) (Option.some Jvm.ClassFile.FieldType.long)) ∈ lw_all := lw_g (lw_at lw_m5 60 rfl) rfl
theorem q1088 : (Jvm.Cond.stringRef "DocumentaryCreditDesk$Parser" (146 : Nat) "amount") ∈ lw_tbl := lw_at lw_m5 61 rfl
theorem q1089 : (Jvm.Cond.stringRef "DocumentaryCreditDesk$Parser" (148 : Nat) "days") ∈ lw_tbl := lw_at lw_m5 62 rfl
theorem q1090 : (Jvm.Cond.stringRef "DocumentaryCreditDesk$Parser" (150 : Nat) "errors") ∈ lw_tbl := lw_at lw_m5 63 rfl
theorem q1091 : (Jvm.Cond.static ({ cls := "DocumentaryCreditDesk$Parser", name := "lambda$factor$1", desc := "(JJJ)J" } : Jvm.MethodName)) ∈ lw_all := lw_g (lw_at lw_m5 64 rfl) rfl
theorem q1092 : (Jvm.Cond.code ({ cls := "DocumentaryCreditDesk$Parser", name := "lambda$factor$1", desc := "(JJJ)J" } : Jvm.MethodName) prog_9_method_21_code (6 : Nat) (Option.some Jvm.ClassFile.FieldType.long)) ∈ lw_all := lw_g (lw_at lw_m5 65 rfl) rfl
theorem q1093 : (Jvm.Cond.static ({ cls := "DocumentaryCreditDesk$Parser", name := "lambda$factor$2", desc := "(JJJ)J" } : Jvm.MethodName)) ∈ lw_all := lw_g (lw_at lw_m5 66 rfl) rfl
theorem q1094 : (Jvm.Cond.code ({ cls := "DocumentaryCreditDesk$Parser", name := "lambda$factor$2", desc := "(JJJ)J" } : Jvm.MethodName) prog_9_method_20_code (6 : Nat) (Option.some Jvm.ClassFile.FieldType.long)) ∈ lw_all := lw_g (lw_at lw_m5 67 rfl) rfl
theorem q1095 : (Jvm.Cond.static ({ cls := "DocumentaryCreditDesk$Parser", name := "lambda$factor$3", desc := "(JJJ)J" } : Jvm.MethodName)) ∈ lw_all := lw_g (lw_at lw_m5 68 rfl) rfl
theorem q1096 : (Jvm.Cond.code ({ cls := "DocumentaryCreditDesk$Parser", name := "lambda$factor$3", desc := "(JJJ)J" } : Jvm.MethodName) prog_9_method_19_code (6 : Nat) (Option.some Jvm.ClassFile.FieldType.long)) ∈ lw_all := lw_g (lw_at lw_m5 69 rfl) rfl
theorem q1097 : (Jvm.Cond.methodLinkNest "DocumentaryCreditDesk$Parser" (120 : Nat) ({ cls := "DocumentaryCreditDesk", name := "operation", desc := "(ILDocumentaryCreditDesk$Fee;LDocumentaryCreditDesk$Fee;)LDocumentaryCreditDesk$Fee;" } : Jvm.MethodName) "DocumentaryCreditDesk") ∈ lw_tbl := lw_at lw_m5 70 rfl
theorem q2070 : (Jvm.Cond.castable "DocumentaryCreditDesk$Parser" "java/lang/Object") ∈ lw_tbl := lw_at lw_m9 83 rfl
theorem in_X6 : ∀ w ∈ wsX60, w ∈ lw_all := lw_in wsX60 [470, 472, 474, 476, 478, 480, 482, 484] (by decide +kernel) (by decide +kernel)
/-! DocumentaryCreditDesk$SetupException -/
set_option maxRecDepth 100000
def RX7 : String := "DocumentaryCreditDesk$SetupException"
abbrev cX7_init : ByteArray := prog_11_method_1_code
def yX7_init : MethodName := ⟨RX7, "<init>", "(I)V"⟩
def dkwX7_init_0 : List UInt8 := [42, 1, 1, 3, 3, 183, 0, 1, 42, 27, 181, 0, 7, 177]
abbrev dktX7_init_0 : List UInt8 := dkwX7_init_0 ++ []
theorem dksX7_init_0 : cX7_init.data.toList.drop 0 = dktX7_init_0 := by decide +kernel
theorem dX7_init_0 : decode cX7_init 0 = .ok (.aload_n 0, 1) := dk_42 (dk_at dksX7_init_0 0 rfl rfl)
theorem dX7_init_1 : decode cX7_init 1 = .ok (.aconst_null, 1) := dk_1 (dk_at dksX7_init_0 1 rfl rfl)
theorem dX7_init_2 : decode cX7_init 2 = .ok (.aconst_null, 1) := dk_1 (dk_at dksX7_init_0 2 rfl rfl)
theorem dX7_init_3 : decode cX7_init 3 = .ok (.iconst 0, 1) := dk_3 (dk_at dksX7_init_0 3 rfl rfl)
theorem dX7_init_4 : decode cX7_init 4 = .ok (.iconst 0, 1) := dk_3 (dk_at dksX7_init_0 4 rfl rfl)
theorem dX7_init_5 : decode cX7_init 5 = .ok (.invokespecial 1, 3) := dk_183 0 1 (dk_at dksX7_init_0 5 rfl rfl)
theorem dX7_init_8 : decode cX7_init 8 = .ok (.aload_n 0, 1) := dk_42 (dk_at dksX7_init_0 8 rfl rfl)
theorem dX7_init_9 : decode cX7_init 9 = .ok (.iload_n 1, 1) := dk_27 (dk_at dksX7_init_0 9 rfl rfl)
theorem dX7_init_10 : decode cX7_init 10 = .ok (.putfield 7, 3) := dk_181 0 7 (dk_at dksX7_init_0 10 rfl rfl)
theorem dX7_init_13 : decode cX7_init 13 = .ok (.return_, 1) := dk_177 (dk_at dksX7_init_0 13 rfl rfl)
theorem q94 : (Jvm.Cond.initialized "DocumentaryCreditDesk$SetupException") ∈ lw_all := lw_g (lw_at lw_m1 27 rfl) rfl
theorem q889 : (Jvm.Cond.instanceMethod ({ cls := "DocumentaryCreditDesk$SetupException", name := "<init>", desc := "(I)V" } : Jvm.MethodName)) ∈ lw_all := lw_g (lw_at lw_m4 102 rfl) rfl
theorem q890 : (Jvm.Cond.code ({ cls := "DocumentaryCreditDesk$SetupException", name := "<init>", desc := "(I)V" } : Jvm.MethodName) prog_11_method_1_code (2 : Nat) (Option.none : Option Jvm.ClassFile.FieldType)) ∈ lw_all := lw_g (lw_at lw_m4 103 rfl) rfl
theorem q891 : (Jvm.Cond.methodLink "DocumentaryCreditDesk$SetupException" (1 : Nat) ({ cls := "java/lang/Exception", name := "<init>", desc := "(Ljava/lang/String;Ljava/lang/Throwable;ZZ)V" } : Jvm.MethodName)) ∈ lw_all := lw_g (lw_at lw_m4 104 rfl) rfl
theorem q897 : (Jvm.Cond.fieldLink "DocumentaryCreditDesk$SetupException" (7 : Nat) "DocumentaryCreditDesk$SetupException" "offset" "I") ∈ lw_all := lw_g (lw_at lw_m4 110 rfl) rfl
theorem q900 : (Jvm.Cond.soleField "DocumentaryCreditDesk$SetupException" "offset") ∈ lw_all := lw_g (lw_at lw_m4 113 rfl) rfl
theorem q1162 : (Jvm.Cond.declares ({ cls := "DocumentaryCreditDesk$SetupException", name := "code", desc := "()I" } : Jvm.MethodName)) ∈ lw_tbl := lw_at lw_m5 135 rfl
theorem q1163 : (Jvm.Cond.sameMethod "DocumentaryCreditDesk$SetupException" "DocumentaryCreditDesk$SetupException" "code" "()I") ∈ lw_all := lw_g (lw_at lw_m5 136 rfl) rfl
/-! DocumentaryCreditDesk$SyntaxException -/
set_option maxRecDepth 100000
def RX8 : String := "DocumentaryCreditDesk$SyntaxException"
def TX8 : u_T := fun k => match k with
  | 0 => ("DocumentaryCreditDesk$SetupException", "offset", "I", true)
  | 1 => ("java/lang/Throwable", "cause", "Ljava/lang/Throwable;", false)
  | 2 => ("java/lang/Throwable", "stackTrace", "[Ljava/lang/StackTraceElement;", false)
  | 3 => ("java/lang/Throwable", "suppressedExceptions", "Ljava/util/List;", false)
  | 4 => ("java/lang/Throwable", "detailMessage", "Ljava/lang/String;", false)
  | 5 => ("java/lang/Throwable", "backtrace", "Ljava/lang/Object;", false)
  | _ => ("java/lang/Throwable", "depth", "I", false)
def tyX8 : Nat → FieldType := fun k => match k with
  | 0 => .int
  | 1 => .object "java/lang/Throwable"
  | 2 => .array (.object "java/lang/StackTraceElement")
  | 3 => .object "java/util/List"
  | 4 => .object "java/lang/String"
  | 5 => .object "java/lang/Object"
  | _ => .int
abbrev wsX80 : List Cond := u_ws RX8 TX8 7
theorem nmX8 : ∀ a, a < 7 → ∀ b, b < 7 → a ≠ b → (TX8 a).2.1 ≠ (TX8 b).2.1 := by decide +kernel
theorem tyX8_ok : ∀ k, k < 7 → parseFieldDescriptor (TX8 k).2.2.1 = some (tyX8 k) := by decide +kernel
abbrev cX8_init : ByteArray := prog_12_method_1_code
def yX8_init : MethodName := ⟨RX8, "<init>", "(I)V"⟩
def dkwX8_init_0 : List UInt8 := [42, 27, 183, 0, 3, 177]
abbrev dktX8_init_0 : List UInt8 := dkwX8_init_0 ++ []
theorem dksX8_init_0 : cX8_init.data.toList.drop 0 = dktX8_init_0 := by decide +kernel
theorem dX8_init_0 : decode cX8_init 0 = .ok (.aload_n 0, 1) := dk_42 (dk_at dksX8_init_0 0 rfl rfl)
theorem dX8_init_1 : decode cX8_init 1 = .ok (.iload_n 1, 1) := dk_27 (dk_at dksX8_init_0 1 rfl rfl)
theorem dX8_init_2 : decode cX8_init 2 = .ok (.invokespecial 3, 3) := dk_183 0 3 (dk_at dksX8_init_0 2 rfl rfl)
theorem dX8_init_5 : decode cX8_init 5 = .ok (.return_, 1) := dk_177 (dk_at dksX8_init_0 5 rfl rfl)
abbrev cX8_code : ByteArray := prog_12_method_2_code
def yX8_code : MethodName := ⟨RX8, "code", "()I"⟩
theorem dX8_code_0 : decode cX8_code 0 = .ok (.bipush (-2), 2) := by decide +kernel
theorem dX8_code_2 : decode cX8_code 2 = .ok (.ireturn, 1) := by decide +kernel
theorem q95 : (Jvm.Cond.initialized "DocumentaryCreditDesk$SyntaxException") ∈ lw_all := lw_g (lw_at lw_m1 28 rfl) rfl
theorem q418 : (Jvm.Cond.selects "DocumentaryCreditDesk$SyntaxException" ({ cls := "java/lang/Throwable", name := "fillInStackTrace", desc := "()Ljava/lang/Throwable;" } : Jvm.MethodName) ({ cls := "java/lang/Throwable", name := "fillInStackTrace", desc := "()Ljava/lang/Throwable;" } : Jvm.MethodName)) ∈ lw_all := lw_g (lw_at lw_m2 111 rfl) rfl
theorem q877 : (Jvm.Cond.instantiable "DocumentaryCreditDesk$SyntaxException" (7 : Nat)) ∈ lw_all := lw_g (lw_at lw_m4 90 rfl) rfl
theorem q878 : (Jvm.Cond.castable "DocumentaryCreditDesk$SyntaxException" "DocumentaryCreditDesk$SyntaxException") ∈ lw_tbl := lw_at lw_m4 91 rfl
theorem q879 : (Jvm.Cond.selects "DocumentaryCreditDesk$SyntaxException" ({ cls := "java/lang/Throwable", name := "fillInStackTrace", desc := "(I)Ljava/lang/Throwable;" } : Jvm.MethodName) ({ cls := "java/lang/Throwable", name := "fillInStackTrace", desc := "(I)Ljava/lang/Throwable;" } : Jvm.MethodName)) ∈ lw_all := lw_g (lw_at lw_m4 92 rfl) rfl
theorem q880 : (Jvm.Cond.lays "DocumentaryCreditDesk$SyntaxException" "java/lang/Throwable" "cause" "Ljava/lang/Throwable;") ∈ lw_all := lw_g (lw_at lw_m4 93 rfl) rfl
theorem q881 : (Jvm.Cond.lays "DocumentaryCreditDesk$SyntaxException" "java/lang/Throwable" "stackTrace" "[Ljava/lang/StackTraceElement;") ∈ lw_all := lw_g (lw_at lw_m4 94 rfl) rfl
theorem q882 : (Jvm.Cond.lays "DocumentaryCreditDesk$SyntaxException" "java/lang/Throwable" "suppressedExceptions" "Ljava/util/List;") ∈ lw_all := lw_g (lw_at lw_m4 95 rfl) rfl
theorem q883 : (Jvm.Cond.lays "DocumentaryCreditDesk$SyntaxException" "java/lang/Throwable" "detailMessage" "Ljava/lang/String;") ∈ lw_all := lw_g (lw_at lw_m4 96 rfl) rfl
theorem q884 : (Jvm.Cond.lays "DocumentaryCreditDesk$SyntaxException" "java/lang/Throwable" "backtrace" "Ljava/lang/Object;") ∈ lw_all := lw_g (lw_at lw_m4 97 rfl) rfl
theorem q886 : (Jvm.Cond.instanceMethod ({ cls := "DocumentaryCreditDesk$SyntaxException", name := "<init>", desc := "(I)V" } : Jvm.MethodName)) ∈ lw_all := lw_g (lw_at lw_m4 99 rfl) rfl
theorem q887 : (Jvm.Cond.code ({ cls := "DocumentaryCreditDesk$SyntaxException", name := "<init>", desc := "(I)V" } : Jvm.MethodName) prog_12_method_1_code (2 : Nat) (Option.none : Option Jvm.ClassFile.FieldType)) ∈ lw_all := lw_g (lw_at lw_m4 100 rfl) rfl
theorem q888 : (Jvm.Cond.methodLink "DocumentaryCreditDesk$SyntaxException" (3 : Nat) ({ cls := "DocumentaryCreditDesk$SetupException", name := "<init>", desc := "(I)V" } : Jvm.MethodName)) ∈ lw_all := lw_g (lw_at lw_m4 101 rfl) rfl
theorem q899 : (Jvm.Cond.laysFinal "DocumentaryCreditDesk$SyntaxException" "DocumentaryCreditDesk$SetupException" "offset" "I") ∈ lw_all := lw_g (lw_at lw_m4 112 rfl) rfl
theorem q901 : (Jvm.Cond.lays "DocumentaryCreditDesk$SyntaxException" "java/lang/Throwable" "depth" "I") ∈ lw_all := lw_g (lw_at lw_m4 114 rfl) rfl
theorem q902 : (Jvm.Cond.superclass "DocumentaryCreditDesk$SyntaxException" "DocumentaryCreditDesk$SetupException") ∈ lw_all := lw_g (lw_at lw_m4 115 rfl) rfl
theorem q1049 : (Jvm.Cond.selects "DocumentaryCreditDesk$SyntaxException" ({ cls := "java/lang/Object", name := "getClass", desc := "()Ljava/lang/Class;" } : Jvm.MethodName) ({ cls := "java/lang/Object", name := "getClass", desc := "()Ljava/lang/Class;" } : Jvm.MethodName)) ∈ lw_all := lw_g (lw_at lw_m5 22 rfl) rfl
theorem q1167 : (Jvm.Cond.selects "DocumentaryCreditDesk$SyntaxException" ({ cls := "DocumentaryCreditDesk$SetupException", name := "code", desc := "()I" } : Jvm.MethodName) ({ cls := "DocumentaryCreditDesk$SyntaxException", name := "code", desc := "()I" } : Jvm.MethodName)) ∈ lw_all := lw_g (lw_at lw_m5 140 rfl) rfl
theorem q1168 : (Jvm.Cond.instanceMethod ({ cls := "DocumentaryCreditDesk$SyntaxException", name := "code", desc := "()I" } : Jvm.MethodName)) ∈ lw_all := lw_g (lw_at lw_m5 141 rfl) rfl
theorem q1169 : (Jvm.Cond.code ({ cls := "DocumentaryCreditDesk$SyntaxException", name := "code", desc := "()I" } : Jvm.MethodName) prog_12_method_2_code (1 : Nat) (Option.some Jvm.ClassFile.FieldType.int)) ∈ lw_all := lw_g (lw_at lw_m5 142 rfl) rfl
theorem q2074 : (Jvm.Cond.castable "DocumentaryCreditDesk$SyntaxException" "java/lang/Object") ∈ lw_tbl := lw_at lw_m9 87 rfl
theorem in_X8 : ∀ w ∈ wsX80, w ∈ lw_all := lw_in wsX80 [899, 880, 881, 882, 883, 884, 901] (by decide +kernel) (by decide +kernel)
/-! DocumentaryCreditDesk$LimitException -/
set_option maxRecDepth 100000
def RX9 : String := "DocumentaryCreditDesk$LimitException"
def TX9 : u_T := fun k => match k with
  | 0 => ("DocumentaryCreditDesk$SetupException", "offset", "I", true)
  | 1 => ("java/lang/Throwable", "cause", "Ljava/lang/Throwable;", false)
  | 2 => ("java/lang/Throwable", "stackTrace", "[Ljava/lang/StackTraceElement;", false)
  | 3 => ("java/lang/Throwable", "suppressedExceptions", "Ljava/util/List;", false)
  | 4 => ("java/lang/Throwable", "detailMessage", "Ljava/lang/String;", false)
  | 5 => ("java/lang/Throwable", "backtrace", "Ljava/lang/Object;", false)
  | 6 => ("java/lang/Throwable", "depth", "I", false)
  | _ => ("DocumentaryCreditDesk$LimitException", "code", "I", true)
def tyX9 : Nat → FieldType := fun k => match k with
  | 0 => .int
  | 1 => .object "java/lang/Throwable"
  | 2 => .array (.object "java/lang/StackTraceElement")
  | 3 => .object "java/util/List"
  | 4 => .object "java/lang/String"
  | 5 => .object "java/lang/Object"
  | 6 => .int
  | _ => .int
abbrev wsX90 : List Cond := u_ws RX9 TX9 8
theorem nmX9 : ∀ a, a < 8 → ∀ b, b < 8 → a ≠ b → (TX9 a).2.1 ≠ (TX9 b).2.1 := by decide +kernel
theorem tyX9_ok : ∀ k, k < 8 → parseFieldDescriptor (TX9 k).2.2.1 = some (tyX9 k) := by decide +kernel
abbrev cX9_init : ByteArray := prog_8_method_1_code
def yX9_init : MethodName := ⟨RX9, "<init>", "(II)V"⟩
def dkwX9_init_0 : List UInt8 := [42, 28, 183, 0, 1, 42, 27, 181, 0, 7, 177]
abbrev dktX9_init_0 : List UInt8 := dkwX9_init_0 ++ []
theorem dksX9_init_0 : cX9_init.data.toList.drop 0 = dktX9_init_0 := by decide +kernel
theorem dX9_init_0 : decode cX9_init 0 = .ok (.aload_n 0, 1) := dk_42 (dk_at dksX9_init_0 0 rfl rfl)
theorem dX9_init_1 : decode cX9_init 1 = .ok (.iload_n 2, 1) := dk_28 (dk_at dksX9_init_0 1 rfl rfl)
theorem dX9_init_2 : decode cX9_init 2 = .ok (.invokespecial 1, 3) := dk_183 0 1 (dk_at dksX9_init_0 2 rfl rfl)
theorem dX9_init_5 : decode cX9_init 5 = .ok (.aload_n 0, 1) := dk_42 (dk_at dksX9_init_0 5 rfl rfl)
theorem dX9_init_6 : decode cX9_init 6 = .ok (.iload_n 1, 1) := dk_27 (dk_at dksX9_init_0 6 rfl rfl)
theorem dX9_init_7 : decode cX9_init 7 = .ok (.putfield 7, 3) := dk_181 0 7 (dk_at dksX9_init_0 7 rfl rfl)
theorem dX9_init_10 : decode cX9_init 10 = .ok (.return_, 1) := dk_177 (dk_at dksX9_init_0 10 rfl rfl)
abbrev cX9_code : ByteArray := prog_8_method_2_code
def yX9_code : MethodName := ⟨RX9, "code", "()I"⟩
theorem dX9_code_0 : decode cX9_code 0 = .ok (.aload_n 0, 1) := by decide +kernel
theorem dX9_code_1 : decode cX9_code 1 = .ok (.getfield 7, 3) := by decide +kernel
theorem dX9_code_4 : decode cX9_code 4 = .ok (.ireturn, 1) := by decide +kernel
theorem q96 : (Jvm.Cond.initialized "DocumentaryCreditDesk$LimitException") ∈ lw_all := lw_g (lw_at lw_m1 29 rfl) rfl
theorem q417 : (Jvm.Cond.selects "DocumentaryCreditDesk$LimitException" ({ cls := "java/lang/Throwable", name := "fillInStackTrace", desc := "()Ljava/lang/Throwable;" } : Jvm.MethodName) ({ cls := "java/lang/Throwable", name := "fillInStackTrace", desc := "()Ljava/lang/Throwable;" } : Jvm.MethodName)) ∈ lw_all := lw_g (lw_at lw_m2 110 rfl) rfl
theorem q910 : (Jvm.Cond.instantiable "DocumentaryCreditDesk$LimitException" (8 : Nat)) ∈ lw_all := lw_g (lw_at lw_m4 123 rfl) rfl
theorem q911 : (Jvm.Cond.castable "DocumentaryCreditDesk$LimitException" "DocumentaryCreditDesk$LimitException") ∈ lw_tbl := lw_at lw_m4 124 rfl
theorem q912 : (Jvm.Cond.selects "DocumentaryCreditDesk$LimitException" ({ cls := "java/lang/Throwable", name := "fillInStackTrace", desc := "(I)Ljava/lang/Throwable;" } : Jvm.MethodName) ({ cls := "java/lang/Throwable", name := "fillInStackTrace", desc := "(I)Ljava/lang/Throwable;" } : Jvm.MethodName)) ∈ lw_all := lw_g (lw_at lw_m4 125 rfl) rfl
theorem q913 : (Jvm.Cond.lays "DocumentaryCreditDesk$LimitException" "java/lang/Throwable" "cause" "Ljava/lang/Throwable;") ∈ lw_all := lw_g (lw_at lw_m4 126 rfl) rfl
theorem q914 : (Jvm.Cond.lays "DocumentaryCreditDesk$LimitException" "java/lang/Throwable" "stackTrace" "[Ljava/lang/StackTraceElement;") ∈ lw_all := lw_g (lw_at lw_m4 127 rfl) rfl
theorem q915 : (Jvm.Cond.lays "DocumentaryCreditDesk$LimitException" "java/lang/Throwable" "suppressedExceptions" "Ljava/util/List;") ∈ lw_all := lw_g (lw_at lw_m4 128 rfl) rfl
theorem q916 : (Jvm.Cond.lays "DocumentaryCreditDesk$LimitException" "java/lang/Throwable" "detailMessage" "Ljava/lang/String;") ∈ lw_all := lw_g (lw_at lw_m4 129 rfl) rfl
theorem q917 : (Jvm.Cond.lays "DocumentaryCreditDesk$LimitException" "java/lang/Throwable" "backtrace" "Ljava/lang/Object;") ∈ lw_all := lw_g (lw_at lw_m4 130 rfl) rfl
theorem q919 : (Jvm.Cond.instanceMethod ({ cls := "DocumentaryCreditDesk$LimitException", name := "<init>", desc := "(II)V" } : Jvm.MethodName)) ∈ lw_all := lw_g (lw_at lw_m4 132 rfl) rfl
theorem q920 : (Jvm.Cond.code ({ cls := "DocumentaryCreditDesk$LimitException", name := "<init>", desc := "(II)V" } : Jvm.MethodName) prog_8_method_1_code (3 : Nat) (Option.none : Option Jvm.ClassFile.FieldType)) ∈ lw_all := lw_g (lw_at lw_m4 133 rfl) rfl
theorem q921 : (Jvm.Cond.methodLink "DocumentaryCreditDesk$LimitException" (1 : Nat) ({ cls := "DocumentaryCreditDesk$SetupException", name := "<init>", desc := "(I)V" } : Jvm.MethodName)) ∈ lw_all := lw_g (lw_at lw_m4 134 rfl) rfl
theorem q922 : (Jvm.Cond.fieldLink "DocumentaryCreditDesk$LimitException" (7 : Nat) "DocumentaryCreditDesk$LimitException" "code" "I") ∈ lw_all := lw_g (lw_at lw_m4 135 rfl) rfl
theorem q923 : (Jvm.Cond.laysFinal "DocumentaryCreditDesk$LimitException" "DocumentaryCreditDesk$LimitException" "code" "I") ∈ lw_all := lw_g (lw_at lw_m4 136 rfl) rfl
theorem q924 : (Jvm.Cond.soleField "DocumentaryCreditDesk$LimitException" "code") ∈ lw_all := lw_g (lw_at lw_m4 137 rfl) rfl
theorem q925 : (Jvm.Cond.laysFinal "DocumentaryCreditDesk$LimitException" "DocumentaryCreditDesk$SetupException" "offset" "I") ∈ lw_all := lw_g (lw_at lw_m4 138 rfl) rfl
theorem q926 : (Jvm.Cond.lays "DocumentaryCreditDesk$LimitException" "java/lang/Throwable" "depth" "I") ∈ lw_all := lw_g (lw_at lw_m4 139 rfl) rfl
theorem q927 : (Jvm.Cond.superclass "DocumentaryCreditDesk$LimitException" "DocumentaryCreditDesk$SetupException") ∈ lw_all := lw_g (lw_at lw_m4 140 rfl) rfl
theorem q1046 : (Jvm.Cond.selects "DocumentaryCreditDesk$LimitException" ({ cls := "java/lang/Object", name := "getClass", desc := "()Ljava/lang/Class;" } : Jvm.MethodName) ({ cls := "java/lang/Object", name := "getClass", desc := "()Ljava/lang/Class;" } : Jvm.MethodName)) ∈ lw_all := lw_g (lw_at lw_m5 19 rfl) rfl
theorem q1164 : (Jvm.Cond.selects "DocumentaryCreditDesk$LimitException" ({ cls := "DocumentaryCreditDesk$SetupException", name := "code", desc := "()I" } : Jvm.MethodName) ({ cls := "DocumentaryCreditDesk$LimitException", name := "code", desc := "()I" } : Jvm.MethodName)) ∈ lw_all := lw_g (lw_at lw_m5 137 rfl) rfl
theorem q1165 : (Jvm.Cond.instanceMethod ({ cls := "DocumentaryCreditDesk$LimitException", name := "code", desc := "()I" } : Jvm.MethodName)) ∈ lw_all := lw_g (lw_at lw_m5 138 rfl) rfl
theorem q1166 : (Jvm.Cond.code ({ cls := "DocumentaryCreditDesk$LimitException", name := "code", desc := "()I" } : Jvm.MethodName) prog_8_method_2_code (1 : Nat) (Option.some Jvm.ClassFile.FieldType.int)) ∈ lw_all := lw_g (lw_at lw_m5 139 rfl) rfl
theorem q2075 : (Jvm.Cond.castable "DocumentaryCreditDesk$LimitException" "java/lang/Object") ∈ lw_tbl := lw_at lw_m9 88 rfl
theorem in_X9 : ∀ w ∈ wsX90, w ∈ lw_all := lw_in wsX90 [925, 913, 914, 915, 916, 917, 926, 923] (by decide +kernel) (by decide +kernel)
/-! DocumentaryCreditDesk$Credit -/
set_option maxRecDepth 100000
def RX10 : String := "DocumentaryCreditDesk$Credit"
def TX10 : u_T := fun k => match k with
  | 0 => ("DocumentaryCreditDesk$Credit", "parent", "I", true)
  | 1 => ("DocumentaryCreditDesk$Credit", "amount", "I", true)
  | 2 => ("DocumentaryCreditDesk$Credit", "upper", "I", true)
  | 3 => ("DocumentaryCreditDesk$Credit", "lower", "I", true)
  | 4 => ("DocumentaryCreditDesk$Credit", "expiry", "I", true)
  | 5 => ("DocumentaryCreditDesk$Credit", "latest", "I", true)
  | 6 => ("DocumentaryCreditDesk$Credit", "period", "I", true)
  | 7 => ("DocumentaryCreditDesk$Credit", "tenor", "I", true)
  | 8 => ("DocumentaryCreditDesk$Credit", "needs", "I", true)
  | 9 => ("DocumentaryCreditDesk$Credit", "isPartial", "Z", true)
  | _ => ("DocumentaryCreditDesk$Credit", "isTransferable", "Z", true)
def tyX10 : Nat → FieldType := fun k => match k with
  | 0 => .int
  | 1 => .int
  | 2 => .int
  | 3 => .int
  | 4 => .int
  | 5 => .int
  | 6 => .int
  | 7 => .int
  | 8 => .int
  | 9 => .boolean
  | _ => .boolean
abbrev wsX100 : List Cond := u_ws RX10 TX10 11
theorem nmX10 : ∀ a, a < 11 → ∀ b, b < 11 → a ≠ b → (TX10 a).2.1 ≠ (TX10 b).2.1 := by decide +kernel
theorem tyX10_ok : ∀ k, k < 11 → parseFieldDescriptor (TX10 k).2.2.1 = some (tyX10 k) := by decide +kernel
abbrev cX10_max : ByteArray := prog_5_method_2_code
def yX10_max : MethodName := ⟨RX10, "max", "()I"⟩
def dkwX10_max_0 : List UInt8 := [42, 180, 0, 13, 42, 180, 0, 13, 42, 180, 0, 16, 104, 16, 100, 108, 96, 172]
abbrev dktX10_max_0 : List UInt8 := dkwX10_max_0 ++ []
theorem dksX10_max_0 : cX10_max.data.toList.drop 0 = dktX10_max_0 := by decide +kernel
theorem dX10_max_0 : decode cX10_max 0 = .ok (.aload_n 0, 1) := dk_42 (dk_at dksX10_max_0 0 rfl rfl)
theorem dX10_max_1 : decode cX10_max 1 = .ok (.getfield 13, 3) := dk_180 0 13 (dk_at dksX10_max_0 1 rfl rfl)
theorem dX10_max_4 : decode cX10_max 4 = .ok (.aload_n 0, 1) := dk_42 (dk_at dksX10_max_0 4 rfl rfl)
theorem dX10_max_5 : decode cX10_max 5 = .ok (.getfield 13, 3) := dk_180 0 13 (dk_at dksX10_max_0 5 rfl rfl)
theorem dX10_max_8 : decode cX10_max 8 = .ok (.aload_n 0, 1) := dk_42 (dk_at dksX10_max_0 8 rfl rfl)
theorem dX10_max_9 : decode cX10_max 9 = .ok (.getfield 16, 3) := dk_180 0 16 (dk_at dksX10_max_0 9 rfl rfl)
theorem dX10_max_12 : decode cX10_max 12 = .ok (.imul, 1) := dk_104 (dk_at dksX10_max_0 12 rfl rfl)
theorem dX10_max_13 : decode cX10_max 13 = .ok (.bipush 100, 2) := dk_16 100 (dk_at dksX10_max_0 13 rfl rfl)
theorem dX10_max_15 : decode cX10_max 15 = .ok (.idiv, 1) := dk_108 (dk_at dksX10_max_0 15 rfl rfl)
theorem dX10_max_16 : decode cX10_max 16 = .ok (.iadd, 1) := dk_96 (dk_at dksX10_max_0 16 rfl rfl)
theorem dX10_max_17 : decode cX10_max 17 = .ok (.ireturn, 1) := dk_172 (dk_at dksX10_max_0 17 rfl rfl)
abbrev cX10_init : ByteArray := prog_5_method_1_code
def yX10_init : MethodName := ⟨RX10, "<init>", "(I[IIZZ)V"⟩
def dkwX10_init_3 : List UInt8 := [21, 5, 181, 0, 41, 177]
abbrev dktX10_init_3 : List UInt8 := dkwX10_init_3 ++ []
def dkwX10_init_2 : List UInt8 := [181, 0, 28, 42, 44, 16, 6, 46, 181, 0, 31, 42, 29, 181, 0, 34, 42, 21, 4, 181, 0, 37, 42]
abbrev dktX10_init_2 : List UInt8 := dkwX10_init_2 ++ dktX10_init_3
def dkwX10_init_1 : List UInt8 := [44, 5, 46, 181, 0, 19, 42, 44, 6, 46, 181, 0, 22, 42, 44, 7, 46, 181, 0, 25, 42, 44, 8, 46]
abbrev dktX10_init_1 : List UInt8 := dkwX10_init_1 ++ dktX10_init_2
def dkwX10_init_0 : List UInt8 := [42, 183, 0, 1, 42, 27, 181, 0, 7, 42, 44, 3, 46, 181, 0, 13, 42, 44, 4, 46, 181, 0, 16, 42]
abbrev dktX10_init_0 : List UInt8 := dkwX10_init_0 ++ dktX10_init_1
theorem dksX10_init_0 : cX10_init.data.toList.drop 0 = dktX10_init_0 := by decide +kernel
theorem dksX10_init_1 : cX10_init.data.toList.drop 24 = dktX10_init_1 := dk_seg dksX10_init_0 24 rfl rfl
theorem dksX10_init_2 : cX10_init.data.toList.drop 48 = dktX10_init_2 := dk_seg dksX10_init_1 24 rfl rfl
theorem dksX10_init_3 : cX10_init.data.toList.drop 71 = dktX10_init_3 := dk_seg dksX10_init_2 23 rfl rfl
theorem dX10_init_0 : decode cX10_init 0 = .ok (.aload_n 0, 1) := dk_42 (dk_at dksX10_init_0 0 rfl rfl)
theorem dX10_init_1 : decode cX10_init 1 = .ok (.invokespecial 1, 3) := dk_183 0 1 (dk_at dksX10_init_0 1 rfl rfl)
theorem dX10_init_4 : decode cX10_init 4 = .ok (.aload_n 0, 1) := dk_42 (dk_at dksX10_init_0 4 rfl rfl)
theorem dX10_init_5 : decode cX10_init 5 = .ok (.iload_n 1, 1) := dk_27 (dk_at dksX10_init_0 5 rfl rfl)
theorem dX10_init_6 : decode cX10_init 6 = .ok (.putfield 7, 3) := dk_181 0 7 (dk_at dksX10_init_0 6 rfl rfl)
theorem dX10_init_9 : decode cX10_init 9 = .ok (.aload_n 0, 1) := dk_42 (dk_at dksX10_init_0 9 rfl rfl)
theorem dX10_init_10 : decode cX10_init 10 = .ok (.aload_n 2, 1) := dk_44 (dk_at dksX10_init_0 10 rfl rfl)
theorem dX10_init_11 : decode cX10_init 11 = .ok (.iconst 0, 1) := dk_3 (dk_at dksX10_init_0 11 rfl rfl)
theorem dX10_init_12 : decode cX10_init 12 = .ok (.iaload, 1) := dk_46 (dk_at dksX10_init_0 12 rfl rfl)
theorem dX10_init_13 : decode cX10_init 13 = .ok (.putfield 13, 3) := dk_181 0 13 (dk_at dksX10_init_0 13 rfl rfl)
theorem dX10_init_16 : decode cX10_init 16 = .ok (.aload_n 0, 1) := dk_42 (dk_at dksX10_init_0 16 rfl rfl)
theorem dX10_init_17 : decode cX10_init 17 = .ok (.aload_n 2, 1) := dk_44 (dk_at dksX10_init_0 17 rfl rfl)
theorem dX10_init_18 : decode cX10_init 18 = .ok (.iconst 1, 1) := dk_4 (dk_at dksX10_init_0 18 rfl rfl)
theorem dX10_init_19 : decode cX10_init 19 = .ok (.iaload, 1) := dk_46 (dk_at dksX10_init_0 19 rfl rfl)
theorem dX10_init_20 : decode cX10_init 20 = .ok (.putfield 16, 3) := dk_181 0 16 (dk_at dksX10_init_0 20 rfl rfl)
theorem dX10_init_23 : decode cX10_init 23 = .ok (.aload_n 0, 1) := dk_42 (dk_at dksX10_init_0 23 rfl rfl)
theorem dX10_init_24 : decode cX10_init 24 = .ok (.aload_n 2, 1) := dk_44 (dk_at dksX10_init_1 0 rfl rfl)
theorem dX10_init_25 : decode cX10_init 25 = .ok (.iconst 2, 1) := dk_5 (dk_at dksX10_init_1 1 rfl rfl)
theorem dX10_init_26 : decode cX10_init 26 = .ok (.iaload, 1) := dk_46 (dk_at dksX10_init_1 2 rfl rfl)
theorem dX10_init_27 : decode cX10_init 27 = .ok (.putfield 19, 3) := dk_181 0 19 (dk_at dksX10_init_1 3 rfl rfl)
theorem dX10_init_30 : decode cX10_init 30 = .ok (.aload_n 0, 1) := dk_42 (dk_at dksX10_init_1 6 rfl rfl)
theorem dX10_init_31 : decode cX10_init 31 = .ok (.aload_n 2, 1) := dk_44 (dk_at dksX10_init_1 7 rfl rfl)
theorem dX10_init_32 : decode cX10_init 32 = .ok (.iconst 3, 1) := dk_6 (dk_at dksX10_init_1 8 rfl rfl)
theorem dX10_init_33 : decode cX10_init 33 = .ok (.iaload, 1) := dk_46 (dk_at dksX10_init_1 9 rfl rfl)
theorem dX10_init_34 : decode cX10_init 34 = .ok (.putfield 22, 3) := dk_181 0 22 (dk_at dksX10_init_1 10 rfl rfl)
theorem dX10_init_37 : decode cX10_init 37 = .ok (.aload_n 0, 1) := dk_42 (dk_at dksX10_init_1 13 rfl rfl)
theorem dX10_init_38 : decode cX10_init 38 = .ok (.aload_n 2, 1) := dk_44 (dk_at dksX10_init_1 14 rfl rfl)
theorem dX10_init_39 : decode cX10_init 39 = .ok (.iconst 4, 1) := dk_7 (dk_at dksX10_init_1 15 rfl rfl)
theorem dX10_init_40 : decode cX10_init 40 = .ok (.iaload, 1) := dk_46 (dk_at dksX10_init_1 16 rfl rfl)
theorem dX10_init_41 : decode cX10_init 41 = .ok (.putfield 25, 3) := dk_181 0 25 (dk_at dksX10_init_1 17 rfl rfl)
theorem dX10_init_44 : decode cX10_init 44 = .ok (.aload_n 0, 1) := dk_42 (dk_at dksX10_init_1 20 rfl rfl)
theorem dX10_init_45 : decode cX10_init 45 = .ok (.aload_n 2, 1) := dk_44 (dk_at dksX10_init_1 21 rfl rfl)
theorem dX10_init_46 : decode cX10_init 46 = .ok (.iconst 5, 1) := dk_8 (dk_at dksX10_init_1 22 rfl rfl)
theorem dX10_init_47 : decode cX10_init 47 = .ok (.iaload, 1) := dk_46 (dk_at dksX10_init_1 23 rfl rfl)
theorem dX10_init_48 : decode cX10_init 48 = .ok (.putfield 28, 3) := dk_181 0 28 (dk_at dksX10_init_2 0 rfl rfl)
theorem dX10_init_51 : decode cX10_init 51 = .ok (.aload_n 0, 1) := dk_42 (dk_at dksX10_init_2 3 rfl rfl)
theorem dX10_init_52 : decode cX10_init 52 = .ok (.aload_n 2, 1) := dk_44 (dk_at dksX10_init_2 4 rfl rfl)
theorem dX10_init_53 : decode cX10_init 53 = .ok (.bipush 6, 2) := dk_16 6 (dk_at dksX10_init_2 5 rfl rfl)
theorem dX10_init_55 : decode cX10_init 55 = .ok (.iaload, 1) := dk_46 (dk_at dksX10_init_2 7 rfl rfl)
theorem dX10_init_56 : decode cX10_init 56 = .ok (.putfield 31, 3) := dk_181 0 31 (dk_at dksX10_init_2 8 rfl rfl)
theorem dX10_init_59 : decode cX10_init 59 = .ok (.aload_n 0, 1) := dk_42 (dk_at dksX10_init_2 11 rfl rfl)
theorem dX10_init_60 : decode cX10_init 60 = .ok (.iload_n 3, 1) := dk_29 (dk_at dksX10_init_2 12 rfl rfl)
theorem dX10_init_61 : decode cX10_init 61 = .ok (.putfield 34, 3) := dk_181 0 34 (dk_at dksX10_init_2 13 rfl rfl)
theorem dX10_init_64 : decode cX10_init 64 = .ok (.aload_n 0, 1) := dk_42 (dk_at dksX10_init_2 16 rfl rfl)
theorem dX10_init_65 : decode cX10_init 65 = .ok (.iload 4, 2) := dk_21 4 (dk_at dksX10_init_2 17 rfl rfl)
theorem dX10_init_67 : decode cX10_init 67 = .ok (.putfield 37, 3) := dk_181 0 37 (dk_at dksX10_init_2 19 rfl rfl)
theorem dX10_init_70 : decode cX10_init 70 = .ok (.aload_n 0, 1) := dk_42 (dk_at dksX10_init_2 22 rfl rfl)
theorem dX10_init_71 : decode cX10_init 71 = .ok (.iload 5, 2) := dk_21 5 (dk_at dksX10_init_3 0 rfl rfl)
theorem dX10_init_73 : decode cX10_init 73 = .ok (.putfield 41, 3) := dk_181 0 41 (dk_at dksX10_init_3 2 rfl rfl)
theorem dX10_init_76 : decode cX10_init 76 = .ok (.return_, 1) := dk_177 (dk_at dksX10_init_3 5 rfl rfl)
abbrev cX10_min : ByteArray := prog_5_method_3_code
def yX10_min : MethodName := ⟨RX10, "min", "()I"⟩
def dkwX10_min_0 : List UInt8 := [42, 180, 0, 13, 42, 180, 0, 13, 42, 180, 0, 19, 104, 16, 100, 108, 100, 172]
abbrev dktX10_min_0 : List UInt8 := dkwX10_min_0 ++ []
theorem dksX10_min_0 : cX10_min.data.toList.drop 0 = dktX10_min_0 := by decide +kernel
theorem dX10_min_0 : decode cX10_min 0 = .ok (.aload_n 0, 1) := dk_42 (dk_at dksX10_min_0 0 rfl rfl)
theorem dX10_min_1 : decode cX10_min 1 = .ok (.getfield 13, 3) := dk_180 0 13 (dk_at dksX10_min_0 1 rfl rfl)
theorem dX10_min_4 : decode cX10_min 4 = .ok (.aload_n 0, 1) := dk_42 (dk_at dksX10_min_0 4 rfl rfl)
theorem dX10_min_5 : decode cX10_min 5 = .ok (.getfield 13, 3) := dk_180 0 13 (dk_at dksX10_min_0 5 rfl rfl)
theorem dX10_min_8 : decode cX10_min 8 = .ok (.aload_n 0, 1) := dk_42 (dk_at dksX10_min_0 8 rfl rfl)
theorem dX10_min_9 : decode cX10_min 9 = .ok (.getfield 19, 3) := dk_180 0 19 (dk_at dksX10_min_0 9 rfl rfl)
theorem dX10_min_12 : decode cX10_min 12 = .ok (.imul, 1) := dk_104 (dk_at dksX10_min_0 12 rfl rfl)
theorem dX10_min_13 : decode cX10_min 13 = .ok (.bipush 100, 2) := dk_16 100 (dk_at dksX10_min_0 13 rfl rfl)
theorem dX10_min_15 : decode cX10_min 15 = .ok (.idiv, 1) := dk_108 (dk_at dksX10_min_0 15 rfl rfl)
theorem dX10_min_16 : decode cX10_min 16 = .ok (.isub, 1) := dk_100 (dk_at dksX10_min_0 16 rfl rfl)
theorem dX10_min_17 : decode cX10_min 17 = .ok (.ireturn, 1) := dk_172 (dk_at dksX10_min_0 17 rfl rfl)
abbrev cX10_part : ByteArray := prog_5_method_4_code
def yX10_part : MethodName := ⟨RX10, "part", "(III)LDocumentaryCreditDesk$Credit;"⟩
def dkwX10_part_2 : List UInt8 := [180, 0, 31, 79, 42, 180, 0, 34, 42, 180, 0, 37, 3, 183, 0, 50, 176]
abbrev dktX10_part_2 : List UInt8 := dkwX10_part_2 ++ []
def dkwX10_part_1 : List UInt8 := [79, 89, 7, 42, 180, 0, 25, 29, 184, 0, 44, 79, 89, 8, 42, 180, 0, 28, 79, 89, 16, 6, 42]
abbrev dktX10_part_1 : List UInt8 := dkwX10_part_1 ++ dktX10_part_2
def dkwX10_part_0 : List UInt8 := [187, 0, 8, 89, 27, 16, 7, 188, 10, 89, 3, 28, 79, 89, 4, 3, 79, 89, 5, 3, 79, 89, 6, 29]
abbrev dktX10_part_0 : List UInt8 := dkwX10_part_0 ++ dktX10_part_1
theorem dksX10_part_0 : cX10_part.data.toList.drop 0 = dktX10_part_0 := by decide +kernel
theorem dksX10_part_1 : cX10_part.data.toList.drop 24 = dktX10_part_1 := dk_seg dksX10_part_0 24 rfl rfl
theorem dksX10_part_2 : cX10_part.data.toList.drop 47 = dktX10_part_2 := dk_seg dksX10_part_1 23 rfl rfl
theorem dX10_part_0 : decode cX10_part 0 = .ok (.new 8, 3) := dk_187 0 8 (dk_at dksX10_part_0 0 rfl rfl)
theorem dX10_part_3 : decode cX10_part 3 = .ok (.dup, 1) := dk_89 (dk_at dksX10_part_0 3 rfl rfl)
theorem dX10_part_4 : decode cX10_part 4 = .ok (.iload_n 1, 1) := dk_27 (dk_at dksX10_part_0 4 rfl rfl)
theorem dX10_part_5 : decode cX10_part 5 = .ok (.bipush 7, 2) := dk_16 7 (dk_at dksX10_part_0 5 rfl rfl)
theorem dX10_part_7 : decode cX10_part 7 = .ok (.newarray .int, 2) := dk_188_10 (dk_at dksX10_part_0 7 rfl rfl)
theorem dX10_part_9 : decode cX10_part 9 = .ok (.dup, 1) := dk_89 (dk_at dksX10_part_0 9 rfl rfl)
theorem dX10_part_10 : decode cX10_part 10 = .ok (.iconst 0, 1) := dk_3 (dk_at dksX10_part_0 10 rfl rfl)
theorem dX10_part_11 : decode cX10_part 11 = .ok (.iload_n 2, 1) := dk_28 (dk_at dksX10_part_0 11 rfl rfl)
theorem dX10_part_12 : decode cX10_part 12 = .ok (.iastore, 1) := dk_79 (dk_at dksX10_part_0 12 rfl rfl)
theorem dX10_part_13 : decode cX10_part 13 = .ok (.dup, 1) := dk_89 (dk_at dksX10_part_0 13 rfl rfl)
theorem dX10_part_14 : decode cX10_part 14 = .ok (.iconst 1, 1) := dk_4 (dk_at dksX10_part_0 14 rfl rfl)
theorem dX10_part_15 : decode cX10_part 15 = .ok (.iconst 0, 1) := dk_3 (dk_at dksX10_part_0 15 rfl rfl)
theorem dX10_part_16 : decode cX10_part 16 = .ok (.iastore, 1) := dk_79 (dk_at dksX10_part_0 16 rfl rfl)
theorem dX10_part_17 : decode cX10_part 17 = .ok (.dup, 1) := dk_89 (dk_at dksX10_part_0 17 rfl rfl)
theorem dX10_part_18 : decode cX10_part 18 = .ok (.iconst 2, 1) := dk_5 (dk_at dksX10_part_0 18 rfl rfl)
theorem dX10_part_19 : decode cX10_part 19 = .ok (.iconst 0, 1) := dk_3 (dk_at dksX10_part_0 19 rfl rfl)
theorem dX10_part_20 : decode cX10_part 20 = .ok (.iastore, 1) := dk_79 (dk_at dksX10_part_0 20 rfl rfl)
theorem dX10_part_21 : decode cX10_part 21 = .ok (.dup, 1) := dk_89 (dk_at dksX10_part_0 21 rfl rfl)
theorem dX10_part_22 : decode cX10_part 22 = .ok (.iconst 3, 1) := dk_6 (dk_at dksX10_part_0 22 rfl rfl)
theorem dX10_part_23 : decode cX10_part 23 = .ok (.iload_n 3, 1) := dk_29 (dk_at dksX10_part_0 23 rfl rfl)
theorem dX10_part_24 : decode cX10_part 24 = .ok (.iastore, 1) := dk_79 (dk_at dksX10_part_1 0 rfl rfl)
theorem dX10_part_25 : decode cX10_part 25 = .ok (.dup, 1) := dk_89 (dk_at dksX10_part_1 1 rfl rfl)
theorem dX10_part_26 : decode cX10_part 26 = .ok (.iconst 4, 1) := dk_7 (dk_at dksX10_part_1 2 rfl rfl)
theorem dX10_part_27 : decode cX10_part 27 = .ok (.aload_n 0, 1) := dk_42 (dk_at dksX10_part_1 3 rfl rfl)
theorem dX10_part_28 : decode cX10_part 28 = .ok (.getfield 25, 3) := dk_180 0 25 (dk_at dksX10_part_1 4 rfl rfl)
theorem dX10_part_31 : decode cX10_part 31 = .ok (.iload_n 3, 1) := dk_29 (dk_at dksX10_part_1 7 rfl rfl)
theorem dX10_part_32 : decode cX10_part 32 = .ok (.invokestatic 44, 3) := dk_184 0 44 (dk_at dksX10_part_1 8 rfl rfl)
theorem dX10_part_35 : decode cX10_part 35 = .ok (.iastore, 1) := dk_79 (dk_at dksX10_part_1 11 rfl rfl)
theorem dX10_part_36 : decode cX10_part 36 = .ok (.dup, 1) := dk_89 (dk_at dksX10_part_1 12 rfl rfl)
theorem dX10_part_37 : decode cX10_part 37 = .ok (.iconst 5, 1) := dk_8 (dk_at dksX10_part_1 13 rfl rfl)
theorem dX10_part_38 : decode cX10_part 38 = .ok (.aload_n 0, 1) := dk_42 (dk_at dksX10_part_1 14 rfl rfl)
theorem dX10_part_39 : decode cX10_part 39 = .ok (.getfield 28, 3) := dk_180 0 28 (dk_at dksX10_part_1 15 rfl rfl)
theorem dX10_part_42 : decode cX10_part 42 = .ok (.iastore, 1) := dk_79 (dk_at dksX10_part_1 18 rfl rfl)
theorem dX10_part_43 : decode cX10_part 43 = .ok (.dup, 1) := dk_89 (dk_at dksX10_part_1 19 rfl rfl)
theorem dX10_part_44 : decode cX10_part 44 = .ok (.bipush 6, 2) := dk_16 6 (dk_at dksX10_part_1 20 rfl rfl)
theorem dX10_part_46 : decode cX10_part 46 = .ok (.aload_n 0, 1) := dk_42 (dk_at dksX10_part_1 22 rfl rfl)
theorem dX10_part_47 : decode cX10_part 47 = .ok (.getfield 31, 3) := dk_180 0 31 (dk_at dksX10_part_2 0 rfl rfl)
theorem dX10_part_50 : decode cX10_part 50 = .ok (.iastore, 1) := dk_79 (dk_at dksX10_part_2 3 rfl rfl)
theorem dX10_part_51 : decode cX10_part 51 = .ok (.aload_n 0, 1) := dk_42 (dk_at dksX10_part_2 4 rfl rfl)
theorem dX10_part_52 : decode cX10_part 52 = .ok (.getfield 34, 3) := dk_180 0 34 (dk_at dksX10_part_2 5 rfl rfl)
theorem dX10_part_55 : decode cX10_part 55 = .ok (.aload_n 0, 1) := dk_42 (dk_at dksX10_part_2 8 rfl rfl)
theorem dX10_part_56 : decode cX10_part 56 = .ok (.getfield 37, 3) := dk_180 0 37 (dk_at dksX10_part_2 9 rfl rfl)
theorem dX10_part_59 : decode cX10_part 59 = .ok (.iconst 0, 1) := dk_3 (dk_at dksX10_part_2 12 rfl rfl)
theorem dX10_part_60 : decode cX10_part 60 = .ok (.invokespecial 50, 3) := dk_183 0 50 (dk_at dksX10_part_2 13 rfl rfl)
theorem dX10_part_63 : decode cX10_part 63 = .ok (.areturn, 1) := dk_176 (dk_at dksX10_part_2 16 rfl rfl)
theorem q97 : (Jvm.Cond.initialized "DocumentaryCreditDesk$Credit") ∈ lw_all := lw_g (lw_at lw_m1 30 rfl) rfl
theorem q363 : (Jvm.Cond.instanceMethod ({ cls := "DocumentaryCreditDesk$Credit", name := "max", desc := "()I" } : Jvm.MethodName)) ∈ lw_all := lw_g (lw_at lw_m2 56 rfl) rfl
theorem q364 : (Jvm.Cond.selects "DocumentaryCreditDesk$Credit" ({ cls := "DocumentaryCreditDesk$Credit", name := "max", desc := "()I" } : Jvm.MethodName) ({ cls := "DocumentaryCreditDesk$Credit", name := "max", desc := "()I" } : Jvm.MethodName)) ∈ lw_all := lw_g (lw_at lw_m2 57 rfl) rfl
theorem q365 : (Jvm.Cond.code ({ cls := "DocumentaryCreditDesk$Credit", name := "max", desc := "()I" } : Jvm.MethodName) prog_5_method_2_code (1 : Nat) (Option.some Jvm.ClassFile.FieldType.int)) ∈ lw_all := lw_g (lw_at lw_m2 58 rfl) rfl
theorem q957 : (Jvm.Cond.instantiable "DocumentaryCreditDesk$Credit" (11 : Nat)) ∈ lw_all := lw_g (lw_at lw_m4 170 rfl) rfl
theorem q959 : (Jvm.Cond.instanceMethod ({ cls := "DocumentaryCreditDesk$Credit", name := "<init>", desc := "(I[IIZZ)V" } : Jvm.MethodName)) ∈ lw_all := lw_g (lw_at lw_m4 172 rfl) rfl
theorem q960 : (Jvm.Cond.code ({ cls := "DocumentaryCreditDesk$Credit", name := "<init>", desc := "(I[IIZZ)V" } : Jvm.MethodName) prog_5_method_1_code (6 : Nat) (Option.none : Option Jvm.ClassFile.FieldType)) ∈ lw_all := lw_g (lw_at lw_m4 173 rfl) rfl
theorem q961 : (Jvm.Cond.methodLink "DocumentaryCreditDesk$Credit" (1 : Nat) ({ cls := "java/lang/Object", name := "<init>", desc := "()V" } : Jvm.MethodName)) ∈ lw_all := lw_g (lw_at lw_m4 174 rfl) rfl
theorem q962 : (Jvm.Cond.fieldLink "DocumentaryCreditDesk$Credit" (7 : Nat) "DocumentaryCreditDesk$Credit" "parent" "I") ∈ lw_all := lw_g (lw_at lw_m4 175 rfl) rfl
theorem q965 : (Jvm.Cond.fieldLink "DocumentaryCreditDesk$Credit" (13 : Nat) "DocumentaryCreditDesk$Credit" "amount" "I") ∈ lw_all := lw_g (lw_at lw_m4 178 rfl) rfl
theorem q967 : (Jvm.Cond.fieldLink "DocumentaryCreditDesk$Credit" (16 : Nat) "DocumentaryCreditDesk$Credit" "upper" "I") ∈ lw_all := lw_g (lw_at lw_m4 180 rfl) rfl
theorem q968 : (Jvm.Cond.fieldLink "DocumentaryCreditDesk$Credit" (19 : Nat) "DocumentaryCreditDesk$Credit" "lower" "I") ∈ lw_all := lw_g (lw_at lw_m4 181 rfl) rfl
theorem q969 : (Jvm.Cond.fieldLink "DocumentaryCreditDesk$Credit" (22 : Nat) "DocumentaryCreditDesk$Credit" "expiry" "I") ∈ lw_all := lw_g (lw_at lw_m4 182 rfl) rfl
theorem q972 : (Jvm.Cond.fieldLink "DocumentaryCreditDesk$Credit" (25 : Nat) "DocumentaryCreditDesk$Credit" "latest" "I") ∈ lw_all := lw_g (lw_at lw_m4 185 rfl) rfl
theorem q974 : (Jvm.Cond.fieldLink "DocumentaryCreditDesk$Credit" (28 : Nat) "DocumentaryCreditDesk$Credit" "period" "I") ∈ lw_all := lw_g (lw_at lw_m4 187 rfl) rfl
theorem q976 : (Jvm.Cond.fieldLink "DocumentaryCreditDesk$Credit" (31 : Nat) "DocumentaryCreditDesk$Credit" "tenor" "I") ∈ lw_all := lw_g (lw_at lw_m4 189 rfl) rfl
theorem q978 : (Jvm.Cond.fieldLink "DocumentaryCreditDesk$Credit" (34 : Nat) "DocumentaryCreditDesk$Credit" "needs" "I") ∈ lw_all := lw_g (lw_at lw_m4 191 rfl) rfl
theorem q980 : (Jvm.Cond.fieldLink "DocumentaryCreditDesk$Credit" (37 : Nat) "DocumentaryCreditDesk$Credit" "isPartial" "Z") ∈ lw_all := lw_g (lw_at lw_m4 193 rfl) rfl
theorem q983 : (Jvm.Cond.fieldLink "DocumentaryCreditDesk$Credit" (41 : Nat) "DocumentaryCreditDesk$Credit" "isTransferable" "Z") ∈ lw_all := lw_g (lw_at lw_m4 196 rfl) rfl
theorem q985 : (Jvm.Cond.laysFinal "DocumentaryCreditDesk$Credit" "DocumentaryCreditDesk$Credit" "parent" "I") ∈ lw_all := lw_g (lw_at lw_m4 198 rfl) rfl
theorem q986 : (Jvm.Cond.soleField "DocumentaryCreditDesk$Credit" "parent") ∈ lw_all := lw_g (lw_at lw_m4 199 rfl) rfl
theorem q987 : (Jvm.Cond.laysFinal "DocumentaryCreditDesk$Credit" "DocumentaryCreditDesk$Credit" "amount" "I") ∈ lw_all := lw_g (lw_at lw_m4 200 rfl) rfl
theorem q988 : (Jvm.Cond.soleField "DocumentaryCreditDesk$Credit" "amount") ∈ lw_all := lw_g (lw_at lw_m4 201 rfl) rfl
theorem q989 : (Jvm.Cond.laysFinal "DocumentaryCreditDesk$Credit" "DocumentaryCreditDesk$Credit" "upper" "I") ∈ lw_all := lw_g (lw_at lw_m4 202 rfl) rfl
theorem q990 : (Jvm.Cond.soleField "DocumentaryCreditDesk$Credit" "upper") ∈ lw_all := lw_g (lw_at lw_m4 203 rfl) rfl
theorem q991 : (Jvm.Cond.laysFinal "DocumentaryCreditDesk$Credit" "DocumentaryCreditDesk$Credit" "lower" "I") ∈ lw_all := lw_g (lw_at lw_m4 204 rfl) rfl
theorem q992 : (Jvm.Cond.soleField "DocumentaryCreditDesk$Credit" "lower") ∈ lw_all := lw_g (lw_at lw_m4 205 rfl) rfl
theorem q993 : (Jvm.Cond.laysFinal "DocumentaryCreditDesk$Credit" "DocumentaryCreditDesk$Credit" "expiry" "I") ∈ lw_all := lw_g (lw_at lw_m4 206 rfl) rfl
theorem q994 : (Jvm.Cond.soleField "DocumentaryCreditDesk$Credit" "expiry") ∈ lw_all := lw_g (lw_at lw_m4 207 rfl) rfl
theorem q995 : (Jvm.Cond.laysFinal "DocumentaryCreditDesk$Credit" "DocumentaryCreditDesk$Credit" "latest" "I") ∈ lw_all := lw_g (lw_at lw_m4 208 rfl) rfl
theorem q996 : (Jvm.Cond.soleField "DocumentaryCreditDesk$Credit" "latest") ∈ lw_all := lw_g (lw_at lw_m4 209 rfl) rfl
theorem q997 : (Jvm.Cond.laysFinal "DocumentaryCreditDesk$Credit" "DocumentaryCreditDesk$Credit" "period" "I") ∈ lw_all := lw_g (lw_at lw_m4 210 rfl) rfl
theorem q998 : (Jvm.Cond.soleField "DocumentaryCreditDesk$Credit" "period") ∈ lw_all := lw_g (lw_at lw_m4 211 rfl) rfl
theorem q999 : (Jvm.Cond.laysFinal "DocumentaryCreditDesk$Credit" "DocumentaryCreditDesk$Credit" "tenor" "I") ∈ lw_all := lw_g (lw_at lw_m4 212 rfl) rfl
theorem q1000 : (Jvm.Cond.soleField "DocumentaryCreditDesk$Credit" "tenor") ∈ lw_all := lw_g (lw_at lw_m4 213 rfl) rfl
theorem q1001 : (Jvm.Cond.laysFinal "DocumentaryCreditDesk$Credit" "DocumentaryCreditDesk$Credit" "needs" "I") ∈ lw_all := lw_g (lw_at lw_m4 214 rfl) rfl
theorem q1002 : (Jvm.Cond.soleField "DocumentaryCreditDesk$Credit" "needs") ∈ lw_all := lw_g (lw_at lw_m4 215 rfl) rfl
theorem q1003 : (Jvm.Cond.laysFinal "DocumentaryCreditDesk$Credit" "DocumentaryCreditDesk$Credit" "isPartial" "Z") ∈ lw_all := lw_g (lw_at lw_m4 216 rfl) rfl
theorem q1004 : (Jvm.Cond.soleField "DocumentaryCreditDesk$Credit" "isPartial") ∈ lw_all := lw_g (lw_at lw_m4 217 rfl) rfl
theorem q1005 : (Jvm.Cond.laysFinal "DocumentaryCreditDesk$Credit" "DocumentaryCreditDesk$Credit" "isTransferable" "Z") ∈ lw_all := lw_g (lw_at lw_m4 218 rfl) rfl
theorem q1006 : (Jvm.Cond.soleField "DocumentaryCreditDesk$Credit" "isTransferable") ∈ lw_all := lw_g (lw_at lw_m4 219 rfl) rfl
theorem q1007 : (Jvm.Cond.superclass "DocumentaryCreditDesk$Credit" "java/lang/Object") ∈ lw_all := lw_g (lw_at lw_m4 220 rfl) rfl
theorem q1044 : (Jvm.Cond.selects "DocumentaryCreditDesk$Credit" ({ cls := "java/lang/Object", name := "getClass", desc := "()Ljava/lang/Class;" } : Jvm.MethodName) ({ cls := "java/lang/Object", name := "getClass", desc := "()Ljava/lang/Class;" } : Jvm.MethodName)) ∈ lw_all := lw_g (lw_at lw_m5 17 rfl) rfl
theorem q1356 : (Jvm.Cond.instanceMethod ({ cls := "DocumentaryCreditDesk$Credit", name := "min", desc := "()I" } : Jvm.MethodName)) ∈ lw_all := lw_g (lw_at lw_m6 89 rfl) rfl
theorem q1357 : (Jvm.Cond.selects "DocumentaryCreditDesk$Credit" ({ cls := "DocumentaryCreditDesk$Credit", name := "min", desc := "()I" } : Jvm.MethodName) ({ cls := "DocumentaryCreditDesk$Credit", name := "min", desc := "()I" } : Jvm.MethodName)) ∈ lw_all := lw_g (lw_at lw_m6 90 rfl) rfl
theorem q1358 : (Jvm.Cond.code ({ cls := "DocumentaryCreditDesk$Credit", name := "min", desc := "()I" } : Jvm.MethodName) prog_5_method_3_code (1 : Nat) (Option.some Jvm.ClassFile.FieldType.int)) ∈ lw_all := lw_g (lw_at lw_m6 91 rfl) rfl
theorem q1640 : (Jvm.Cond.instanceMethod ({ cls := "DocumentaryCreditDesk$Credit", name := "part", desc := "(III)LDocumentaryCreditDesk$Credit;" } : Jvm.MethodName)) ∈ lw_all := lw_g (lw_at lw_m7 133 rfl) rfl
theorem q1641 : (Jvm.Cond.selects "DocumentaryCreditDesk$Credit" ({ cls := "DocumentaryCreditDesk$Credit", name := "part", desc := "(III)LDocumentaryCreditDesk$Credit;" } : Jvm.MethodName) ({ cls := "DocumentaryCreditDesk$Credit", name := "part", desc := "(III)LDocumentaryCreditDesk$Credit;" } : Jvm.MethodName)) ∈ lw_all := lw_g (lw_at lw_m7 134 rfl) rfl
theorem q1642 : (Jvm.Cond.code ({ cls := "DocumentaryCreditDesk$Credit", name := "part", desc := "(III)LDocumentaryCreditDesk$Credit;" } : Jvm.MethodName) prog_5_method_4_code (4 : Nat) (Option.some (Jvm.ClassFile.FieldType.object "DocumentaryCreditDesk$Credit"))) ∈ lw_all := lw_g (lw_at lw_m7 135 rfl) rfl
theorem q1643 : (Jvm.Cond.classLink "DocumentaryCreditDesk$Credit" (8 : Nat) "DocumentaryCreditDesk$Credit") ∈ lw_all := lw_g (lw_at lw_m7 136 rfl) rfl
theorem q1644 : (Jvm.Cond.methodLink "DocumentaryCreditDesk$Credit" (44 : Nat) ({ cls := "java/lang/Math", name := "min", desc := "(II)I" } : Jvm.MethodName)) ∈ lw_all := lw_g (lw_at lw_m7 137 rfl) rfl
theorem q1645 : (Jvm.Cond.methodLink "DocumentaryCreditDesk$Credit" (50 : Nat) ({ cls := "DocumentaryCreditDesk$Credit", name := "<init>", desc := "(I[IIZZ)V" } : Jvm.MethodName)) ∈ lw_all := lw_g (lw_at lw_m7 138 rfl) rfl
theorem q2076 : (Jvm.Cond.castable "DocumentaryCreditDesk$Credit" "java/lang/Object") ∈ lw_tbl := lw_at lw_m9 89 rfl
theorem in_X10 : ∀ w ∈ wsX100, w ∈ lw_all := lw_in wsX100 [985, 987, 989, 991, 993, 995, 997, 999, 1001, 1003, 1005] (by decide +kernel) (by decide +kernel)
/-! DocumentaryCreditDesk$Calendar$1 -/
set_option maxRecDepth 100000
def RX11 : String := "DocumentaryCreditDesk$Calendar$1"
def TX11 : u_T := fun k => match k with
  | 0 => ("DocumentaryCreditDesk$Calendar$1", "next", "I", false)
  | 1 => ("DocumentaryCreditDesk$Calendar$1", "val$day", "I", true)
  | _ => ("DocumentaryCreditDesk$Calendar$1", "this$0", "LDocumentaryCreditDesk$Calendar;", true)
def tyX11 : Nat → FieldType := fun k => match k with
  | 0 => .int
  | 1 => .int
  | _ => .object "DocumentaryCreditDesk$Calendar"
abbrev wsX110 : List Cond := u_ws RX11 TX11 3
theorem nmX11 : ∀ a, a < 3 → ∀ b, b < 3 → a ≠ b → (TX11 a).2.1 ≠ (TX11 b).2.1 := by decide +kernel
theorem tyX11_ok : ∀ k, k < 3 → parseFieldDescriptor (TX11 k).2.2.1 = some (tyX11 k) := by decide +kernel
abbrev cX11_init : ByteArray := prog_4_method_1_code
def yX11_init : MethodName := ⟨RX11, "<init>", "(LDocumentaryCreditDesk$Calendar;I)V"⟩
def dkwX11_init_0 : List UInt8 := [42, 43, 181, 0, 1, 42, 28, 181, 0, 7, 42, 183, 0, 11, 42, 42, 180, 0, 7, 181, 0, 17, 177]
abbrev dktX11_init_0 : List UInt8 := dkwX11_init_0 ++ []
theorem dksX11_init_0 : cX11_init.data.toList.drop 0 = dktX11_init_0 := by decide +kernel
theorem dX11_init_0 : decode cX11_init 0 = .ok (.aload_n 0, 1) := dk_42 (dk_at dksX11_init_0 0 rfl rfl)
theorem dX11_init_1 : decode cX11_init 1 = .ok (.aload_n 1, 1) := dk_43 (dk_at dksX11_init_0 1 rfl rfl)
theorem dX11_init_2 : decode cX11_init 2 = .ok (.putfield 1, 3) := dk_181 0 1 (dk_at dksX11_init_0 2 rfl rfl)
theorem dX11_init_5 : decode cX11_init 5 = .ok (.aload_n 0, 1) := dk_42 (dk_at dksX11_init_0 5 rfl rfl)
theorem dX11_init_6 : decode cX11_init 6 = .ok (.iload_n 2, 1) := dk_28 (dk_at dksX11_init_0 6 rfl rfl)
theorem dX11_init_7 : decode cX11_init 7 = .ok (.putfield 7, 3) := dk_181 0 7 (dk_at dksX11_init_0 7 rfl rfl)
theorem dX11_init_10 : decode cX11_init 10 = .ok (.aload_n 0, 1) := dk_42 (dk_at dksX11_init_0 10 rfl rfl)
theorem dX11_init_11 : decode cX11_init 11 = .ok (.invokespecial 11, 3) := dk_183 0 11 (dk_at dksX11_init_0 11 rfl rfl)
theorem dX11_init_14 : decode cX11_init 14 = .ok (.aload_n 0, 1) := dk_42 (dk_at dksX11_init_0 14 rfl rfl)
theorem dX11_init_15 : decode cX11_init 15 = .ok (.aload_n 0, 1) := dk_42 (dk_at dksX11_init_0 15 rfl rfl)
theorem dX11_init_16 : decode cX11_init 16 = .ok (.getfield 7, 3) := dk_180 0 7 (dk_at dksX11_init_0 16 rfl rfl)
theorem dX11_init_19 : decode cX11_init 19 = .ok (.putfield 17, 3) := dk_181 0 17 (dk_at dksX11_init_0 19 rfl rfl)
theorem dX11_init_22 : decode cX11_init 22 = .ok (.return_, 1) := dk_177 (dk_at dksX11_init_0 22 rfl rfl)
abbrev cX11_next : ByteArray := prog_4_method_4_code
def yX11_next : MethodName := ⟨RX11, "next", "()Ljava/lang/Object;"⟩
theorem dX11_next_0 : decode cX11_next 0 = .ok (.aload_n 0, 1) := by decide +kernel
theorem dX11_next_1 : decode cX11_next 1 = .ok (.invokevirtual 39, 3) := by decide +kernel
theorem dX11_next_4 : decode cX11_next 4 = .ok (.areturn, 1) := by decide +kernel
abbrev cX11_next_2 : ByteArray := prog_4_method_3_code
def yX11_next_2 : MethodName := ⟨RX11, "next", "()Ljava/lang/Integer;"⟩
def dkwX11_next_2_2 : List UInt8 := [4, 96, 181, 0, 17, 42, 180, 0, 17, 4, 100, 184, 0, 33, 176]
abbrev dktX11_next_2_2 : List UInt8 := dkwX11_next_2_2 ++ []
def dkwX11_next_2_1 : List UInt8 := [182, 0, 27, 154, 0, 16, 42, 89, 180, 0, 17, 4, 96, 181, 0, 17, 167, 255, 232, 42, 89, 180, 0, 17]
abbrev dktX11_next_2_1 : List UInt8 := dkwX11_next_2_1 ++ dktX11_next_2_2
def dkwX11_next_2_0 : List UInt8 := [42, 182, 0, 20, 154, 0, 11, 187, 0, 24, 89, 183, 0, 26, 191, 42, 180, 0, 1, 42, 180, 0, 17]
abbrev dktX11_next_2_0 : List UInt8 := dkwX11_next_2_0 ++ dktX11_next_2_1
theorem dksX11_next_2_0 : cX11_next_2.data.toList.drop 0 = dktX11_next_2_0 := by decide +kernel
theorem dksX11_next_2_1 : cX11_next_2.data.toList.drop 23 = dktX11_next_2_1 := dk_seg dksX11_next_2_0 23 rfl rfl
theorem dksX11_next_2_2 : cX11_next_2.data.toList.drop 47 = dktX11_next_2_2 := dk_seg dksX11_next_2_1 24 rfl rfl
theorem dX11_next_2_0 : decode cX11_next_2 0 = .ok (.aload_n 0, 1) := dk_42 (dk_at dksX11_next_2_0 0 rfl rfl)
theorem dX11_next_2_1 : decode cX11_next_2 1 = .ok (.invokevirtual 20, 3) := dk_182 0 20 (dk_at dksX11_next_2_0 1 rfl rfl)
theorem dX11_next_2_4 : decode cX11_next_2 4 = .ok (.ifCond .ne 11, 3) := dk_154 0 11 (dk_at dksX11_next_2_0 4 rfl rfl)
theorem dX11_next_2_7 : decode cX11_next_2 7 = .ok (.new 24, 3) := dk_187 0 24 (dk_at dksX11_next_2_0 7 rfl rfl)
theorem dX11_next_2_10 : decode cX11_next_2 10 = .ok (.dup, 1) := dk_89 (dk_at dksX11_next_2_0 10 rfl rfl)
theorem dX11_next_2_11 : decode cX11_next_2 11 = .ok (.invokespecial 26, 3) := dk_183 0 26 (dk_at dksX11_next_2_0 11 rfl rfl)
theorem dX11_next_2_14 : decode cX11_next_2 14 = .ok (.athrow, 1) := dk_191 (dk_at dksX11_next_2_0 14 rfl rfl)
theorem dX11_next_2_15 : decode cX11_next_2 15 = .ok (.aload_n 0, 1) := dk_42 (dk_at dksX11_next_2_0 15 rfl rfl)
theorem dX11_next_2_16 : decode cX11_next_2 16 = .ok (.getfield 1, 3) := dk_180 0 1 (dk_at dksX11_next_2_0 16 rfl rfl)
theorem dX11_next_2_19 : decode cX11_next_2 19 = .ok (.aload_n 0, 1) := dk_42 (dk_at dksX11_next_2_0 19 rfl rfl)
theorem dX11_next_2_20 : decode cX11_next_2 20 = .ok (.getfield 17, 3) := dk_180 0 17 (dk_at dksX11_next_2_0 20 rfl rfl)
theorem dX11_next_2_23 : decode cX11_next_2 23 = .ok (.invokevirtual 27, 3) := dk_182 0 27 (dk_at dksX11_next_2_1 0 rfl rfl)
theorem dX11_next_2_26 : decode cX11_next_2 26 = .ok (.ifCond .ne 16, 3) := dk_154 0 16 (dk_at dksX11_next_2_1 3 rfl rfl)
theorem dX11_next_2_29 : decode cX11_next_2 29 = .ok (.aload_n 0, 1) := dk_42 (dk_at dksX11_next_2_1 6 rfl rfl)
theorem dX11_next_2_30 : decode cX11_next_2 30 = .ok (.dup, 1) := dk_89 (dk_at dksX11_next_2_1 7 rfl rfl)
theorem dX11_next_2_31 : decode cX11_next_2 31 = .ok (.getfield 17, 3) := dk_180 0 17 (dk_at dksX11_next_2_1 8 rfl rfl)
theorem dX11_next_2_34 : decode cX11_next_2 34 = .ok (.iconst 1, 1) := dk_4 (dk_at dksX11_next_2_1 11 rfl rfl)
theorem dX11_next_2_35 : decode cX11_next_2 35 = .ok (.iadd, 1) := dk_96 (dk_at dksX11_next_2_1 12 rfl rfl)
theorem dX11_next_2_36 : decode cX11_next_2 36 = .ok (.putfield 17, 3) := dk_181 0 17 (dk_at dksX11_next_2_1 13 rfl rfl)
theorem dX11_next_2_39 : decode cX11_next_2 39 = .ok (.goto (-24), 3) := dk_167 255 232 (dk_at dksX11_next_2_1 16 rfl rfl)
theorem dX11_next_2_42 : decode cX11_next_2 42 = .ok (.aload_n 0, 1) := dk_42 (dk_at dksX11_next_2_1 19 rfl rfl)
theorem dX11_next_2_43 : decode cX11_next_2 43 = .ok (.dup, 1) := dk_89 (dk_at dksX11_next_2_1 20 rfl rfl)
theorem dX11_next_2_44 : decode cX11_next_2 44 = .ok (.getfield 17, 3) := dk_180 0 17 (dk_at dksX11_next_2_1 21 rfl rfl)
theorem dX11_next_2_47 : decode cX11_next_2 47 = .ok (.iconst 1, 1) := dk_4 (dk_at dksX11_next_2_2 0 rfl rfl)
theorem dX11_next_2_48 : decode cX11_next_2 48 = .ok (.iadd, 1) := dk_96 (dk_at dksX11_next_2_2 1 rfl rfl)
theorem dX11_next_2_49 : decode cX11_next_2 49 = .ok (.putfield 17, 3) := dk_181 0 17 (dk_at dksX11_next_2_2 2 rfl rfl)
theorem dX11_next_2_52 : decode cX11_next_2 52 = .ok (.aload_n 0, 1) := dk_42 (dk_at dksX11_next_2_2 5 rfl rfl)
theorem dX11_next_2_53 : decode cX11_next_2 53 = .ok (.getfield 17, 3) := dk_180 0 17 (dk_at dksX11_next_2_2 6 rfl rfl)
theorem dX11_next_2_56 : decode cX11_next_2 56 = .ok (.iconst 1, 1) := dk_4 (dk_at dksX11_next_2_2 9 rfl rfl)
theorem dX11_next_2_57 : decode cX11_next_2 57 = .ok (.isub, 1) := dk_100 (dk_at dksX11_next_2_2 10 rfl rfl)
theorem dX11_next_2_58 : decode cX11_next_2 58 = .ok (.invokestatic 33, 3) := dk_184 0 33 (dk_at dksX11_next_2_2 11 rfl rfl)
theorem dX11_next_2_61 : decode cX11_next_2 61 = .ok (.areturn, 1) := dk_176 (dk_at dksX11_next_2_2 14 rfl rfl)
abbrev cX11_hasNext : ByteArray := prog_4_method_2_code
def yX11_hasNext : MethodName := ⟨RX11, "hasNext", "()Z"⟩
theorem dX11_hasNext_0 : decode cX11_hasNext 0 = .ok (.iconst 1, 1) := by decide +kernel
theorem dX11_hasNext_1 : decode cX11_hasNext 1 = .ok (.ireturn, 1) := by decide +kernel
theorem q99 : (Jvm.Cond.initialized "DocumentaryCreditDesk$Calendar$1") ∈ lw_all := lw_g (lw_at lw_m1 32 rfl) rfl
theorem q1043 : (Jvm.Cond.selects "DocumentaryCreditDesk$Calendar$1" ({ cls := "java/lang/Object", name := "getClass", desc := "()Ljava/lang/Class;" } : Jvm.MethodName) ({ cls := "java/lang/Object", name := "getClass", desc := "()Ljava/lang/Class;" } : Jvm.MethodName)) ∈ lw_all := lw_g (lw_at lw_m5 16 rfl) rfl
theorem q1202 : (Jvm.Cond.instantiable "DocumentaryCreditDesk$Calendar$1" (3 : Nat)) ∈ lw_all := lw_g (lw_at lw_m5 175 rfl) rfl
theorem q1204 : (Jvm.Cond.instanceMethod ({ cls := "DocumentaryCreditDesk$Calendar$1", name := "<init>", desc := "(LDocumentaryCreditDesk$Calendar;I)V" } : Jvm.MethodName)) ∈ lw_all := lw_g (lw_at lw_m5 177 rfl) rfl
theorem q1205 : (Jvm.Cond.code ({ cls := "DocumentaryCreditDesk$Calendar$1", name := "<init>", desc := "(LDocumentaryCreditDesk$Calendar;I)V" } : Jvm.MethodName) prog_4_method_1_code (3 : Nat) (Option.none : Option Jvm.ClassFile.FieldType)) ∈ lw_all := lw_g (lw_at lw_m5 178 rfl) rfl
theorem q1206 : (Jvm.Cond.methodLink "DocumentaryCreditDesk$Calendar$1" (11 : Nat) ({ cls := "java/lang/Object", name := "<init>", desc := "()V" } : Jvm.MethodName)) ∈ lw_all := lw_g (lw_at lw_m5 179 rfl) rfl
theorem q1207 : (Jvm.Cond.fieldLink "DocumentaryCreditDesk$Calendar$1" (17 : Nat) "DocumentaryCreditDesk$Calendar$1" "next" "I") ∈ lw_all := lw_g (lw_at lw_m5 180 rfl) rfl
theorem q1208 : (Jvm.Cond.fieldLink "DocumentaryCreditDesk$Calendar$1" (7 : Nat) "DocumentaryCreditDesk$Calendar$1" "val$day" "I") ∈ lw_all := lw_g (lw_at lw_m5 181 rfl) rfl
theorem q1209 : (Jvm.Cond.fieldLink "DocumentaryCreditDesk$Calendar$1" (1 : Nat) "DocumentaryCreditDesk$Calendar$1" "this$0" "LDocumentaryCreditDesk$Calendar;") ∈ lw_all := lw_g (lw_at lw_m5 182 rfl) rfl
theorem q1210 : (Jvm.Cond.lays "DocumentaryCreditDesk$Calendar$1" "DocumentaryCreditDesk$Calendar$1" "next" "I") ∈ lw_all := lw_g (lw_at lw_m5 183 rfl) rfl
theorem q1211 : (Jvm.Cond.soleField "DocumentaryCreditDesk$Calendar$1" "next") ∈ lw_all := lw_g (lw_at lw_m5 184 rfl) rfl
theorem q1212 : (Jvm.Cond.laysFinal "DocumentaryCreditDesk$Calendar$1" "DocumentaryCreditDesk$Calendar$1" "val$day" "I") ∈ lw_all := lw_g (lw_at lw_m5 185 rfl) rfl
theorem q1213 : (Jvm.Cond.soleField "DocumentaryCreditDesk$Calendar$1" "val$day") ∈ lw_all := lw_g (lw_at lw_m5 186 rfl) rfl
theorem q1214 : (Jvm.Cond.laysFinal "DocumentaryCreditDesk$Calendar$1" "DocumentaryCreditDesk$Calendar$1" "this$0" "LDocumentaryCreditDesk$Calendar;") ∈ lw_all := lw_g (lw_at lw_m5 187 rfl) rfl
theorem q1215 : (Jvm.Cond.soleField "DocumentaryCreditDesk$Calendar$1" "this$0") ∈ lw_all := lw_g (lw_at lw_m5 188 rfl) rfl
theorem q1216 : (Jvm.Cond.superclass "DocumentaryCreditDesk$Calendar$1" "java/lang/Object") ∈ lw_all := lw_g (lw_at lw_m5 189 rfl) rfl
theorem q1221 : (Jvm.Cond.castable "DocumentaryCreditDesk$Calendar$1" "java/util/Iterator") ∈ lw_tbl := lw_at lw_m5 194 rfl
theorem q1222 : (Jvm.Cond.selects "DocumentaryCreditDesk$Calendar$1" ({ cls := "java/util/Iterator", name := "next", desc := "()Ljava/lang/Object;" } : Jvm.MethodName) ({ cls := "DocumentaryCreditDesk$Calendar$1", name := "next", desc := "()Ljava/lang/Object;" } : Jvm.MethodName)) ∈ lw_all := lw_g (lw_at lw_m5 195 rfl) rfl
theorem q1223 : (Jvm.Cond.unhidden "DocumentaryCreditDesk$Calendar$1" "next" "()Ljava/lang/Object;") ∈ lw_tbl := lw_at lw_m5 196 rfl
theorem q1224 : (Jvm.Cond.instanceMethod ({ cls := "DocumentaryCreditDesk$Calendar$1", name := "next", desc := "()Ljava/lang/Object;" } : Jvm.MethodName)) ∈ lw_all := lw_g (lw_at lw_m5 197 rfl) rfl
theorem q1225 : (Jvm.Cond.publicMethod ({ cls := "DocumentaryCreditDesk$Calendar$1", name := "next", desc := "()Ljava/lang/Object;" } : Jvm.MethodName)) ∈ lw_tbl := lw_at lw_m5 198 rfl
theorem q1226 : (Jvm.Cond.code ({ cls := "DocumentaryCreditDesk$Calendar$1", name := "next", desc := "()Ljava/lang/Object;" } : Jvm.MethodName) prog_4_method_4_code (1 : Nat) (Option.some (Jvm.ClassFile.FieldType.object "java/lang/Object"))) ∈ lw_all := lw_g (lw_at lw_m5 199 rfl) rfl
theorem q1227 : (Jvm.Cond.methodLink "DocumentaryCreditDesk$Calendar$1" (39 : Nat) ({ cls := "DocumentaryCreditDesk$Calendar$1", name := "next", desc := "()Ljava/lang/Integer;" } : Jvm.MethodName)) ∈ lw_all := lw_g (lw_at lw_m5 200 rfl) rfl
theorem q1228 : (Jvm.Cond.instanceMethod ({ cls := "DocumentaryCreditDesk$Calendar$1", name := "next", desc := "()Ljava/lang/Integer;" } : Jvm.MethodName)) ∈ lw_all := lw_g (lw_at lw_m5 201 rfl) rfl
theorem q1229 : (Jvm.Cond.selects "DocumentaryCreditDesk$Calendar$1" ({ cls := "DocumentaryCreditDesk$Calendar$1", name := "next", desc := "()Ljava/lang/Integer;" } : Jvm.MethodName) ({ cls := "DocumentaryCreditDesk$Calendar$1", name := "next", desc := "()Ljava/lang/Integer;" } : Jvm.MethodName)) ∈ lw_all := lw_g (lw_at lw_m5 202 rfl) rfl
theorem q1230 : (Jvm.Cond.code ({ cls := "DocumentaryCreditDesk$Calendar$1", name := "next", desc := "()Ljava/lang/Integer;" } : Jvm.MethodName) prog_4_method_3_code (1 : Nat) (Option.some (Jvm.ClassFile.FieldType.object "java/lang/Integer"))) ∈ lw_all := lw_g (lw_at lw_m5 203 rfl) rfl
theorem q1231 : (Jvm.Cond.methodLink "DocumentaryCreditDesk$Calendar$1" (20 : Nat) ({ cls := "DocumentaryCreditDesk$Calendar$1", name := "hasNext", desc := "()Z" } : Jvm.MethodName)) ∈ lw_all := lw_g (lw_at lw_m5 204 rfl) rfl
theorem q1232 : (Jvm.Cond.instanceMethod ({ cls := "DocumentaryCreditDesk$Calendar$1", name := "hasNext", desc := "()Z" } : Jvm.MethodName)) ∈ lw_all := lw_g (lw_at lw_m5 205 rfl) rfl
theorem q1233 : (Jvm.Cond.selects "DocumentaryCreditDesk$Calendar$1" ({ cls := "DocumentaryCreditDesk$Calendar$1", name := "hasNext", desc := "()Z" } : Jvm.MethodName) ({ cls := "DocumentaryCreditDesk$Calendar$1", name := "hasNext", desc := "()Z" } : Jvm.MethodName)) ∈ lw_all := lw_g (lw_at lw_m5 206 rfl) rfl
theorem q1234 : (Jvm.Cond.code ({ cls := "DocumentaryCreditDesk$Calendar$1", name := "hasNext", desc := "()Z" } : Jvm.MethodName) prog_4_method_2_code (1 : Nat) (Option.some Jvm.ClassFile.FieldType.boolean)) ∈ lw_all := lw_g (lw_at lw_m5 207 rfl) rfl
theorem q1235 : (Jvm.Cond.classLink "DocumentaryCreditDesk$Calendar$1" (24 : Nat) "java/util/NoSuchElementException") ∈ lw_all := lw_g (lw_at lw_m5 208 rfl) rfl
theorem q1244 : (Jvm.Cond.methodLink "DocumentaryCreditDesk$Calendar$1" (26 : Nat) ({ cls := "java/util/NoSuchElementException", name := "<init>", desc := "()V" } : Jvm.MethodName)) ∈ lw_all := lw_g (lw_at lw_m5 217 rfl) rfl
theorem q1250 : (Jvm.Cond.methodLink "DocumentaryCreditDesk$Calendar$1" (27 : Nat) ({ cls := "DocumentaryCreditDesk$Calendar", name := "isBusinessDay", desc := "(I)Z" } : Jvm.MethodName)) ∈ lw_all := lw_g (lw_at lw_m5 223 rfl) rfl
theorem q1251 : (Jvm.Cond.methodLink "DocumentaryCreditDesk$Calendar$1" (33 : Nat) ({ cls := "java/lang/Integer", name := "valueOf", desc := "(I)Ljava/lang/Integer;" } : Jvm.MethodName)) ∈ lw_all := lw_g (lw_at lw_m5 224 rfl) rfl
theorem q2078 : (Jvm.Cond.castable "DocumentaryCreditDesk$Calendar$1" "java/lang/Object") ∈ lw_tbl := lw_at lw_m9 91 rfl
theorem in_X11 : ∀ w ∈ wsX110, w ∈ lw_all := lw_in wsX110 [1210, 1212, 1214] (by decide +kernel) (by decide +kernel)
/-! DocumentaryCreditDesk$Presentation -/
set_option maxRecDepth 100000
def RX12 : String := "DocumentaryCreditDesk$Presentation"
def TX12 : u_T := fun k => match k with
  | 0 => ("DocumentaryCreditDesk$Presentation", "credit", "I", true)
  | 1 => ("DocumentaryCreditDesk$Presentation", "made", "I", true)
  | 2 => ("DocumentaryCreditDesk$Presentation", "amount", "I", true)
  | 3 => ("DocumentaryCreditDesk$Presentation", "discrepancies", "I", true)
  | 4 => ("DocumentaryCreditDesk$Presentation", "state", "I", true)
  | _ => ("DocumentaryCreditDesk$Presentation", "due", "I", true)
def tyX12 : Nat → FieldType := fun k => match k with
  | 0 => .int
  | 1 => .int
  | 2 => .int
  | 3 => .int
  | 4 => .int
  | _ => .int
abbrev wsX120 : List Cond := u_ws RX12 TX12 6
theorem nmX12 : ∀ a, a < 6 → ∀ b, b < 6 → a ≠ b → (TX12 a).2.1 ≠ (TX12 b).2.1 := by decide +kernel
theorem tyX12_ok : ∀ k, k < 6 → parseFieldDescriptor (TX12 k).2.2.1 = some (tyX12 k) := by decide +kernel
abbrev cX12_isDrawing : ByteArray := prog_10_method_4_code
def yX12_isDrawing : MethodName := ⟨RX12, "isDrawing", "()Z"⟩
def dkwX12_isDrawing_0 : List UInt8 := [42, 180, 0, 24, 6, 159, 0, 15, 42, 5, 182, 0, 33, 154, 0, 7, 4, 167, 0, 4, 3, 172]
abbrev dktX12_isDrawing_0 : List UInt8 := dkwX12_isDrawing_0 ++ []
theorem dksX12_isDrawing_0 : cX12_isDrawing.data.toList.drop 0 = dktX12_isDrawing_0 := by decide +kernel
theorem dX12_isDrawing_0 : decode cX12_isDrawing 0 = .ok (.aload_n 0, 1) := dk_42 (dk_at dksX12_isDrawing_0 0 rfl rfl)
theorem dX12_isDrawing_1 : decode cX12_isDrawing 1 = .ok (.getfield 24, 3) := dk_180 0 24 (dk_at dksX12_isDrawing_0 1 rfl rfl)
theorem dX12_isDrawing_4 : decode cX12_isDrawing 4 = .ok (.iconst 3, 1) := dk_6 (dk_at dksX12_isDrawing_0 4 rfl rfl)
theorem dX12_isDrawing_5 : decode cX12_isDrawing 5 = .ok (.if_icmp .eq 15, 3) := dk_159 0 15 (dk_at dksX12_isDrawing_0 5 rfl rfl)
theorem dX12_isDrawing_8 : decode cX12_isDrawing 8 = .ok (.aload_n 0, 1) := dk_42 (dk_at dksX12_isDrawing_0 8 rfl rfl)
theorem dX12_isDrawing_9 : decode cX12_isDrawing 9 = .ok (.iconst 2, 1) := dk_5 (dk_at dksX12_isDrawing_0 9 rfl rfl)
theorem dX12_isDrawing_10 : decode cX12_isDrawing 10 = .ok (.invokevirtual 33, 3) := dk_182 0 33 (dk_at dksX12_isDrawing_0 10 rfl rfl)
theorem dX12_isDrawing_13 : decode cX12_isDrawing 13 = .ok (.ifCond .ne 7, 3) := dk_154 0 7 (dk_at dksX12_isDrawing_0 13 rfl rfl)
theorem dX12_isDrawing_16 : decode cX12_isDrawing 16 = .ok (.iconst 1, 1) := dk_4 (dk_at dksX12_isDrawing_0 16 rfl rfl)
theorem dX12_isDrawing_17 : decode cX12_isDrawing 17 = .ok (.goto 4, 3) := dk_167 0 4 (dk_at dksX12_isDrawing_0 17 rfl rfl)
theorem dX12_isDrawing_20 : decode cX12_isDrawing 20 = .ok (.iconst 0, 1) := dk_3 (dk_at dksX12_isDrawing_0 20 rfl rfl)
theorem dX12_isDrawing_21 : decode cX12_isDrawing 21 = .ok (.ireturn, 1) := dk_172 (dk_at dksX12_isDrawing_0 21 rfl rfl)
abbrev cX12_has : ByteArray := prog_10_method_3_code
def yX12_has : MethodName := ⟨RX12, "has", "(I)Z"⟩
def dkwX12_has_0 : List UInt8 := [42, 180, 0, 21, 27, 122, 4, 126, 4, 160, 0, 7, 4, 167, 0, 4, 3, 172]
abbrev dktX12_has_0 : List UInt8 := dkwX12_has_0 ++ []
theorem dksX12_has_0 : cX12_has.data.toList.drop 0 = dktX12_has_0 := by decide +kernel
theorem dX12_has_0 : decode cX12_has 0 = .ok (.aload_n 0, 1) := dk_42 (dk_at dksX12_has_0 0 rfl rfl)
theorem dX12_has_1 : decode cX12_has 1 = .ok (.getfield 21, 3) := dk_180 0 21 (dk_at dksX12_has_0 1 rfl rfl)
theorem dX12_has_4 : decode cX12_has 4 = .ok (.iload_n 1, 1) := dk_27 (dk_at dksX12_has_0 4 rfl rfl)
theorem dX12_has_5 : decode cX12_has 5 = .ok (.ishr, 1) := dk_122 (dk_at dksX12_has_0 5 rfl rfl)
theorem dX12_has_6 : decode cX12_has 6 = .ok (.iconst 1, 1) := dk_4 (dk_at dksX12_has_0 6 rfl rfl)
theorem dX12_has_7 : decode cX12_has 7 = .ok (.iand, 1) := dk_126 (dk_at dksX12_has_0 7 rfl rfl)
theorem dX12_has_8 : decode cX12_has 8 = .ok (.iconst 1, 1) := dk_4 (dk_at dksX12_has_0 8 rfl rfl)
theorem dX12_has_9 : decode cX12_has 9 = .ok (.if_icmp .ne 7, 3) := dk_160 0 7 (dk_at dksX12_has_0 9 rfl rfl)
theorem dX12_has_12 : decode cX12_has 12 = .ok (.iconst 1, 1) := dk_4 (dk_at dksX12_has_0 12 rfl rfl)
theorem dX12_has_13 : decode cX12_has 13 = .ok (.goto 4, 3) := dk_167 0 4 (dk_at dksX12_has_0 13 rfl rfl)
theorem dX12_has_16 : decode cX12_has 16 = .ok (.iconst 0, 1) := dk_3 (dk_at dksX12_has_0 16 rfl rfl)
theorem dX12_has_17 : decode cX12_has 17 = .ok (.ireturn, 1) := dk_172 (dk_at dksX12_has_0 17 rfl rfl)
abbrev cX12_init : ByteArray := prog_10_method_1_code
def yX12_init : MethodName := ⟨RX12, "<init>", "(IIIIII)V"⟩
def dkwX12_init_1 : List UInt8 := [181, 0, 21, 42, 21, 5, 181, 0, 24, 42, 21, 6, 181, 0, 27, 177]
abbrev dktX12_init_1 : List UInt8 := dkwX12_init_1 ++ []
def dkwX12_init_0 : List UInt8 := [42, 183, 0, 3, 42, 27, 181, 0, 9, 42, 28, 181, 0, 15, 42, 29, 181, 0, 18, 42, 21, 4]
abbrev dktX12_init_0 : List UInt8 := dkwX12_init_0 ++ dktX12_init_1
theorem dksX12_init_0 : cX12_init.data.toList.drop 0 = dktX12_init_0 := by decide +kernel
theorem dksX12_init_1 : cX12_init.data.toList.drop 22 = dktX12_init_1 := dk_seg dksX12_init_0 22 rfl rfl
theorem dX12_init_0 : decode cX12_init 0 = .ok (.aload_n 0, 1) := dk_42 (dk_at dksX12_init_0 0 rfl rfl)
theorem dX12_init_1 : decode cX12_init 1 = .ok (.invokespecial 3, 3) := dk_183 0 3 (dk_at dksX12_init_0 1 rfl rfl)
theorem dX12_init_4 : decode cX12_init 4 = .ok (.aload_n 0, 1) := dk_42 (dk_at dksX12_init_0 4 rfl rfl)
theorem dX12_init_5 : decode cX12_init 5 = .ok (.iload_n 1, 1) := dk_27 (dk_at dksX12_init_0 5 rfl rfl)
theorem dX12_init_6 : decode cX12_init 6 = .ok (.putfield 9, 3) := dk_181 0 9 (dk_at dksX12_init_0 6 rfl rfl)
theorem dX12_init_9 : decode cX12_init 9 = .ok (.aload_n 0, 1) := dk_42 (dk_at dksX12_init_0 9 rfl rfl)
theorem dX12_init_10 : decode cX12_init 10 = .ok (.iload_n 2, 1) := dk_28 (dk_at dksX12_init_0 10 rfl rfl)
theorem dX12_init_11 : decode cX12_init 11 = .ok (.putfield 15, 3) := dk_181 0 15 (dk_at dksX12_init_0 11 rfl rfl)
theorem dX12_init_14 : decode cX12_init 14 = .ok (.aload_n 0, 1) := dk_42 (dk_at dksX12_init_0 14 rfl rfl)
theorem dX12_init_15 : decode cX12_init 15 = .ok (.iload_n 3, 1) := dk_29 (dk_at dksX12_init_0 15 rfl rfl)
theorem dX12_init_16 : decode cX12_init 16 = .ok (.putfield 18, 3) := dk_181 0 18 (dk_at dksX12_init_0 16 rfl rfl)
theorem dX12_init_19 : decode cX12_init 19 = .ok (.aload_n 0, 1) := dk_42 (dk_at dksX12_init_0 19 rfl rfl)
theorem dX12_init_20 : decode cX12_init 20 = .ok (.iload 4, 2) := dk_21 4 (dk_at dksX12_init_0 20 rfl rfl)
theorem dX12_init_22 : decode cX12_init 22 = .ok (.putfield 21, 3) := dk_181 0 21 (dk_at dksX12_init_1 0 rfl rfl)
theorem dX12_init_25 : decode cX12_init 25 = .ok (.aload_n 0, 1) := dk_42 (dk_at dksX12_init_1 3 rfl rfl)
theorem dX12_init_26 : decode cX12_init 26 = .ok (.iload 5, 2) := dk_21 5 (dk_at dksX12_init_1 4 rfl rfl)
theorem dX12_init_28 : decode cX12_init 28 = .ok (.putfield 24, 3) := dk_181 0 24 (dk_at dksX12_init_1 6 rfl rfl)
theorem dX12_init_31 : decode cX12_init 31 = .ok (.aload_n 0, 1) := dk_42 (dk_at dksX12_init_1 9 rfl rfl)
theorem dX12_init_32 : decode cX12_init 32 = .ok (.iload 6, 2) := dk_21 6 (dk_at dksX12_init_1 10 rfl rfl)
theorem dX12_init_34 : decode cX12_init 34 = .ok (.putfield 27, 3) := dk_181 0 27 (dk_at dksX12_init_1 12 rfl rfl)
theorem dX12_init_37 : decode cX12_init 37 = .ok (.return_, 1) := dk_177 (dk_at dksX12_init_1 15 rfl rfl)
abbrev cX12_in : ByteArray := prog_10_method_2_code
def yX12_in : MethodName := ⟨RX12, "in", "(II)LDocumentaryCreditDesk$Presentation;"⟩
def dkwX12_in_1 : List UInt8 := [183, 0, 30, 176]
abbrev dktX12_in_1 : List UInt8 := dkwX12_in_1 ++ []
def dkwX12_in_0 : List UInt8 := [187, 0, 10, 89, 42, 180, 0, 9, 42, 180, 0, 15, 42, 180, 0, 18, 42, 180, 0, 21, 27, 28]
abbrev dktX12_in_0 : List UInt8 := dkwX12_in_0 ++ dktX12_in_1
theorem dksX12_in_0 : cX12_in.data.toList.drop 0 = dktX12_in_0 := by decide +kernel
theorem dksX12_in_1 : cX12_in.data.toList.drop 22 = dktX12_in_1 := dk_seg dksX12_in_0 22 rfl rfl
theorem dX12_in_0 : decode cX12_in 0 = .ok (.new 10, 3) := dk_187 0 10 (dk_at dksX12_in_0 0 rfl rfl)
theorem dX12_in_3 : decode cX12_in 3 = .ok (.dup, 1) := dk_89 (dk_at dksX12_in_0 3 rfl rfl)
theorem dX12_in_4 : decode cX12_in 4 = .ok (.aload_n 0, 1) := dk_42 (dk_at dksX12_in_0 4 rfl rfl)
theorem dX12_in_5 : decode cX12_in 5 = .ok (.getfield 9, 3) := dk_180 0 9 (dk_at dksX12_in_0 5 rfl rfl)
theorem dX12_in_8 : decode cX12_in 8 = .ok (.aload_n 0, 1) := dk_42 (dk_at dksX12_in_0 8 rfl rfl)
theorem dX12_in_9 : decode cX12_in 9 = .ok (.getfield 15, 3) := dk_180 0 15 (dk_at dksX12_in_0 9 rfl rfl)
theorem dX12_in_12 : decode cX12_in 12 = .ok (.aload_n 0, 1) := dk_42 (dk_at dksX12_in_0 12 rfl rfl)
theorem dX12_in_13 : decode cX12_in 13 = .ok (.getfield 18, 3) := dk_180 0 18 (dk_at dksX12_in_0 13 rfl rfl)
theorem dX12_in_16 : decode cX12_in 16 = .ok (.aload_n 0, 1) := dk_42 (dk_at dksX12_in_0 16 rfl rfl)
theorem dX12_in_17 : decode cX12_in 17 = .ok (.getfield 21, 3) := dk_180 0 21 (dk_at dksX12_in_0 17 rfl rfl)
theorem dX12_in_20 : decode cX12_in 20 = .ok (.iload_n 1, 1) := dk_27 (dk_at dksX12_in_0 20 rfl rfl)
theorem dX12_in_21 : decode cX12_in 21 = .ok (.iload_n 2, 1) := dk_28 (dk_at dksX12_in_0 21 rfl rfl)
theorem dX12_in_22 : decode cX12_in 22 = .ok (.invokespecial 30, 3) := dk_183 0 30 (dk_at dksX12_in_1 0 rfl rfl)
theorem dX12_in_25 : decode cX12_in 25 = .ok (.areturn, 1) := dk_176 (dk_at dksX12_in_1 3 rfl rfl)
theorem q105 : (Jvm.Cond.initialized "DocumentaryCreditDesk$Presentation") ∈ lw_all := lw_g (lw_at lw_m1 38 rfl) rfl
theorem q350 : (Jvm.Cond.instanceMethod ({ cls := "DocumentaryCreditDesk$Presentation", name := "isDrawing", desc := "()Z" } : Jvm.MethodName)) ∈ lw_all := lw_g (lw_at lw_m2 43 rfl) rfl
theorem q351 : (Jvm.Cond.selects "DocumentaryCreditDesk$Presentation" ({ cls := "DocumentaryCreditDesk$Presentation", name := "isDrawing", desc := "()Z" } : Jvm.MethodName) ({ cls := "DocumentaryCreditDesk$Presentation", name := "isDrawing", desc := "()Z" } : Jvm.MethodName)) ∈ lw_all := lw_g (lw_at lw_m2 44 rfl) rfl
theorem q352 : (Jvm.Cond.code ({ cls := "DocumentaryCreditDesk$Presentation", name := "isDrawing", desc := "()Z" } : Jvm.MethodName) prog_10_method_4_code (1 : Nat) (Option.some Jvm.ClassFile.FieldType.boolean)) ∈ lw_all := lw_g (lw_at lw_m2 45 rfl) rfl
theorem q353 : (Jvm.Cond.methodLink "DocumentaryCreditDesk$Presentation" (33 : Nat) ({ cls := "DocumentaryCreditDesk$Presentation", name := "has", desc := "(I)Z" } : Jvm.MethodName)) ∈ lw_all := lw_g (lw_at lw_m2 46 rfl) rfl
theorem q354 : (Jvm.Cond.instanceMethod ({ cls := "DocumentaryCreditDesk$Presentation", name := "has", desc := "(I)Z" } : Jvm.MethodName)) ∈ lw_all := lw_g (lw_at lw_m2 47 rfl) rfl
theorem q355 : (Jvm.Cond.selects "DocumentaryCreditDesk$Presentation" ({ cls := "DocumentaryCreditDesk$Presentation", name := "has", desc := "(I)Z" } : Jvm.MethodName) ({ cls := "DocumentaryCreditDesk$Presentation", name := "has", desc := "(I)Z" } : Jvm.MethodName)) ∈ lw_all := lw_g (lw_at lw_m2 48 rfl) rfl
theorem q356 : (Jvm.Cond.code ({ cls := "DocumentaryCreditDesk$Presentation", name := "has", desc := "(I)Z" } : Jvm.MethodName) prog_10_method_3_code (2 : Nat) (Option.some Jvm.ClassFile.FieldType.boolean)) ∈ lw_all := lw_g (lw_at lw_m2 49 rfl) rfl
theorem q1048 : (Jvm.Cond.selects "DocumentaryCreditDesk$Presentation" ({ cls := "java/lang/Object", name := "getClass", desc := "()Ljava/lang/Class;" } : Jvm.MethodName) ({ cls := "java/lang/Object", name := "getClass", desc := "()Ljava/lang/Class;" } : Jvm.MethodName)) ∈ lw_all := lw_g (lw_at lw_m5 21 rfl) rfl
theorem q1538 : (Jvm.Cond.instantiable "DocumentaryCreditDesk$Presentation" (6 : Nat)) ∈ lw_all := lw_g (lw_at lw_m7 31 rfl) rfl
theorem q1540 : (Jvm.Cond.instanceMethod ({ cls := "DocumentaryCreditDesk$Presentation", name := "<init>", desc := "(IIIIII)V" } : Jvm.MethodName)) ∈ lw_all := lw_g (lw_at lw_m7 33 rfl) rfl
theorem q1541 : (Jvm.Cond.code ({ cls := "DocumentaryCreditDesk$Presentation", name := "<init>", desc := "(IIIIII)V" } : Jvm.MethodName) prog_10_method_1_code (7 : Nat) (Option.none : Option Jvm.ClassFile.FieldType)) ∈ lw_all := lw_g (lw_at lw_m7 34 rfl) rfl
theorem q1542 : (Jvm.Cond.methodLink "DocumentaryCreditDesk$Presentation" (3 : Nat) ({ cls := "java/lang/Object", name := "<init>", desc := "()V" } : Jvm.MethodName)) ∈ lw_all := lw_g (lw_at lw_m7 35 rfl) rfl
theorem q1543 : (Jvm.Cond.fieldLink "DocumentaryCreditDesk$Presentation" (9 : Nat) "DocumentaryCreditDesk$Presentation" "credit" "I") ∈ lw_all := lw_g (lw_at lw_m7 36 rfl) rfl
theorem q1546 : (Jvm.Cond.fieldLink "DocumentaryCreditDesk$Presentation" (15 : Nat) "DocumentaryCreditDesk$Presentation" "made" "I") ∈ lw_all := lw_g (lw_at lw_m7 39 rfl) rfl
theorem q1548 : (Jvm.Cond.fieldLink "DocumentaryCreditDesk$Presentation" (18 : Nat) "DocumentaryCreditDesk$Presentation" "amount" "I") ∈ lw_all := lw_g (lw_at lw_m7 41 rfl) rfl
theorem q1551 : (Jvm.Cond.fieldLink "DocumentaryCreditDesk$Presentation" (21 : Nat) "DocumentaryCreditDesk$Presentation" "discrepancies" "I") ∈ lw_all := lw_g (lw_at lw_m7 44 rfl) rfl
theorem q1554 : (Jvm.Cond.fieldLink "DocumentaryCreditDesk$Presentation" (24 : Nat) "DocumentaryCreditDesk$Presentation" "state" "I") ∈ lw_all := lw_g (lw_at lw_m7 47 rfl) rfl
theorem q1557 : (Jvm.Cond.fieldLink "DocumentaryCreditDesk$Presentation" (27 : Nat) "DocumentaryCreditDesk$Presentation" "due" "I") ∈ lw_all := lw_g (lw_at lw_m7 50 rfl) rfl
theorem q1559 : (Jvm.Cond.laysFinal "DocumentaryCreditDesk$Presentation" "DocumentaryCreditDesk$Presentation" "credit" "I") ∈ lw_all := lw_g (lw_at lw_m7 52 rfl) rfl
theorem q1560 : (Jvm.Cond.soleField "DocumentaryCreditDesk$Presentation" "credit") ∈ lw_all := lw_g (lw_at lw_m7 53 rfl) rfl
theorem q1561 : (Jvm.Cond.laysFinal "DocumentaryCreditDesk$Presentation" "DocumentaryCreditDesk$Presentation" "made" "I") ∈ lw_all := lw_g (lw_at lw_m7 54 rfl) rfl
theorem q1562 : (Jvm.Cond.soleField "DocumentaryCreditDesk$Presentation" "made") ∈ lw_all := lw_g (lw_at lw_m7 55 rfl) rfl
theorem q1563 : (Jvm.Cond.laysFinal "DocumentaryCreditDesk$Presentation" "DocumentaryCreditDesk$Presentation" "amount" "I") ∈ lw_all := lw_g (lw_at lw_m7 56 rfl) rfl
theorem q1564 : (Jvm.Cond.soleField "DocumentaryCreditDesk$Presentation" "amount") ∈ lw_all := lw_g (lw_at lw_m7 57 rfl) rfl
theorem q1565 : (Jvm.Cond.laysFinal "DocumentaryCreditDesk$Presentation" "DocumentaryCreditDesk$Presentation" "discrepancies" "I") ∈ lw_all := lw_g (lw_at lw_m7 58 rfl) rfl
theorem q1566 : (Jvm.Cond.soleField "DocumentaryCreditDesk$Presentation" "discrepancies") ∈ lw_all := lw_g (lw_at lw_m7 59 rfl) rfl
theorem q1567 : (Jvm.Cond.laysFinal "DocumentaryCreditDesk$Presentation" "DocumentaryCreditDesk$Presentation" "state" "I") ∈ lw_all := lw_g (lw_at lw_m7 60 rfl) rfl
theorem q1568 : (Jvm.Cond.soleField "DocumentaryCreditDesk$Presentation" "state") ∈ lw_all := lw_g (lw_at lw_m7 61 rfl) rfl
theorem q1569 : (Jvm.Cond.laysFinal "DocumentaryCreditDesk$Presentation" "DocumentaryCreditDesk$Presentation" "due" "I") ∈ lw_all := lw_g (lw_at lw_m7 62 rfl) rfl
theorem q1570 : (Jvm.Cond.soleField "DocumentaryCreditDesk$Presentation" "due") ∈ lw_all := lw_g (lw_at lw_m7 63 rfl) rfl
theorem q1571 : (Jvm.Cond.superclass "DocumentaryCreditDesk$Presentation" "java/lang/Object") ∈ lw_all := lw_g (lw_at lw_m7 64 rfl) rfl
theorem q1595 : (Jvm.Cond.instanceMethod ({ cls := "DocumentaryCreditDesk$Presentation", name := "in", desc := "(II)LDocumentaryCreditDesk$Presentation;" } : Jvm.MethodName)) ∈ lw_all := lw_g (lw_at lw_m7 88 rfl) rfl
theorem q1596 : (Jvm.Cond.selects "DocumentaryCreditDesk$Presentation" ({ cls := "DocumentaryCreditDesk$Presentation", name := "in", desc := "(II)LDocumentaryCreditDesk$Presentation;" } : Jvm.MethodName) ({ cls := "DocumentaryCreditDesk$Presentation", name := "in", desc := "(II)LDocumentaryCreditDesk$Presentation;" } : Jvm.MethodName)) ∈ lw_all := lw_g (lw_at lw_m7 89 rfl) rfl
theorem q1597 : (Jvm.Cond.code ({ cls := "DocumentaryCreditDesk$Presentation", name := "in", desc := "(II)LDocumentaryCreditDesk$Presentation;" } : Jvm.MethodName) prog_10_method_2_code (3 : Nat) (Option.some (Jvm.ClassFile.FieldType.object "DocumentaryCreditDesk$Presentation"))) ∈ lw_all := lw_g (lw_at lw_m7 90 rfl) rfl
theorem q1598 : (Jvm.Cond.classLink "DocumentaryCreditDesk$Presentation" (10 : Nat) "DocumentaryCreditDesk$Presentation") ∈ lw_all := lw_g (lw_at lw_m7 91 rfl) rfl
theorem q1599 : (Jvm.Cond.methodLink "DocumentaryCreditDesk$Presentation" (30 : Nat) ({ cls := "DocumentaryCreditDesk$Presentation", name := "<init>", desc := "(IIIIII)V" } : Jvm.MethodName)) ∈ lw_all := lw_g (lw_at lw_m7 92 rfl) rfl
theorem q2083 : (Jvm.Cond.castable "DocumentaryCreditDesk$Presentation" "java/lang/Object") ∈ lw_tbl := lw_at lw_m9 96 rfl
theorem in_X12 : ∀ w ∈ wsX120, w ∈ lw_all := lw_in wsX120 [1559, 1561, 1563, 1565, 1567, 1569] (by decide +kernel) (by decide +kernel)
