/-! GoblinHouseholdLaw -/
set_option maxRecDepth 100000
def RX0 : String := "GoblinHouseholdLaw"
abbrev cX0_addGoblin : ByteArray := method_3_code
def yX0_addGoblin : MethodName := ⟨RX0, "addGoblin", "(LGoblinHousehold;I[J)I"⟩
def dkwX0_addGoblin_0 : List UInt8 := [44, 3, 42, 27, 182, 0, 7, 133, 80, 167, 0, 9, 78, 4, 172, 78, 5, 172, 3, 172]
abbrev dktX0_addGoblin_0 : List UInt8 := dkwX0_addGoblin_0 ++ []
theorem dksX0_addGoblin_0 : cX0_addGoblin.data.toList.drop 0 = dktX0_addGoblin_0 := by decide +kernel
theorem dX0_addGoblin_0 : decode cX0_addGoblin 0 = .ok (.aload_n 2, 1) := dk_44 (dk_at dksX0_addGoblin_0 0 rfl rfl)
theorem dX0_addGoblin_1 : decode cX0_addGoblin 1 = .ok (.iconst 0, 1) := dk_3 (dk_at dksX0_addGoblin_0 1 rfl rfl)
theorem dX0_addGoblin_2 : decode cX0_addGoblin 2 = .ok (.aload_n 0, 1) := dk_42 (dk_at dksX0_addGoblin_0 2 rfl rfl)
theorem dX0_addGoblin_3 : decode cX0_addGoblin 3 = .ok (.iload_n 1, 1) := dk_27 (dk_at dksX0_addGoblin_0 3 rfl rfl)
theorem dX0_addGoblin_4 : decode cX0_addGoblin 4 = .ok (.invokevirtual 7, 3) := dk_182 0 7 (dk_at dksX0_addGoblin_0 4 rfl rfl)
theorem dX0_addGoblin_7 : decode cX0_addGoblin 7 = .ok (.i2l, 1) := dk_133 (dk_at dksX0_addGoblin_0 7 rfl rfl)
theorem dX0_addGoblin_8 : decode cX0_addGoblin 8 = .ok (.lastore, 1) := dk_80 (dk_at dksX0_addGoblin_0 8 rfl rfl)
theorem dX0_addGoblin_9 : decode cX0_addGoblin 9 = .ok (.goto 9, 3) := dk_167 0 9 (dk_at dksX0_addGoblin_0 9 rfl rfl)
theorem dX0_addGoblin_12 : decode cX0_addGoblin 12 = .ok (.astore_n 3, 1) := dk_78 (dk_at dksX0_addGoblin_0 12 rfl rfl)
theorem dX0_addGoblin_13 : decode cX0_addGoblin 13 = .ok (.iconst 1, 1) := dk_4 (dk_at dksX0_addGoblin_0 13 rfl rfl)
theorem dX0_addGoblin_14 : decode cX0_addGoblin 14 = .ok (.ireturn, 1) := dk_172 (dk_at dksX0_addGoblin_0 14 rfl rfl)
theorem dX0_addGoblin_15 : decode cX0_addGoblin 15 = .ok (.astore_n 3, 1) := dk_78 (dk_at dksX0_addGoblin_0 15 rfl rfl)
theorem dX0_addGoblin_16 : decode cX0_addGoblin 16 = .ok (.iconst 2, 1) := dk_5 (dk_at dksX0_addGoblin_0 16 rfl rfl)
theorem dX0_addGoblin_17 : decode cX0_addGoblin 17 = .ok (.ireturn, 1) := dk_172 (dk_at dksX0_addGoblin_0 17 rfl rfl)
theorem dX0_addGoblin_18 : decode cX0_addGoblin 18 = .ok (.iconst 0, 1) := dk_3 (dk_at dksX0_addGoblin_0 18 rfl rfl)
theorem dX0_addGoblin_19 : decode cX0_addGoblin 19 = .ok (.ireturn, 1) := dk_172 (dk_at dksX0_addGoblin_0 19 rfl rfl)
abbrev cX0_addBroom : ByteArray := method_4_code
def yX0_addBroom : MethodName := ⟨RX0, "addBroom", "(LGoblinHousehold;I[J)I"⟩
def dkwX0_addBroom_0 : List UInt8 := [44, 3, 42, 27, 182, 0, 17, 133, 80, 167, 0, 9, 78, 4, 172, 78, 5, 172, 3, 172]
abbrev dktX0_addBroom_0 : List UInt8 := dkwX0_addBroom_0 ++ []
theorem dksX0_addBroom_0 : cX0_addBroom.data.toList.drop 0 = dktX0_addBroom_0 := by decide +kernel
theorem dX0_addBroom_0 : decode cX0_addBroom 0 = .ok (.aload_n 2, 1) := dk_44 (dk_at dksX0_addBroom_0 0 rfl rfl)
theorem dX0_addBroom_1 : decode cX0_addBroom 1 = .ok (.iconst 0, 1) := dk_3 (dk_at dksX0_addBroom_0 1 rfl rfl)
theorem dX0_addBroom_2 : decode cX0_addBroom 2 = .ok (.aload_n 0, 1) := dk_42 (dk_at dksX0_addBroom_0 2 rfl rfl)
theorem dX0_addBroom_3 : decode cX0_addBroom 3 = .ok (.iload_n 1, 1) := dk_27 (dk_at dksX0_addBroom_0 3 rfl rfl)
theorem dX0_addBroom_4 : decode cX0_addBroom 4 = .ok (.invokevirtual 17, 3) := dk_182 0 17 (dk_at dksX0_addBroom_0 4 rfl rfl)
theorem dX0_addBroom_7 : decode cX0_addBroom 7 = .ok (.i2l, 1) := dk_133 (dk_at dksX0_addBroom_0 7 rfl rfl)
theorem dX0_addBroom_8 : decode cX0_addBroom 8 = .ok (.lastore, 1) := dk_80 (dk_at dksX0_addBroom_0 8 rfl rfl)
theorem dX0_addBroom_9 : decode cX0_addBroom 9 = .ok (.goto 9, 3) := dk_167 0 9 (dk_at dksX0_addBroom_0 9 rfl rfl)
theorem dX0_addBroom_12 : decode cX0_addBroom 12 = .ok (.astore_n 3, 1) := dk_78 (dk_at dksX0_addBroom_0 12 rfl rfl)
theorem dX0_addBroom_13 : decode cX0_addBroom 13 = .ok (.iconst 1, 1) := dk_4 (dk_at dksX0_addBroom_0 13 rfl rfl)
theorem dX0_addBroom_14 : decode cX0_addBroom 14 = .ok (.ireturn, 1) := dk_172 (dk_at dksX0_addBroom_0 14 rfl rfl)
theorem dX0_addBroom_15 : decode cX0_addBroom 15 = .ok (.astore_n 3, 1) := dk_78 (dk_at dksX0_addBroom_0 15 rfl rfl)
theorem dX0_addBroom_16 : decode cX0_addBroom 16 = .ok (.iconst 2, 1) := dk_5 (dk_at dksX0_addBroom_0 16 rfl rfl)
theorem dX0_addBroom_17 : decode cX0_addBroom 17 = .ok (.ireturn, 1) := dk_172 (dk_at dksX0_addBroom_0 17 rfl rfl)
theorem dX0_addBroom_18 : decode cX0_addBroom 18 = .ok (.iconst 0, 1) := dk_3 (dk_at dksX0_addBroom_0 18 rfl rfl)
theorem dX0_addBroom_19 : decode cX0_addBroom 19 = .ok (.ireturn, 1) := dk_172 (dk_at dksX0_addBroom_0 19 rfl rfl)
abbrev cX0_banishBroom : ByteArray := method_5_code
def yX0_banishBroom : MethodName := ⟨RX0, "banishBroom", "(LGoblinHousehold;I[J)I"⟩
def dkwX0_banishBroom_0 : List UInt8 := [44, 3, 42, 27, 182, 0, 20, 133, 80, 167, 0, 9, 78, 4, 172, 78, 5, 172, 3, 172]
abbrev dktX0_banishBroom_0 : List UInt8 := dkwX0_banishBroom_0 ++ []
theorem dksX0_banishBroom_0 : cX0_banishBroom.data.toList.drop 0 = dktX0_banishBroom_0 := by decide +kernel
theorem dX0_banishBroom_0 : decode cX0_banishBroom 0 = .ok (.aload_n 2, 1) := dk_44 (dk_at dksX0_banishBroom_0 0 rfl rfl)
theorem dX0_banishBroom_1 : decode cX0_banishBroom 1 = .ok (.iconst 0, 1) := dk_3 (dk_at dksX0_banishBroom_0 1 rfl rfl)
theorem dX0_banishBroom_2 : decode cX0_banishBroom 2 = .ok (.aload_n 0, 1) := dk_42 (dk_at dksX0_banishBroom_0 2 rfl rfl)
theorem dX0_banishBroom_3 : decode cX0_banishBroom 3 = .ok (.iload_n 1, 1) := dk_27 (dk_at dksX0_banishBroom_0 3 rfl rfl)
theorem dX0_banishBroom_4 : decode cX0_banishBroom 4 = .ok (.invokevirtual 20, 3) := dk_182 0 20 (dk_at dksX0_banishBroom_0 4 rfl rfl)
theorem dX0_banishBroom_7 : decode cX0_banishBroom 7 = .ok (.i2l, 1) := dk_133 (dk_at dksX0_banishBroom_0 7 rfl rfl)
theorem dX0_banishBroom_8 : decode cX0_banishBroom 8 = .ok (.lastore, 1) := dk_80 (dk_at dksX0_banishBroom_0 8 rfl rfl)
theorem dX0_banishBroom_9 : decode cX0_banishBroom 9 = .ok (.goto 9, 3) := dk_167 0 9 (dk_at dksX0_banishBroom_0 9 rfl rfl)
theorem dX0_banishBroom_12 : decode cX0_banishBroom 12 = .ok (.astore_n 3, 1) := dk_78 (dk_at dksX0_banishBroom_0 12 rfl rfl)
theorem dX0_banishBroom_13 : decode cX0_banishBroom 13 = .ok (.iconst 1, 1) := dk_4 (dk_at dksX0_banishBroom_0 13 rfl rfl)
theorem dX0_banishBroom_14 : decode cX0_banishBroom 14 = .ok (.ireturn, 1) := dk_172 (dk_at dksX0_banishBroom_0 14 rfl rfl)
theorem dX0_banishBroom_15 : decode cX0_banishBroom 15 = .ok (.astore_n 3, 1) := dk_78 (dk_at dksX0_banishBroom_0 15 rfl rfl)
theorem dX0_banishBroom_16 : decode cX0_banishBroom 16 = .ok (.iconst 2, 1) := dk_5 (dk_at dksX0_banishBroom_0 16 rfl rfl)
theorem dX0_banishBroom_17 : decode cX0_banishBroom 17 = .ok (.ireturn, 1) := dk_172 (dk_at dksX0_banishBroom_0 17 rfl rfl)
theorem dX0_banishBroom_18 : decode cX0_banishBroom 18 = .ok (.iconst 0, 1) := dk_3 (dk_at dksX0_banishBroom_0 18 rfl rfl)
theorem dX0_banishBroom_19 : decode cX0_banishBroom 19 = .ok (.ireturn, 1) := dk_172 (dk_at dksX0_banishBroom_0 19 rfl rfl)
abbrev cX0_recallBroom : ByteArray := method_6_code
def yX0_recallBroom : MethodName := ⟨RX0, "recallBroom", "(LGoblinHousehold;I[J)I"⟩
def dkwX0_recallBroom_0 : List UInt8 := [44, 3, 42, 27, 182, 0, 25, 133, 80, 167, 0, 9, 78, 4, 172, 78, 5, 172, 3, 172]
abbrev dktX0_recallBroom_0 : List UInt8 := dkwX0_recallBroom_0 ++ []
theorem dksX0_recallBroom_0 : cX0_recallBroom.data.toList.drop 0 = dktX0_recallBroom_0 := by decide +kernel
theorem dX0_recallBroom_0 : decode cX0_recallBroom 0 = .ok (.aload_n 2, 1) := dk_44 (dk_at dksX0_recallBroom_0 0 rfl rfl)
theorem dX0_recallBroom_1 : decode cX0_recallBroom 1 = .ok (.iconst 0, 1) := dk_3 (dk_at dksX0_recallBroom_0 1 rfl rfl)
theorem dX0_recallBroom_2 : decode cX0_recallBroom 2 = .ok (.aload_n 0, 1) := dk_42 (dk_at dksX0_recallBroom_0 2 rfl rfl)
theorem dX0_recallBroom_3 : decode cX0_recallBroom 3 = .ok (.iload_n 1, 1) := dk_27 (dk_at dksX0_recallBroom_0 3 rfl rfl)
theorem dX0_recallBroom_4 : decode cX0_recallBroom 4 = .ok (.invokevirtual 25, 3) := dk_182 0 25 (dk_at dksX0_recallBroom_0 4 rfl rfl)
theorem dX0_recallBroom_7 : decode cX0_recallBroom 7 = .ok (.i2l, 1) := dk_133 (dk_at dksX0_recallBroom_0 7 rfl rfl)
theorem dX0_recallBroom_8 : decode cX0_recallBroom 8 = .ok (.lastore, 1) := dk_80 (dk_at dksX0_recallBroom_0 8 rfl rfl)
theorem dX0_recallBroom_9 : decode cX0_recallBroom 9 = .ok (.goto 9, 3) := dk_167 0 9 (dk_at dksX0_recallBroom_0 9 rfl rfl)
theorem dX0_recallBroom_12 : decode cX0_recallBroom 12 = .ok (.astore_n 3, 1) := dk_78 (dk_at dksX0_recallBroom_0 12 rfl rfl)
theorem dX0_recallBroom_13 : decode cX0_recallBroom 13 = .ok (.iconst 1, 1) := dk_4 (dk_at dksX0_recallBroom_0 13 rfl rfl)
theorem dX0_recallBroom_14 : decode cX0_recallBroom 14 = .ok (.ireturn, 1) := dk_172 (dk_at dksX0_recallBroom_0 14 rfl rfl)
theorem dX0_recallBroom_15 : decode cX0_recallBroom 15 = .ok (.astore_n 3, 1) := dk_78 (dk_at dksX0_recallBroom_0 15 rfl rfl)
theorem dX0_recallBroom_16 : decode cX0_recallBroom 16 = .ok (.iconst 2, 1) := dk_5 (dk_at dksX0_recallBroom_0 16 rfl rfl)
theorem dX0_recallBroom_17 : decode cX0_recallBroom 17 = .ok (.ireturn, 1) := dk_172 (dk_at dksX0_recallBroom_0 17 rfl rfl)
theorem dX0_recallBroom_18 : decode cX0_recallBroom 18 = .ok (.iconst 0, 1) := dk_3 (dk_at dksX0_recallBroom_0 18 rfl rfl)
theorem dX0_recallBroom_19 : decode cX0_recallBroom 19 = .ok (.ireturn, 1) := dk_172 (dk_at dksX0_recallBroom_0 19 rfl rfl)
abbrev cX0_hire : ByteArray := method_7_code
def yX0_hire : MethodName := ⟨RX0, "hire", "(LGoblinHousehold;IIII[J)I"⟩
def dkwX0_hire_1 : List UInt8 := [172, 58, 6, 6, 172, 58, 6, 7, 172, 3, 172]
abbrev dktX0_hire_1 : List UInt8 := dkwX0_hire_1 ++ []
def dkwX0_hire_0 : List UInt8 := [25, 5, 3, 42, 27, 28, 29, 21, 4, 182, 0, 28, 133, 80, 167, 0, 19, 58, 6, 4, 172, 58, 6, 5]
abbrev dktX0_hire_0 : List UInt8 := dkwX0_hire_0 ++ dktX0_hire_1
theorem dksX0_hire_0 : cX0_hire.data.toList.drop 0 = dktX0_hire_0 := by decide +kernel
theorem dksX0_hire_1 : cX0_hire.data.toList.drop 24 = dktX0_hire_1 := dk_seg dksX0_hire_0 24 rfl rfl
theorem dX0_hire_0 : decode cX0_hire 0 = .ok (.aload 5, 2) := dk_25 5 (dk_at dksX0_hire_0 0 rfl rfl)
theorem dX0_hire_2 : decode cX0_hire 2 = .ok (.iconst 0, 1) := dk_3 (dk_at dksX0_hire_0 2 rfl rfl)
theorem dX0_hire_3 : decode cX0_hire 3 = .ok (.aload_n 0, 1) := dk_42 (dk_at dksX0_hire_0 3 rfl rfl)
theorem dX0_hire_4 : decode cX0_hire 4 = .ok (.iload_n 1, 1) := dk_27 (dk_at dksX0_hire_0 4 rfl rfl)
theorem dX0_hire_5 : decode cX0_hire 5 = .ok (.iload_n 2, 1) := dk_28 (dk_at dksX0_hire_0 5 rfl rfl)
theorem dX0_hire_6 : decode cX0_hire 6 = .ok (.iload_n 3, 1) := dk_29 (dk_at dksX0_hire_0 6 rfl rfl)
theorem dX0_hire_7 : decode cX0_hire 7 = .ok (.iload 4, 2) := dk_21 4 (dk_at dksX0_hire_0 7 rfl rfl)
theorem dX0_hire_9 : decode cX0_hire 9 = .ok (.invokevirtual 28, 3) := dk_182 0 28 (dk_at dksX0_hire_0 9 rfl rfl)
theorem dX0_hire_12 : decode cX0_hire 12 = .ok (.i2l, 1) := dk_133 (dk_at dksX0_hire_0 12 rfl rfl)
theorem dX0_hire_13 : decode cX0_hire 13 = .ok (.lastore, 1) := dk_80 (dk_at dksX0_hire_0 13 rfl rfl)
theorem dX0_hire_14 : decode cX0_hire 14 = .ok (.goto 19, 3) := dk_167 0 19 (dk_at dksX0_hire_0 14 rfl rfl)
theorem dX0_hire_17 : decode cX0_hire 17 = .ok (.astore 6, 2) := dk_58 6 (dk_at dksX0_hire_0 17 rfl rfl)
theorem dX0_hire_19 : decode cX0_hire 19 = .ok (.iconst 1, 1) := dk_4 (dk_at dksX0_hire_0 19 rfl rfl)
theorem dX0_hire_20 : decode cX0_hire 20 = .ok (.ireturn, 1) := dk_172 (dk_at dksX0_hire_0 20 rfl rfl)
theorem dX0_hire_21 : decode cX0_hire 21 = .ok (.astore 6, 2) := dk_58 6 (dk_at dksX0_hire_0 21 rfl rfl)
theorem dX0_hire_23 : decode cX0_hire 23 = .ok (.iconst 2, 1) := dk_5 (dk_at dksX0_hire_0 23 rfl rfl)
theorem dX0_hire_24 : decode cX0_hire 24 = .ok (.ireturn, 1) := dk_172 (dk_at dksX0_hire_1 0 rfl rfl)
theorem dX0_hire_25 : decode cX0_hire 25 = .ok (.astore 6, 2) := dk_58 6 (dk_at dksX0_hire_1 1 rfl rfl)
theorem dX0_hire_27 : decode cX0_hire 27 = .ok (.iconst 3, 1) := dk_6 (dk_at dksX0_hire_1 3 rfl rfl)
theorem dX0_hire_28 : decode cX0_hire 28 = .ok (.ireturn, 1) := dk_172 (dk_at dksX0_hire_1 4 rfl rfl)
theorem dX0_hire_29 : decode cX0_hire 29 = .ok (.astore 6, 2) := dk_58 6 (dk_at dksX0_hire_1 5 rfl rfl)
theorem dX0_hire_31 : decode cX0_hire 31 = .ok (.iconst 4, 1) := dk_7 (dk_at dksX0_hire_1 7 rfl rfl)
theorem dX0_hire_32 : decode cX0_hire 32 = .ok (.ireturn, 1) := dk_172 (dk_at dksX0_hire_1 8 rfl rfl)
theorem dX0_hire_33 : decode cX0_hire 33 = .ok (.iconst 0, 1) := dk_3 (dk_at dksX0_hire_1 9 rfl rfl)
theorem dX0_hire_34 : decode cX0_hire 34 = .ok (.ireturn, 1) := dk_172 (dk_at dksX0_hire_1 10 rfl rfl)
abbrev cX0_cancelContract : ByteArray := method_8_code
def yX0_cancelContract : MethodName := ⟨RX0, "cancelContract", "(LGoblinHousehold;I[J)I"⟩
def dkwX0_cancelContract_0 : List UInt8 := [44, 3, 42, 27, 182, 0, 34, 133, 80, 167, 0, 6, 78, 4, 172, 3, 172]
abbrev dktX0_cancelContract_0 : List UInt8 := dkwX0_cancelContract_0 ++ []
theorem dksX0_cancelContract_0 : cX0_cancelContract.data.toList.drop 0 = dktX0_cancelContract_0 := by decide +kernel
theorem dX0_cancelContract_0 : decode cX0_cancelContract 0 = .ok (.aload_n 2, 1) := dk_44 (dk_at dksX0_cancelContract_0 0 rfl rfl)
theorem dX0_cancelContract_1 : decode cX0_cancelContract 1 = .ok (.iconst 0, 1) := dk_3 (dk_at dksX0_cancelContract_0 1 rfl rfl)
theorem dX0_cancelContract_2 : decode cX0_cancelContract 2 = .ok (.aload_n 0, 1) := dk_42 (dk_at dksX0_cancelContract_0 2 rfl rfl)
theorem dX0_cancelContract_3 : decode cX0_cancelContract 3 = .ok (.iload_n 1, 1) := dk_27 (dk_at dksX0_cancelContract_0 3 rfl rfl)
theorem dX0_cancelContract_4 : decode cX0_cancelContract 4 = .ok (.invokevirtual 34, 3) := dk_182 0 34 (dk_at dksX0_cancelContract_0 4 rfl rfl)
theorem dX0_cancelContract_7 : decode cX0_cancelContract 7 = .ok (.i2l, 1) := dk_133 (dk_at dksX0_cancelContract_0 7 rfl rfl)
theorem dX0_cancelContract_8 : decode cX0_cancelContract 8 = .ok (.lastore, 1) := dk_80 (dk_at dksX0_cancelContract_0 8 rfl rfl)
theorem dX0_cancelContract_9 : decode cX0_cancelContract 9 = .ok (.goto 6, 3) := dk_167 0 6 (dk_at dksX0_cancelContract_0 9 rfl rfl)
theorem dX0_cancelContract_12 : decode cX0_cancelContract 12 = .ok (.astore_n 3, 1) := dk_78 (dk_at dksX0_cancelContract_0 12 rfl rfl)
theorem dX0_cancelContract_13 : decode cX0_cancelContract 13 = .ok (.iconst 1, 1) := dk_4 (dk_at dksX0_cancelContract_0 13 rfl rfl)
theorem dX0_cancelContract_14 : decode cX0_cancelContract 14 = .ok (.ireturn, 1) := dk_172 (dk_at dksX0_cancelContract_0 14 rfl rfl)
theorem dX0_cancelContract_15 : decode cX0_cancelContract 15 = .ok (.iconst 0, 1) := dk_3 (dk_at dksX0_cancelContract_0 15 rfl rfl)
theorem dX0_cancelContract_16 : decode cX0_cancelContract 16 = .ok (.ireturn, 1) := dk_172 (dk_at dksX0_cancelContract_0 16 rfl rfl)
abbrev cX0_rest : ByteArray := method_9_code
def yX0_rest : MethodName := ⟨RX0, "rest", "(LGoblinHousehold;I[J)I"⟩
def dkwX0_rest_0 : List UInt8 := [44, 3, 42, 27, 182, 0, 39, 133, 80, 167, 0, 9, 78, 4, 172, 78, 5, 172, 3, 172]
abbrev dktX0_rest_0 : List UInt8 := dkwX0_rest_0 ++ []
theorem dksX0_rest_0 : cX0_rest.data.toList.drop 0 = dktX0_rest_0 := by decide +kernel
theorem dX0_rest_0 : decode cX0_rest 0 = .ok (.aload_n 2, 1) := dk_44 (dk_at dksX0_rest_0 0 rfl rfl)
theorem dX0_rest_1 : decode cX0_rest 1 = .ok (.iconst 0, 1) := dk_3 (dk_at dksX0_rest_0 1 rfl rfl)
theorem dX0_rest_2 : decode cX0_rest 2 = .ok (.aload_n 0, 1) := dk_42 (dk_at dksX0_rest_0 2 rfl rfl)
theorem dX0_rest_3 : decode cX0_rest 3 = .ok (.iload_n 1, 1) := dk_27 (dk_at dksX0_rest_0 3 rfl rfl)
theorem dX0_rest_4 : decode cX0_rest 4 = .ok (.invokevirtual 39, 3) := dk_182 0 39 (dk_at dksX0_rest_0 4 rfl rfl)
theorem dX0_rest_7 : decode cX0_rest 7 = .ok (.i2l, 1) := dk_133 (dk_at dksX0_rest_0 7 rfl rfl)
theorem dX0_rest_8 : decode cX0_rest 8 = .ok (.lastore, 1) := dk_80 (dk_at dksX0_rest_0 8 rfl rfl)
theorem dX0_rest_9 : decode cX0_rest 9 = .ok (.goto 9, 3) := dk_167 0 9 (dk_at dksX0_rest_0 9 rfl rfl)
theorem dX0_rest_12 : decode cX0_rest 12 = .ok (.astore_n 3, 1) := dk_78 (dk_at dksX0_rest_0 12 rfl rfl)
theorem dX0_rest_13 : decode cX0_rest 13 = .ok (.iconst 1, 1) := dk_4 (dk_at dksX0_rest_0 13 rfl rfl)
theorem dX0_rest_14 : decode cX0_rest 14 = .ok (.ireturn, 1) := dk_172 (dk_at dksX0_rest_0 14 rfl rfl)
theorem dX0_rest_15 : decode cX0_rest 15 = .ok (.astore_n 3, 1) := dk_78 (dk_at dksX0_rest_0 15 rfl rfl)
theorem dX0_rest_16 : decode cX0_rest 16 = .ok (.iconst 2, 1) := dk_5 (dk_at dksX0_rest_0 16 rfl rfl)
theorem dX0_rest_17 : decode cX0_rest 17 = .ok (.ireturn, 1) := dk_172 (dk_at dksX0_rest_0 17 rfl rfl)
theorem dX0_rest_18 : decode cX0_rest 18 = .ok (.iconst 0, 1) := dk_3 (dk_at dksX0_rest_0 18 rfl rfl)
theorem dX0_rest_19 : decode cX0_rest 19 = .ok (.ireturn, 1) := dk_172 (dk_at dksX0_rest_0 19 rfl rfl)
abbrev cX0_wake : ByteArray := method_10_code
def yX0_wake : MethodName := ⟨RX0, "wake", "(LGoblinHousehold;I[J)I"⟩
def dkwX0_wake_0 : List UInt8 := [44, 3, 42, 27, 182, 0, 42, 133, 80, 167, 0, 9, 78, 4, 172, 78, 5, 172, 3, 172]
abbrev dktX0_wake_0 : List UInt8 := dkwX0_wake_0 ++ []
theorem dksX0_wake_0 : cX0_wake.data.toList.drop 0 = dktX0_wake_0 := by decide +kernel
theorem dX0_wake_0 : decode cX0_wake 0 = .ok (.aload_n 2, 1) := dk_44 (dk_at dksX0_wake_0 0 rfl rfl)
theorem dX0_wake_1 : decode cX0_wake 1 = .ok (.iconst 0, 1) := dk_3 (dk_at dksX0_wake_0 1 rfl rfl)
theorem dX0_wake_2 : decode cX0_wake 2 = .ok (.aload_n 0, 1) := dk_42 (dk_at dksX0_wake_0 2 rfl rfl)
theorem dX0_wake_3 : decode cX0_wake 3 = .ok (.iload_n 1, 1) := dk_27 (dk_at dksX0_wake_0 3 rfl rfl)
theorem dX0_wake_4 : decode cX0_wake 4 = .ok (.invokevirtual 42, 3) := dk_182 0 42 (dk_at dksX0_wake_0 4 rfl rfl)
theorem dX0_wake_7 : decode cX0_wake 7 = .ok (.i2l, 1) := dk_133 (dk_at dksX0_wake_0 7 rfl rfl)
theorem dX0_wake_8 : decode cX0_wake 8 = .ok (.lastore, 1) := dk_80 (dk_at dksX0_wake_0 8 rfl rfl)
theorem dX0_wake_9 : decode cX0_wake 9 = .ok (.goto 9, 3) := dk_167 0 9 (dk_at dksX0_wake_0 9 rfl rfl)
theorem dX0_wake_12 : decode cX0_wake 12 = .ok (.astore_n 3, 1) := dk_78 (dk_at dksX0_wake_0 12 rfl rfl)
theorem dX0_wake_13 : decode cX0_wake 13 = .ok (.iconst 1, 1) := dk_4 (dk_at dksX0_wake_0 13 rfl rfl)
theorem dX0_wake_14 : decode cX0_wake 14 = .ok (.ireturn, 1) := dk_172 (dk_at dksX0_wake_0 14 rfl rfl)
theorem dX0_wake_15 : decode cX0_wake 15 = .ok (.astore_n 3, 1) := dk_78 (dk_at dksX0_wake_0 15 rfl rfl)
theorem dX0_wake_16 : decode cX0_wake 16 = .ok (.iconst 2, 1) := dk_5 (dk_at dksX0_wake_0 16 rfl rfl)
theorem dX0_wake_17 : decode cX0_wake 17 = .ok (.ireturn, 1) := dk_172 (dk_at dksX0_wake_0 17 rfl rfl)
theorem dX0_wake_18 : decode cX0_wake 18 = .ok (.iconst 0, 1) := dk_3 (dk_at dksX0_wake_0 18 rfl rfl)
theorem dX0_wake_19 : decode cX0_wake 19 = .ok (.ireturn, 1) := dk_172 (dk_at dksX0_wake_0 19 rfl rfl)
abbrev cX0_lend : ByteArray := method_11_code
def yX0_lend : MethodName := ⟨RX0, "lend", "(LGoblinHousehold;II[J)I"⟩
def dkwX0_lend_1 : List UInt8 := [172, 3, 172]
abbrev dktX0_lend_1 : List UInt8 := dkwX0_lend_1 ++ []
def dkwX0_lend_0 : List UInt8 := [45, 3, 42, 27, 28, 182, 0, 45, 133, 80, 167, 0, 15, 58, 4, 4, 172, 58, 4, 5, 172, 58, 4, 6]
abbrev dktX0_lend_0 : List UInt8 := dkwX0_lend_0 ++ dktX0_lend_1
theorem dksX0_lend_0 : cX0_lend.data.toList.drop 0 = dktX0_lend_0 := by decide +kernel
theorem dksX0_lend_1 : cX0_lend.data.toList.drop 24 = dktX0_lend_1 := dk_seg dksX0_lend_0 24 rfl rfl
theorem dX0_lend_0 : decode cX0_lend 0 = .ok (.aload_n 3, 1) := dk_45 (dk_at dksX0_lend_0 0 rfl rfl)
theorem dX0_lend_1 : decode cX0_lend 1 = .ok (.iconst 0, 1) := dk_3 (dk_at dksX0_lend_0 1 rfl rfl)
theorem dX0_lend_2 : decode cX0_lend 2 = .ok (.aload_n 0, 1) := dk_42 (dk_at dksX0_lend_0 2 rfl rfl)
theorem dX0_lend_3 : decode cX0_lend 3 = .ok (.iload_n 1, 1) := dk_27 (dk_at dksX0_lend_0 3 rfl rfl)
theorem dX0_lend_4 : decode cX0_lend 4 = .ok (.iload_n 2, 1) := dk_28 (dk_at dksX0_lend_0 4 rfl rfl)
theorem dX0_lend_5 : decode cX0_lend 5 = .ok (.invokevirtual 45, 3) := dk_182 0 45 (dk_at dksX0_lend_0 5 rfl rfl)
theorem dX0_lend_8 : decode cX0_lend 8 = .ok (.i2l, 1) := dk_133 (dk_at dksX0_lend_0 8 rfl rfl)
theorem dX0_lend_9 : decode cX0_lend 9 = .ok (.lastore, 1) := dk_80 (dk_at dksX0_lend_0 9 rfl rfl)
theorem dX0_lend_10 : decode cX0_lend 10 = .ok (.goto 15, 3) := dk_167 0 15 (dk_at dksX0_lend_0 10 rfl rfl)
theorem dX0_lend_13 : decode cX0_lend 13 = .ok (.astore 4, 2) := dk_58 4 (dk_at dksX0_lend_0 13 rfl rfl)
theorem dX0_lend_15 : decode cX0_lend 15 = .ok (.iconst 1, 1) := dk_4 (dk_at dksX0_lend_0 15 rfl rfl)
theorem dX0_lend_16 : decode cX0_lend 16 = .ok (.ireturn, 1) := dk_172 (dk_at dksX0_lend_0 16 rfl rfl)
theorem dX0_lend_17 : decode cX0_lend 17 = .ok (.astore 4, 2) := dk_58 4 (dk_at dksX0_lend_0 17 rfl rfl)
theorem dX0_lend_19 : decode cX0_lend 19 = .ok (.iconst 2, 1) := dk_5 (dk_at dksX0_lend_0 19 rfl rfl)
theorem dX0_lend_20 : decode cX0_lend 20 = .ok (.ireturn, 1) := dk_172 (dk_at dksX0_lend_0 20 rfl rfl)
theorem dX0_lend_21 : decode cX0_lend 21 = .ok (.astore 4, 2) := dk_58 4 (dk_at dksX0_lend_0 21 rfl rfl)
theorem dX0_lend_23 : decode cX0_lend 23 = .ok (.iconst 3, 1) := dk_6 (dk_at dksX0_lend_0 23 rfl rfl)
theorem dX0_lend_24 : decode cX0_lend 24 = .ok (.ireturn, 1) := dk_172 (dk_at dksX0_lend_1 0 rfl rfl)
theorem dX0_lend_25 : decode cX0_lend 25 = .ok (.iconst 0, 1) := dk_3 (dk_at dksX0_lend_1 1 rfl rfl)
theorem dX0_lend_26 : decode cX0_lend 26 = .ok (.ireturn, 1) := dk_172 (dk_at dksX0_lend_1 2 rfl rfl)
abbrev cX0_fund : ByteArray := method_12_code
def yX0_fund : MethodName := ⟨RX0, "fund", "(LGoblinHousehold;I[J)I"⟩
def dkwX0_fund_0 : List UInt8 := [44, 3, 42, 27, 182, 0, 49, 133, 80, 167, 0, 6, 78, 4, 172, 3, 172]
abbrev dktX0_fund_0 : List UInt8 := dkwX0_fund_0 ++ []
theorem dksX0_fund_0 : cX0_fund.data.toList.drop 0 = dktX0_fund_0 := by decide +kernel
theorem dX0_fund_0 : decode cX0_fund 0 = .ok (.aload_n 2, 1) := dk_44 (dk_at dksX0_fund_0 0 rfl rfl)
theorem dX0_fund_1 : decode cX0_fund 1 = .ok (.iconst 0, 1) := dk_3 (dk_at dksX0_fund_0 1 rfl rfl)
theorem dX0_fund_2 : decode cX0_fund 2 = .ok (.aload_n 0, 1) := dk_42 (dk_at dksX0_fund_0 2 rfl rfl)
theorem dX0_fund_3 : decode cX0_fund 3 = .ok (.iload_n 1, 1) := dk_27 (dk_at dksX0_fund_0 3 rfl rfl)
theorem dX0_fund_4 : decode cX0_fund 4 = .ok (.invokevirtual 49, 3) := dk_182 0 49 (dk_at dksX0_fund_0 4 rfl rfl)
theorem dX0_fund_7 : decode cX0_fund 7 = .ok (.i2l, 1) := dk_133 (dk_at dksX0_fund_0 7 rfl rfl)
theorem dX0_fund_8 : decode cX0_fund 8 = .ok (.lastore, 1) := dk_80 (dk_at dksX0_fund_0 8 rfl rfl)
theorem dX0_fund_9 : decode cX0_fund 9 = .ok (.goto 6, 3) := dk_167 0 6 (dk_at dksX0_fund_0 9 rfl rfl)
theorem dX0_fund_12 : decode cX0_fund 12 = .ok (.astore_n 3, 1) := dk_78 (dk_at dksX0_fund_0 12 rfl rfl)
theorem dX0_fund_13 : decode cX0_fund 13 = .ok (.iconst 1, 1) := dk_4 (dk_at dksX0_fund_0 13 rfl rfl)
theorem dX0_fund_14 : decode cX0_fund 14 = .ok (.ireturn, 1) := dk_172 (dk_at dksX0_fund_0 14 rfl rfl)
theorem dX0_fund_15 : decode cX0_fund 15 = .ok (.iconst 0, 1) := dk_3 (dk_at dksX0_fund_0 15 rfl rfl)
theorem dX0_fund_16 : decode cX0_fund 16 = .ok (.ireturn, 1) := dk_172 (dk_at dksX0_fund_0 16 rfl rfl)
abbrev cX0_spend : ByteArray := method_13_code
def yX0_spend : MethodName := ⟨RX0, "spend", "(LGoblinHousehold;I[J)I"⟩
def dkwX0_spend_0 : List UInt8 := [44, 3, 42, 27, 182, 0, 52, 133, 80, 167, 0, 9, 78, 4, 172, 78, 5, 172, 3, 172]
abbrev dktX0_spend_0 : List UInt8 := dkwX0_spend_0 ++ []
theorem dksX0_spend_0 : cX0_spend.data.toList.drop 0 = dktX0_spend_0 := by decide +kernel
theorem dX0_spend_0 : decode cX0_spend 0 = .ok (.aload_n 2, 1) := dk_44 (dk_at dksX0_spend_0 0 rfl rfl)
theorem dX0_spend_1 : decode cX0_spend 1 = .ok (.iconst 0, 1) := dk_3 (dk_at dksX0_spend_0 1 rfl rfl)
theorem dX0_spend_2 : decode cX0_spend 2 = .ok (.aload_n 0, 1) := dk_42 (dk_at dksX0_spend_0 2 rfl rfl)
theorem dX0_spend_3 : decode cX0_spend 3 = .ok (.iload_n 1, 1) := dk_27 (dk_at dksX0_spend_0 3 rfl rfl)
theorem dX0_spend_4 : decode cX0_spend 4 = .ok (.invokevirtual 52, 3) := dk_182 0 52 (dk_at dksX0_spend_0 4 rfl rfl)
theorem dX0_spend_7 : decode cX0_spend 7 = .ok (.i2l, 1) := dk_133 (dk_at dksX0_spend_0 7 rfl rfl)
theorem dX0_spend_8 : decode cX0_spend 8 = .ok (.lastore, 1) := dk_80 (dk_at dksX0_spend_0 8 rfl rfl)
theorem dX0_spend_9 : decode cX0_spend 9 = .ok (.goto 9, 3) := dk_167 0 9 (dk_at dksX0_spend_0 9 rfl rfl)
theorem dX0_spend_12 : decode cX0_spend 12 = .ok (.astore_n 3, 1) := dk_78 (dk_at dksX0_spend_0 12 rfl rfl)
theorem dX0_spend_13 : decode cX0_spend 13 = .ok (.iconst 1, 1) := dk_4 (dk_at dksX0_spend_0 13 rfl rfl)
theorem dX0_spend_14 : decode cX0_spend 14 = .ok (.ireturn, 1) := dk_172 (dk_at dksX0_spend_0 14 rfl rfl)
theorem dX0_spend_15 : decode cX0_spend 15 = .ok (.astore_n 3, 1) := dk_78 (dk_at dksX0_spend_0 15 rfl rfl)
theorem dX0_spend_16 : decode cX0_spend 16 = .ok (.iconst 2, 1) := dk_5 (dk_at dksX0_spend_0 16 rfl rfl)
theorem dX0_spend_17 : decode cX0_spend 17 = .ok (.ireturn, 1) := dk_172 (dk_at dksX0_spend_0 17 rfl rfl)
theorem dX0_spend_18 : decode cX0_spend 18 = .ok (.iconst 0, 1) := dk_3 (dk_at dksX0_spend_0 18 rfl rfl)
theorem dX0_spend_19 : decode cX0_spend 19 = .ok (.ireturn, 1) := dk_172 (dk_at dksX0_spend_0 19 rfl rfl)
abbrev cX0_passNights : ByteArray := method_14_code
def yX0_passNights : MethodName := ⟨RX0, "passNights", "(LGoblinHousehold;I[J)I"⟩
def dkwX0_passNights_0 : List UInt8 := [44, 3, 42, 27, 182, 0, 55, 133, 80, 167, 0, 6, 78, 4, 172, 3, 172]
abbrev dktX0_passNights_0 : List UInt8 := dkwX0_passNights_0 ++ []
theorem dksX0_passNights_0 : cX0_passNights.data.toList.drop 0 = dktX0_passNights_0 := by decide +kernel
theorem dX0_passNights_0 : decode cX0_passNights 0 = .ok (.aload_n 2, 1) := dk_44 (dk_at dksX0_passNights_0 0 rfl rfl)
theorem dX0_passNights_1 : decode cX0_passNights 1 = .ok (.iconst 0, 1) := dk_3 (dk_at dksX0_passNights_0 1 rfl rfl)
theorem dX0_passNights_2 : decode cX0_passNights 2 = .ok (.aload_n 0, 1) := dk_42 (dk_at dksX0_passNights_0 2 rfl rfl)
theorem dX0_passNights_3 : decode cX0_passNights 3 = .ok (.iload_n 1, 1) := dk_27 (dk_at dksX0_passNights_0 3 rfl rfl)
theorem dX0_passNights_4 : decode cX0_passNights 4 = .ok (.invokevirtual 55, 3) := dk_182 0 55 (dk_at dksX0_passNights_0 4 rfl rfl)
theorem dX0_passNights_7 : decode cX0_passNights 7 = .ok (.i2l, 1) := dk_133 (dk_at dksX0_passNights_0 7 rfl rfl)
theorem dX0_passNights_8 : decode cX0_passNights 8 = .ok (.lastore, 1) := dk_80 (dk_at dksX0_passNights_0 8 rfl rfl)
theorem dX0_passNights_9 : decode cX0_passNights 9 = .ok (.goto 6, 3) := dk_167 0 6 (dk_at dksX0_passNights_0 9 rfl rfl)
theorem dX0_passNights_12 : decode cX0_passNights 12 = .ok (.astore_n 3, 1) := dk_78 (dk_at dksX0_passNights_0 12 rfl rfl)
theorem dX0_passNights_13 : decode cX0_passNights 13 = .ok (.iconst 1, 1) := dk_4 (dk_at dksX0_passNights_0 13 rfl rfl)
theorem dX0_passNights_14 : decode cX0_passNights 14 = .ok (.ireturn, 1) := dk_172 (dk_at dksX0_passNights_0 14 rfl rfl)
theorem dX0_passNights_15 : decode cX0_passNights 15 = .ok (.iconst 0, 1) := dk_3 (dk_at dksX0_passNights_0 15 rfl rfl)
theorem dX0_passNights_16 : decode cX0_passNights 16 = .ok (.ireturn, 1) := dk_172 (dk_at dksX0_passNights_0 16 rfl rfl)
abbrev cX0_dust : ByteArray := method_15_code
def yX0_dust : MethodName := ⟨RX0, "dust", "(LGoblinHousehold;I[J)I"⟩
def dkwX0_dust_0 : List UInt8 := [44, 3, 42, 27, 182, 0, 58, 133, 80, 167, 0, 6, 78, 4, 172, 3, 172]
abbrev dktX0_dust_0 : List UInt8 := dkwX0_dust_0 ++ []
theorem dksX0_dust_0 : cX0_dust.data.toList.drop 0 = dktX0_dust_0 := by decide +kernel
theorem dX0_dust_0 : decode cX0_dust 0 = .ok (.aload_n 2, 1) := dk_44 (dk_at dksX0_dust_0 0 rfl rfl)
theorem dX0_dust_1 : decode cX0_dust 1 = .ok (.iconst 0, 1) := dk_3 (dk_at dksX0_dust_0 1 rfl rfl)
theorem dX0_dust_2 : decode cX0_dust 2 = .ok (.aload_n 0, 1) := dk_42 (dk_at dksX0_dust_0 2 rfl rfl)
theorem dX0_dust_3 : decode cX0_dust 3 = .ok (.iload_n 1, 1) := dk_27 (dk_at dksX0_dust_0 3 rfl rfl)
theorem dX0_dust_4 : decode cX0_dust 4 = .ok (.invokevirtual 58, 3) := dk_182 0 58 (dk_at dksX0_dust_0 4 rfl rfl)
theorem dX0_dust_7 : decode cX0_dust 7 = .ok (.i2l, 1) := dk_133 (dk_at dksX0_dust_0 7 rfl rfl)
theorem dX0_dust_8 : decode cX0_dust 8 = .ok (.lastore, 1) := dk_80 (dk_at dksX0_dust_0 8 rfl rfl)
theorem dX0_dust_9 : decode cX0_dust 9 = .ok (.goto 6, 3) := dk_167 0 6 (dk_at dksX0_dust_0 9 rfl rfl)
theorem dX0_dust_12 : decode cX0_dust 12 = .ok (.astore_n 3, 1) := dk_78 (dk_at dksX0_dust_0 12 rfl rfl)
theorem dX0_dust_13 : decode cX0_dust 13 = .ok (.iconst 1, 1) := dk_4 (dk_at dksX0_dust_0 13 rfl rfl)
theorem dX0_dust_14 : decode cX0_dust 14 = .ok (.ireturn, 1) := dk_172 (dk_at dksX0_dust_0 14 rfl rfl)
theorem dX0_dust_15 : decode cX0_dust 15 = .ok (.iconst 0, 1) := dk_3 (dk_at dksX0_dust_0 15 rfl rfl)
theorem dX0_dust_16 : decode cX0_dust 16 = .ok (.ireturn, 1) := dk_172 (dk_at dksX0_dust_0 16 rfl rfl)
abbrev cX0_roomByDust : ByteArray := method_16_code
def yX0_roomByDust : MethodName := ⟨RX0, "roomByDust", "(LGoblinHousehold;I[J)I"⟩
def dkwX0_roomByDust_0 : List UInt8 := [44, 3, 42, 27, 182, 0, 61, 133, 80, 167, 0, 6, 78, 4, 172, 3, 172]
abbrev dktX0_roomByDust_0 : List UInt8 := dkwX0_roomByDust_0 ++ []
theorem dksX0_roomByDust_0 : cX0_roomByDust.data.toList.drop 0 = dktX0_roomByDust_0 := by decide +kernel
theorem dX0_roomByDust_0 : decode cX0_roomByDust 0 = .ok (.aload_n 2, 1) := dk_44 (dk_at dksX0_roomByDust_0 0 rfl rfl)
theorem dX0_roomByDust_1 : decode cX0_roomByDust 1 = .ok (.iconst 0, 1) := dk_3 (dk_at dksX0_roomByDust_0 1 rfl rfl)
theorem dX0_roomByDust_2 : decode cX0_roomByDust 2 = .ok (.aload_n 0, 1) := dk_42 (dk_at dksX0_roomByDust_0 2 rfl rfl)
theorem dX0_roomByDust_3 : decode cX0_roomByDust 3 = .ok (.iload_n 1, 1) := dk_27 (dk_at dksX0_roomByDust_0 3 rfl rfl)
theorem dX0_roomByDust_4 : decode cX0_roomByDust 4 = .ok (.invokevirtual 61, 3) := dk_182 0 61 (dk_at dksX0_roomByDust_0 4 rfl rfl)
theorem dX0_roomByDust_7 : decode cX0_roomByDust 7 = .ok (.i2l, 1) := dk_133 (dk_at dksX0_roomByDust_0 7 rfl rfl)
theorem dX0_roomByDust_8 : decode cX0_roomByDust 8 = .ok (.lastore, 1) := dk_80 (dk_at dksX0_roomByDust_0 8 rfl rfl)
theorem dX0_roomByDust_9 : decode cX0_roomByDust 9 = .ok (.goto 6, 3) := dk_167 0 6 (dk_at dksX0_roomByDust_0 9 rfl rfl)
theorem dX0_roomByDust_12 : decode cX0_roomByDust 12 = .ok (.astore_n 3, 1) := dk_78 (dk_at dksX0_roomByDust_0 12 rfl rfl)
theorem dX0_roomByDust_13 : decode cX0_roomByDust 13 = .ok (.iconst 1, 1) := dk_4 (dk_at dksX0_roomByDust_0 13 rfl rfl)
theorem dX0_roomByDust_14 : decode cX0_roomByDust 14 = .ok (.ireturn, 1) := dk_172 (dk_at dksX0_roomByDust_0 14 rfl rfl)
theorem dX0_roomByDust_15 : decode cX0_roomByDust 15 = .ok (.iconst 0, 1) := dk_3 (dk_at dksX0_roomByDust_0 15 rfl rfl)
theorem dX0_roomByDust_16 : decode cX0_roomByDust 16 = .ok (.ireturn, 1) := dk_172 (dk_at dksX0_roomByDust_0 16 rfl rfl)
abbrev cX0_power : ByteArray := method_17_code
def yX0_power : MethodName := ⟨RX0, "power", "(LGoblinHousehold;I[J)I"⟩
def dkwX0_power_0 : List UInt8 := [44, 3, 42, 27, 182, 0, 64, 133, 80, 167, 0, 6, 78, 4, 172, 3, 172]
abbrev dktX0_power_0 : List UInt8 := dkwX0_power_0 ++ []
theorem dksX0_power_0 : cX0_power.data.toList.drop 0 = dktX0_power_0 := by decide +kernel
theorem dX0_power_0 : decode cX0_power 0 = .ok (.aload_n 2, 1) := dk_44 (dk_at dksX0_power_0 0 rfl rfl)
theorem dX0_power_1 : decode cX0_power 1 = .ok (.iconst 0, 1) := dk_3 (dk_at dksX0_power_0 1 rfl rfl)
theorem dX0_power_2 : decode cX0_power 2 = .ok (.aload_n 0, 1) := dk_42 (dk_at dksX0_power_0 2 rfl rfl)
theorem dX0_power_3 : decode cX0_power 3 = .ok (.iload_n 1, 1) := dk_27 (dk_at dksX0_power_0 3 rfl rfl)
theorem dX0_power_4 : decode cX0_power 4 = .ok (.invokevirtual 64, 3) := dk_182 0 64 (dk_at dksX0_power_0 4 rfl rfl)
theorem dX0_power_7 : decode cX0_power 7 = .ok (.i2l, 1) := dk_133 (dk_at dksX0_power_0 7 rfl rfl)
theorem dX0_power_8 : decode cX0_power 8 = .ok (.lastore, 1) := dk_80 (dk_at dksX0_power_0 8 rfl rfl)
theorem dX0_power_9 : decode cX0_power 9 = .ok (.goto 6, 3) := dk_167 0 6 (dk_at dksX0_power_0 9 rfl rfl)
theorem dX0_power_12 : decode cX0_power 12 = .ok (.astore_n 3, 1) := dk_78 (dk_at dksX0_power_0 12 rfl rfl)
theorem dX0_power_13 : decode cX0_power 13 = .ok (.iconst 1, 1) := dk_4 (dk_at dksX0_power_0 13 rfl rfl)
theorem dX0_power_14 : decode cX0_power 14 = .ok (.ireturn, 1) := dk_172 (dk_at dksX0_power_0 14 rfl rfl)
theorem dX0_power_15 : decode cX0_power 15 = .ok (.iconst 0, 1) := dk_3 (dk_at dksX0_power_0 15 rfl rfl)
theorem dX0_power_16 : decode cX0_power 16 = .ok (.ireturn, 1) := dk_172 (dk_at dksX0_power_0 16 rfl rfl)
abbrev cX0_isBanished : ByteArray := method_18_code
def yX0_isBanished : MethodName := ⟨RX0, "isBanished", "(LGoblinHousehold;I[J)I"⟩
def dkwX0_isBanished_0 : List UInt8 := [44, 3, 42, 27, 182, 0, 67, 153, 0, 7, 10, 167, 0, 4, 9, 80, 167, 0, 6, 78, 4, 172, 3, 172]
abbrev dktX0_isBanished_0 : List UInt8 := dkwX0_isBanished_0 ++ []
theorem dksX0_isBanished_0 : cX0_isBanished.data.toList.drop 0 = dktX0_isBanished_0 := by decide +kernel
theorem dX0_isBanished_0 : decode cX0_isBanished 0 = .ok (.aload_n 2, 1) := dk_44 (dk_at dksX0_isBanished_0 0 rfl rfl)
theorem dX0_isBanished_1 : decode cX0_isBanished 1 = .ok (.iconst 0, 1) := dk_3 (dk_at dksX0_isBanished_0 1 rfl rfl)
theorem dX0_isBanished_2 : decode cX0_isBanished 2 = .ok (.aload_n 0, 1) := dk_42 (dk_at dksX0_isBanished_0 2 rfl rfl)
theorem dX0_isBanished_3 : decode cX0_isBanished 3 = .ok (.iload_n 1, 1) := dk_27 (dk_at dksX0_isBanished_0 3 rfl rfl)
theorem dX0_isBanished_4 : decode cX0_isBanished 4 = .ok (.invokevirtual 67, 3) := dk_182 0 67 (dk_at dksX0_isBanished_0 4 rfl rfl)
theorem dX0_isBanished_7 : decode cX0_isBanished 7 = .ok (.ifCond .eq 7, 3) := dk_153 0 7 (dk_at dksX0_isBanished_0 7 rfl rfl)
theorem dX0_isBanished_10 : decode cX0_isBanished 10 = .ok (.lconst 1, 1) := dk_10 (dk_at dksX0_isBanished_0 10 rfl rfl)
theorem dX0_isBanished_11 : decode cX0_isBanished 11 = .ok (.goto 4, 3) := dk_167 0 4 (dk_at dksX0_isBanished_0 11 rfl rfl)
theorem dX0_isBanished_14 : decode cX0_isBanished 14 = .ok (.lconst 0, 1) := dk_9 (dk_at dksX0_isBanished_0 14 rfl rfl)
theorem dX0_isBanished_15 : decode cX0_isBanished 15 = .ok (.lastore, 1) := dk_80 (dk_at dksX0_isBanished_0 15 rfl rfl)
theorem dX0_isBanished_16 : decode cX0_isBanished 16 = .ok (.goto 6, 3) := dk_167 0 6 (dk_at dksX0_isBanished_0 16 rfl rfl)
theorem dX0_isBanished_19 : decode cX0_isBanished 19 = .ok (.astore_n 3, 1) := dk_78 (dk_at dksX0_isBanished_0 19 rfl rfl)
theorem dX0_isBanished_20 : decode cX0_isBanished 20 = .ok (.iconst 1, 1) := dk_4 (dk_at dksX0_isBanished_0 20 rfl rfl)
theorem dX0_isBanished_21 : decode cX0_isBanished 21 = .ok (.ireturn, 1) := dk_172 (dk_at dksX0_isBanished_0 21 rfl rfl)
theorem dX0_isBanished_22 : decode cX0_isBanished 22 = .ok (.iconst 0, 1) := dk_3 (dk_at dksX0_isBanished_0 22 rfl rfl)
theorem dX0_isBanished_23 : decode cX0_isBanished 23 = .ok (.ireturn, 1) := dk_172 (dk_at dksX0_isBanished_0 23 rfl rfl)
abbrev cX0_strength : ByteArray := method_19_code
def yX0_strength : MethodName := ⟨RX0, "strength", "(LGoblinHousehold;I[J)I"⟩
def dkwX0_strength_0 : List UInt8 := [44, 3, 42, 27, 182, 0, 71, 133, 80, 167, 0, 6, 78, 4, 172, 3, 172]
abbrev dktX0_strength_0 : List UInt8 := dkwX0_strength_0 ++ []
theorem dksX0_strength_0 : cX0_strength.data.toList.drop 0 = dktX0_strength_0 := by decide +kernel
theorem dX0_strength_0 : decode cX0_strength 0 = .ok (.aload_n 2, 1) := dk_44 (dk_at dksX0_strength_0 0 rfl rfl)
theorem dX0_strength_1 : decode cX0_strength 1 = .ok (.iconst 0, 1) := dk_3 (dk_at dksX0_strength_0 1 rfl rfl)
theorem dX0_strength_2 : decode cX0_strength 2 = .ok (.aload_n 0, 1) := dk_42 (dk_at dksX0_strength_0 2 rfl rfl)
theorem dX0_strength_3 : decode cX0_strength 3 = .ok (.iload_n 1, 1) := dk_27 (dk_at dksX0_strength_0 3 rfl rfl)
theorem dX0_strength_4 : decode cX0_strength 4 = .ok (.invokevirtual 71, 3) := dk_182 0 71 (dk_at dksX0_strength_0 4 rfl rfl)
theorem dX0_strength_7 : decode cX0_strength 7 = .ok (.i2l, 1) := dk_133 (dk_at dksX0_strength_0 7 rfl rfl)
theorem dX0_strength_8 : decode cX0_strength 8 = .ok (.lastore, 1) := dk_80 (dk_at dksX0_strength_0 8 rfl rfl)
theorem dX0_strength_9 : decode cX0_strength 9 = .ok (.goto 6, 3) := dk_167 0 6 (dk_at dksX0_strength_0 9 rfl rfl)
theorem dX0_strength_12 : decode cX0_strength 12 = .ok (.astore_n 3, 1) := dk_78 (dk_at dksX0_strength_0 12 rfl rfl)
theorem dX0_strength_13 : decode cX0_strength 13 = .ok (.iconst 1, 1) := dk_4 (dk_at dksX0_strength_0 13 rfl rfl)
theorem dX0_strength_14 : decode cX0_strength 14 = .ok (.ireturn, 1) := dk_172 (dk_at dksX0_strength_0 14 rfl rfl)
theorem dX0_strength_15 : decode cX0_strength 15 = .ok (.iconst 0, 1) := dk_3 (dk_at dksX0_strength_0 15 rfl rfl)
theorem dX0_strength_16 : decode cX0_strength 16 = .ok (.ireturn, 1) := dk_172 (dk_at dksX0_strength_0 16 rfl rfl)
abbrev cX0_purse : ByteArray := method_20_code
def yX0_purse : MethodName := ⟨RX0, "purse", "(LGoblinHousehold;I[J)I"⟩
def dkwX0_purse_0 : List UInt8 := [44, 3, 42, 27, 182, 0, 74, 133, 80, 167, 0, 6, 78, 4, 172, 3, 172]
abbrev dktX0_purse_0 : List UInt8 := dkwX0_purse_0 ++ []
theorem dksX0_purse_0 : cX0_purse.data.toList.drop 0 = dktX0_purse_0 := by decide +kernel
theorem dX0_purse_0 : decode cX0_purse 0 = .ok (.aload_n 2, 1) := dk_44 (dk_at dksX0_purse_0 0 rfl rfl)
theorem dX0_purse_1 : decode cX0_purse 1 = .ok (.iconst 0, 1) := dk_3 (dk_at dksX0_purse_0 1 rfl rfl)
theorem dX0_purse_2 : decode cX0_purse 2 = .ok (.aload_n 0, 1) := dk_42 (dk_at dksX0_purse_0 2 rfl rfl)
theorem dX0_purse_3 : decode cX0_purse 3 = .ok (.iload_n 1, 1) := dk_27 (dk_at dksX0_purse_0 3 rfl rfl)
theorem dX0_purse_4 : decode cX0_purse 4 = .ok (.invokevirtual 74, 3) := dk_182 0 74 (dk_at dksX0_purse_0 4 rfl rfl)
theorem dX0_purse_7 : decode cX0_purse 7 = .ok (.i2l, 1) := dk_133 (dk_at dksX0_purse_0 7 rfl rfl)
theorem dX0_purse_8 : decode cX0_purse 8 = .ok (.lastore, 1) := dk_80 (dk_at dksX0_purse_0 8 rfl rfl)
theorem dX0_purse_9 : decode cX0_purse 9 = .ok (.goto 6, 3) := dk_167 0 6 (dk_at dksX0_purse_0 9 rfl rfl)
theorem dX0_purse_12 : decode cX0_purse 12 = .ok (.astore_n 3, 1) := dk_78 (dk_at dksX0_purse_0 12 rfl rfl)
theorem dX0_purse_13 : decode cX0_purse 13 = .ok (.iconst 1, 1) := dk_4 (dk_at dksX0_purse_0 13 rfl rfl)
theorem dX0_purse_14 : decode cX0_purse 14 = .ok (.ireturn, 1) := dk_172 (dk_at dksX0_purse_0 14 rfl rfl)
theorem dX0_purse_15 : decode cX0_purse 15 = .ok (.iconst 0, 1) := dk_3 (dk_at dksX0_purse_0 15 rfl rfl)
theorem dX0_purse_16 : decode cX0_purse 16 = .ok (.ireturn, 1) := dk_172 (dk_at dksX0_purse_0 16 rfl rfl)
abbrev cX0_debt : ByteArray := method_21_code
def yX0_debt : MethodName := ⟨RX0, "debt", "(LGoblinHousehold;I[J)I"⟩
def dkwX0_debt_0 : List UInt8 := [44, 3, 42, 27, 182, 0, 77, 133, 80, 167, 0, 6, 78, 4, 172, 3, 172]
abbrev dktX0_debt_0 : List UInt8 := dkwX0_debt_0 ++ []
theorem dksX0_debt_0 : cX0_debt.data.toList.drop 0 = dktX0_debt_0 := by decide +kernel
theorem dX0_debt_0 : decode cX0_debt 0 = .ok (.aload_n 2, 1) := dk_44 (dk_at dksX0_debt_0 0 rfl rfl)
theorem dX0_debt_1 : decode cX0_debt 1 = .ok (.iconst 0, 1) := dk_3 (dk_at dksX0_debt_0 1 rfl rfl)
theorem dX0_debt_2 : decode cX0_debt 2 = .ok (.aload_n 0, 1) := dk_42 (dk_at dksX0_debt_0 2 rfl rfl)
theorem dX0_debt_3 : decode cX0_debt 3 = .ok (.iload_n 1, 1) := dk_27 (dk_at dksX0_debt_0 3 rfl rfl)
theorem dX0_debt_4 : decode cX0_debt 4 = .ok (.invokevirtual 77, 3) := dk_182 0 77 (dk_at dksX0_debt_0 4 rfl rfl)
theorem dX0_debt_7 : decode cX0_debt 7 = .ok (.i2l, 1) := dk_133 (dk_at dksX0_debt_0 7 rfl rfl)
theorem dX0_debt_8 : decode cX0_debt 8 = .ok (.lastore, 1) := dk_80 (dk_at dksX0_debt_0 8 rfl rfl)
theorem dX0_debt_9 : decode cX0_debt 9 = .ok (.goto 6, 3) := dk_167 0 6 (dk_at dksX0_debt_0 9 rfl rfl)
theorem dX0_debt_12 : decode cX0_debt 12 = .ok (.astore_n 3, 1) := dk_78 (dk_at dksX0_debt_0 12 rfl rfl)
theorem dX0_debt_13 : decode cX0_debt 13 = .ok (.iconst 1, 1) := dk_4 (dk_at dksX0_debt_0 13 rfl rfl)
theorem dX0_debt_14 : decode cX0_debt 14 = .ok (.ireturn, 1) := dk_172 (dk_at dksX0_debt_0 14 rfl rfl)
theorem dX0_debt_15 : decode cX0_debt 15 = .ok (.iconst 0, 1) := dk_3 (dk_at dksX0_debt_0 15 rfl rfl)
theorem dX0_debt_16 : decode cX0_debt 16 = .ok (.ireturn, 1) := dk_172 (dk_at dksX0_debt_0 16 rfl rfl)
abbrev cX0_skippedNights : ByteArray := method_22_code
def yX0_skippedNights : MethodName := ⟨RX0, "skippedNights", "(LGoblinHousehold;I[J)I"⟩
def dkwX0_skippedNights_0 : List UInt8 := [44, 3, 42, 27, 182, 0, 80, 133, 80, 167, 0, 6, 78, 4, 172, 3, 172]
abbrev dktX0_skippedNights_0 : List UInt8 := dkwX0_skippedNights_0 ++ []
theorem dksX0_skippedNights_0 : cX0_skippedNights.data.toList.drop 0 = dktX0_skippedNights_0 := by decide +kernel
theorem dX0_skippedNights_0 : decode cX0_skippedNights 0 = .ok (.aload_n 2, 1) := dk_44 (dk_at dksX0_skippedNights_0 0 rfl rfl)
theorem dX0_skippedNights_1 : decode cX0_skippedNights 1 = .ok (.iconst 0, 1) := dk_3 (dk_at dksX0_skippedNights_0 1 rfl rfl)
theorem dX0_skippedNights_2 : decode cX0_skippedNights 2 = .ok (.aload_n 0, 1) := dk_42 (dk_at dksX0_skippedNights_0 2 rfl rfl)
theorem dX0_skippedNights_3 : decode cX0_skippedNights 3 = .ok (.iload_n 1, 1) := dk_27 (dk_at dksX0_skippedNights_0 3 rfl rfl)
theorem dX0_skippedNights_4 : decode cX0_skippedNights 4 = .ok (.invokevirtual 80, 3) := dk_182 0 80 (dk_at dksX0_skippedNights_0 4 rfl rfl)
theorem dX0_skippedNights_7 : decode cX0_skippedNights 7 = .ok (.i2l, 1) := dk_133 (dk_at dksX0_skippedNights_0 7 rfl rfl)
theorem dX0_skippedNights_8 : decode cX0_skippedNights 8 = .ok (.lastore, 1) := dk_80 (dk_at dksX0_skippedNights_0 8 rfl rfl)
theorem dX0_skippedNights_9 : decode cX0_skippedNights 9 = .ok (.goto 6, 3) := dk_167 0 6 (dk_at dksX0_skippedNights_0 9 rfl rfl)
theorem dX0_skippedNights_12 : decode cX0_skippedNights 12 = .ok (.astore_n 3, 1) := dk_78 (dk_at dksX0_skippedNights_0 12 rfl rfl)
theorem dX0_skippedNights_13 : decode cX0_skippedNights 13 = .ok (.iconst 1, 1) := dk_4 (dk_at dksX0_skippedNights_0 13 rfl rfl)
theorem dX0_skippedNights_14 : decode cX0_skippedNights 14 = .ok (.ireturn, 1) := dk_172 (dk_at dksX0_skippedNights_0 14 rfl rfl)
theorem dX0_skippedNights_15 : decode cX0_skippedNights 15 = .ok (.iconst 0, 1) := dk_3 (dk_at dksX0_skippedNights_0 15 rfl rfl)
theorem dX0_skippedNights_16 : decode cX0_skippedNights 16 = .ok (.ireturn, 1) := dk_172 (dk_at dksX0_skippedNights_0 16 rfl rfl)
abbrev cX0_isResting : ByteArray := method_23_code
def yX0_isResting : MethodName := ⟨RX0, "isResting", "(LGoblinHousehold;I[J)I"⟩
def dkwX0_isResting_0 : List UInt8 := [44, 3, 42, 27, 182, 0, 83, 153, 0, 7, 10, 167, 0, 4, 9, 80, 167, 0, 6, 78, 4, 172, 3, 172]
abbrev dktX0_isResting_0 : List UInt8 := dkwX0_isResting_0 ++ []
theorem dksX0_isResting_0 : cX0_isResting.data.toList.drop 0 = dktX0_isResting_0 := by decide +kernel
theorem dX0_isResting_0 : decode cX0_isResting 0 = .ok (.aload_n 2, 1) := dk_44 (dk_at dksX0_isResting_0 0 rfl rfl)
theorem dX0_isResting_1 : decode cX0_isResting 1 = .ok (.iconst 0, 1) := dk_3 (dk_at dksX0_isResting_0 1 rfl rfl)
theorem dX0_isResting_2 : decode cX0_isResting 2 = .ok (.aload_n 0, 1) := dk_42 (dk_at dksX0_isResting_0 2 rfl rfl)
theorem dX0_isResting_3 : decode cX0_isResting 3 = .ok (.iload_n 1, 1) := dk_27 (dk_at dksX0_isResting_0 3 rfl rfl)
theorem dX0_isResting_4 : decode cX0_isResting 4 = .ok (.invokevirtual 83, 3) := dk_182 0 83 (dk_at dksX0_isResting_0 4 rfl rfl)
theorem dX0_isResting_7 : decode cX0_isResting 7 = .ok (.ifCond .eq 7, 3) := dk_153 0 7 (dk_at dksX0_isResting_0 7 rfl rfl)
theorem dX0_isResting_10 : decode cX0_isResting 10 = .ok (.lconst 1, 1) := dk_10 (dk_at dksX0_isResting_0 10 rfl rfl)
theorem dX0_isResting_11 : decode cX0_isResting 11 = .ok (.goto 4, 3) := dk_167 0 4 (dk_at dksX0_isResting_0 11 rfl rfl)
theorem dX0_isResting_14 : decode cX0_isResting 14 = .ok (.lconst 0, 1) := dk_9 (dk_at dksX0_isResting_0 14 rfl rfl)
theorem dX0_isResting_15 : decode cX0_isResting 15 = .ok (.lastore, 1) := dk_80 (dk_at dksX0_isResting_0 15 rfl rfl)
theorem dX0_isResting_16 : decode cX0_isResting 16 = .ok (.goto 6, 3) := dk_167 0 6 (dk_at dksX0_isResting_0 16 rfl rfl)
theorem dX0_isResting_19 : decode cX0_isResting 19 = .ok (.astore_n 3, 1) := dk_78 (dk_at dksX0_isResting_0 19 rfl rfl)
theorem dX0_isResting_20 : decode cX0_isResting 20 = .ok (.iconst 1, 1) := dk_4 (dk_at dksX0_isResting_0 20 rfl rfl)
theorem dX0_isResting_21 : decode cX0_isResting 21 = .ok (.ireturn, 1) := dk_172 (dk_at dksX0_isResting_0 21 rfl rfl)
theorem dX0_isResting_22 : decode cX0_isResting 22 = .ok (.iconst 0, 1) := dk_3 (dk_at dksX0_isResting_0 22 rfl rfl)
theorem dX0_isResting_23 : decode cX0_isResting 23 = .ok (.ireturn, 1) := dk_172 (dk_at dksX0_isResting_0 23 rfl rfl)
abbrev cX0_energy : ByteArray := method_24_code
def yX0_energy : MethodName := ⟨RX0, "energy", "(LGoblinHousehold;I[J)I"⟩
def dkwX0_energy_0 : List UInt8 := [44, 3, 42, 27, 182, 0, 86, 133, 80, 167, 0, 6, 78, 4, 172, 3, 172]
abbrev dktX0_energy_0 : List UInt8 := dkwX0_energy_0 ++ []
theorem dksX0_energy_0 : cX0_energy.data.toList.drop 0 = dktX0_energy_0 := by decide +kernel
theorem dX0_energy_0 : decode cX0_energy 0 = .ok (.aload_n 2, 1) := dk_44 (dk_at dksX0_energy_0 0 rfl rfl)
theorem dX0_energy_1 : decode cX0_energy 1 = .ok (.iconst 0, 1) := dk_3 (dk_at dksX0_energy_0 1 rfl rfl)
theorem dX0_energy_2 : decode cX0_energy 2 = .ok (.aload_n 0, 1) := dk_42 (dk_at dksX0_energy_0 2 rfl rfl)
theorem dX0_energy_3 : decode cX0_energy 3 = .ok (.iload_n 1, 1) := dk_27 (dk_at dksX0_energy_0 3 rfl rfl)
theorem dX0_energy_4 : decode cX0_energy 4 = .ok (.invokevirtual 86, 3) := dk_182 0 86 (dk_at dksX0_energy_0 4 rfl rfl)
theorem dX0_energy_7 : decode cX0_energy 7 = .ok (.i2l, 1) := dk_133 (dk_at dksX0_energy_0 7 rfl rfl)
theorem dX0_energy_8 : decode cX0_energy 8 = .ok (.lastore, 1) := dk_80 (dk_at dksX0_energy_0 8 rfl rfl)
theorem dX0_energy_9 : decode cX0_energy 9 = .ok (.goto 6, 3) := dk_167 0 6 (dk_at dksX0_energy_0 9 rfl rfl)
theorem dX0_energy_12 : decode cX0_energy 12 = .ok (.astore_n 3, 1) := dk_78 (dk_at dksX0_energy_0 12 rfl rfl)
theorem dX0_energy_13 : decode cX0_energy 13 = .ok (.iconst 1, 1) := dk_4 (dk_at dksX0_energy_0 13 rfl rfl)
theorem dX0_energy_14 : decode cX0_energy 14 = .ok (.ireturn, 1) := dk_172 (dk_at dksX0_energy_0 14 rfl rfl)
theorem dX0_energy_15 : decode cX0_energy 15 = .ok (.iconst 0, 1) := dk_3 (dk_at dksX0_energy_0 15 rfl rfl)
theorem dX0_energy_16 : decode cX0_energy 16 = .ok (.ireturn, 1) := dk_172 (dk_at dksX0_energy_0 16 rfl rfl)
abbrev cX0_goblinByWealth : ByteArray := method_25_code
def yX0_goblinByWealth : MethodName := ⟨RX0, "goblinByWealth", "(LGoblinHousehold;I[J)I"⟩
def dkwX0_goblinByWealth_0 : List UInt8 := [44, 3, 42, 27, 182, 0, 89, 133, 80, 167, 0, 6, 78, 4, 172, 3, 172]
abbrev dktX0_goblinByWealth_0 : List UInt8 := dkwX0_goblinByWealth_0 ++ []
theorem dksX0_goblinByWealth_0 : cX0_goblinByWealth.data.toList.drop 0 = dktX0_goblinByWealth_0 := by decide +kernel
theorem dX0_goblinByWealth_0 : decode cX0_goblinByWealth 0 = .ok (.aload_n 2, 1) := dk_44 (dk_at dksX0_goblinByWealth_0 0 rfl rfl)
theorem dX0_goblinByWealth_1 : decode cX0_goblinByWealth 1 = .ok (.iconst 0, 1) := dk_3 (dk_at dksX0_goblinByWealth_0 1 rfl rfl)
theorem dX0_goblinByWealth_2 : decode cX0_goblinByWealth 2 = .ok (.aload_n 0, 1) := dk_42 (dk_at dksX0_goblinByWealth_0 2 rfl rfl)
theorem dX0_goblinByWealth_3 : decode cX0_goblinByWealth 3 = .ok (.iload_n 1, 1) := dk_27 (dk_at dksX0_goblinByWealth_0 3 rfl rfl)
theorem dX0_goblinByWealth_4 : decode cX0_goblinByWealth 4 = .ok (.invokevirtual 89, 3) := dk_182 0 89 (dk_at dksX0_goblinByWealth_0 4 rfl rfl)
theorem dX0_goblinByWealth_7 : decode cX0_goblinByWealth 7 = .ok (.i2l, 1) := dk_133 (dk_at dksX0_goblinByWealth_0 7 rfl rfl)
theorem dX0_goblinByWealth_8 : decode cX0_goblinByWealth 8 = .ok (.lastore, 1) := dk_80 (dk_at dksX0_goblinByWealth_0 8 rfl rfl)
theorem dX0_goblinByWealth_9 : decode cX0_goblinByWealth 9 = .ok (.goto 6, 3) := dk_167 0 6 (dk_at dksX0_goblinByWealth_0 9 rfl rfl)
theorem dX0_goblinByWealth_12 : decode cX0_goblinByWealth 12 = .ok (.astore_n 3, 1) := dk_78 (dk_at dksX0_goblinByWealth_0 12 rfl rfl)
theorem dX0_goblinByWealth_13 : decode cX0_goblinByWealth 13 = .ok (.iconst 1, 1) := dk_4 (dk_at dksX0_goblinByWealth_0 13 rfl rfl)
theorem dX0_goblinByWealth_14 : decode cX0_goblinByWealth 14 = .ok (.ireturn, 1) := dk_172 (dk_at dksX0_goblinByWealth_0 14 rfl rfl)
theorem dX0_goblinByWealth_15 : decode cX0_goblinByWealth 15 = .ok (.iconst 0, 1) := dk_3 (dk_at dksX0_goblinByWealth_0 15 rfl rfl)
theorem dX0_goblinByWealth_16 : decode cX0_goblinByWealth 16 = .ok (.ireturn, 1) := dk_172 (dk_at dksX0_goblinByWealth_0 16 rfl rfl)
abbrev cX0_bestWages : ByteArray := method_26_code
def yX0_bestWages : MethodName := ⟨RX0, "bestWages", "(LGoblinHousehold;I[J)I"⟩
def dkwX0_bestWages_0 : List UInt8 := [44, 3, 42, 27, 182, 0, 92, 133, 80, 167, 0, 6, 78, 4, 172, 3, 172]
abbrev dktX0_bestWages_0 : List UInt8 := dkwX0_bestWages_0 ++ []
theorem dksX0_bestWages_0 : cX0_bestWages.data.toList.drop 0 = dktX0_bestWages_0 := by decide +kernel
theorem dX0_bestWages_0 : decode cX0_bestWages 0 = .ok (.aload_n 2, 1) := dk_44 (dk_at dksX0_bestWages_0 0 rfl rfl)
theorem dX0_bestWages_1 : decode cX0_bestWages 1 = .ok (.iconst 0, 1) := dk_3 (dk_at dksX0_bestWages_0 1 rfl rfl)
theorem dX0_bestWages_2 : decode cX0_bestWages 2 = .ok (.aload_n 0, 1) := dk_42 (dk_at dksX0_bestWages_0 2 rfl rfl)
theorem dX0_bestWages_3 : decode cX0_bestWages 3 = .ok (.iload_n 1, 1) := dk_27 (dk_at dksX0_bestWages_0 3 rfl rfl)
theorem dX0_bestWages_4 : decode cX0_bestWages 4 = .ok (.invokevirtual 92, 3) := dk_182 0 92 (dk_at dksX0_bestWages_0 4 rfl rfl)
theorem dX0_bestWages_7 : decode cX0_bestWages 7 = .ok (.i2l, 1) := dk_133 (dk_at dksX0_bestWages_0 7 rfl rfl)
theorem dX0_bestWages_8 : decode cX0_bestWages 8 = .ok (.lastore, 1) := dk_80 (dk_at dksX0_bestWages_0 8 rfl rfl)
theorem dX0_bestWages_9 : decode cX0_bestWages 9 = .ok (.goto 6, 3) := dk_167 0 6 (dk_at dksX0_bestWages_0 9 rfl rfl)
theorem dX0_bestWages_12 : decode cX0_bestWages 12 = .ok (.astore_n 3, 1) := dk_78 (dk_at dksX0_bestWages_0 12 rfl rfl)
theorem dX0_bestWages_13 : decode cX0_bestWages 13 = .ok (.iconst 1, 1) := dk_4 (dk_at dksX0_bestWages_0 13 rfl rfl)
theorem dX0_bestWages_14 : decode cX0_bestWages 14 = .ok (.ireturn, 1) := dk_172 (dk_at dksX0_bestWages_0 14 rfl rfl)
theorem dX0_bestWages_15 : decode cX0_bestWages 15 = .ok (.iconst 0, 1) := dk_3 (dk_at dksX0_bestWages_0 15 rfl rfl)
theorem dX0_bestWages_16 : decode cX0_bestWages 16 = .ok (.ireturn, 1) := dk_172 (dk_at dksX0_bestWages_0 16 rfl rfl)
abbrev cX0_bestWagesByTable : ByteArray := method_27_code
def yX0_bestWagesByTable : MethodName := ⟨RX0, "bestWagesByTable", "(LGoblinHousehold;I[J)I"⟩
def dkwX0_bestWagesByTable_0 : List UInt8 := [44, 3, 42, 27, 182, 0, 95, 133, 80, 167, 0, 6, 78, 4, 172, 3, 172]
abbrev dktX0_bestWagesByTable_0 : List UInt8 := dkwX0_bestWagesByTable_0 ++ []
theorem dksX0_bestWagesByTable_0 : cX0_bestWagesByTable.data.toList.drop 0 = dktX0_bestWagesByTable_0 := by decide +kernel
theorem dX0_bestWagesByTable_0 : decode cX0_bestWagesByTable 0 = .ok (.aload_n 2, 1) := dk_44 (dk_at dksX0_bestWagesByTable_0 0 rfl rfl)
theorem dX0_bestWagesByTable_1 : decode cX0_bestWagesByTable 1 = .ok (.iconst 0, 1) := dk_3 (dk_at dksX0_bestWagesByTable_0 1 rfl rfl)
theorem dX0_bestWagesByTable_2 : decode cX0_bestWagesByTable 2 = .ok (.aload_n 0, 1) := dk_42 (dk_at dksX0_bestWagesByTable_0 2 rfl rfl)
theorem dX0_bestWagesByTable_3 : decode cX0_bestWagesByTable 3 = .ok (.iload_n 1, 1) := dk_27 (dk_at dksX0_bestWagesByTable_0 3 rfl rfl)
theorem dX0_bestWagesByTable_4 : decode cX0_bestWagesByTable 4 = .ok (.invokevirtual 95, 3) := dk_182 0 95 (dk_at dksX0_bestWagesByTable_0 4 rfl rfl)
theorem dX0_bestWagesByTable_7 : decode cX0_bestWagesByTable 7 = .ok (.i2l, 1) := dk_133 (dk_at dksX0_bestWagesByTable_0 7 rfl rfl)
theorem dX0_bestWagesByTable_8 : decode cX0_bestWagesByTable 8 = .ok (.lastore, 1) := dk_80 (dk_at dksX0_bestWagesByTable_0 8 rfl rfl)
theorem dX0_bestWagesByTable_9 : decode cX0_bestWagesByTable 9 = .ok (.goto 6, 3) := dk_167 0 6 (dk_at dksX0_bestWagesByTable_0 9 rfl rfl)
theorem dX0_bestWagesByTable_12 : decode cX0_bestWagesByTable 12 = .ok (.astore_n 3, 1) := dk_78 (dk_at dksX0_bestWagesByTable_0 12 rfl rfl)
theorem dX0_bestWagesByTable_13 : decode cX0_bestWagesByTable 13 = .ok (.iconst 1, 1) := dk_4 (dk_at dksX0_bestWagesByTable_0 13 rfl rfl)
theorem dX0_bestWagesByTable_14 : decode cX0_bestWagesByTable 14 = .ok (.ireturn, 1) := dk_172 (dk_at dksX0_bestWagesByTable_0 14 rfl rfl)
theorem dX0_bestWagesByTable_15 : decode cX0_bestWagesByTable 15 = .ok (.iconst 0, 1) := dk_3 (dk_at dksX0_bestWagesByTable_0 15 rfl rfl)
theorem dX0_bestWagesByTable_16 : decode cX0_bestWagesByTable 16 = .ok (.ireturn, 1) := dk_172 (dk_at dksX0_bestWagesByTable_0 16 rfl rfl)
abbrev cX0_contractAt : ByteArray := method_28_code
def yX0_contractAt : MethodName := ⟨RX0, "contractAt", "(LGoblinHousehold;I[J)I"⟩
def dkwX0_contractAt_0 : List UInt8 := [44, 3, 42, 27, 182, 0, 98, 133, 80, 167, 0, 6, 78, 4, 172, 3, 172]
abbrev dktX0_contractAt_0 : List UInt8 := dkwX0_contractAt_0 ++ []
theorem dksX0_contractAt_0 : cX0_contractAt.data.toList.drop 0 = dktX0_contractAt_0 := by decide +kernel
theorem dX0_contractAt_0 : decode cX0_contractAt 0 = .ok (.aload_n 2, 1) := dk_44 (dk_at dksX0_contractAt_0 0 rfl rfl)
theorem dX0_contractAt_1 : decode cX0_contractAt 1 = .ok (.iconst 0, 1) := dk_3 (dk_at dksX0_contractAt_0 1 rfl rfl)
theorem dX0_contractAt_2 : decode cX0_contractAt 2 = .ok (.aload_n 0, 1) := dk_42 (dk_at dksX0_contractAt_0 2 rfl rfl)
theorem dX0_contractAt_3 : decode cX0_contractAt 3 = .ok (.iload_n 1, 1) := dk_27 (dk_at dksX0_contractAt_0 3 rfl rfl)
theorem dX0_contractAt_4 : decode cX0_contractAt 4 = .ok (.invokevirtual 98, 3) := dk_182 0 98 (dk_at dksX0_contractAt_0 4 rfl rfl)
theorem dX0_contractAt_7 : decode cX0_contractAt 7 = .ok (.i2l, 1) := dk_133 (dk_at dksX0_contractAt_0 7 rfl rfl)
theorem dX0_contractAt_8 : decode cX0_contractAt 8 = .ok (.lastore, 1) := dk_80 (dk_at dksX0_contractAt_0 8 rfl rfl)
theorem dX0_contractAt_9 : decode cX0_contractAt 9 = .ok (.goto 6, 3) := dk_167 0 6 (dk_at dksX0_contractAt_0 9 rfl rfl)
theorem dX0_contractAt_12 : decode cX0_contractAt 12 = .ok (.astore_n 3, 1) := dk_78 (dk_at dksX0_contractAt_0 12 rfl rfl)
theorem dX0_contractAt_13 : decode cX0_contractAt 13 = .ok (.iconst 1, 1) := dk_4 (dk_at dksX0_contractAt_0 13 rfl rfl)
theorem dX0_contractAt_14 : decode cX0_contractAt 14 = .ok (.ireturn, 1) := dk_172 (dk_at dksX0_contractAt_0 14 rfl rfl)
theorem dX0_contractAt_15 : decode cX0_contractAt 15 = .ok (.iconst 0, 1) := dk_3 (dk_at dksX0_contractAt_0 15 rfl rfl)
theorem dX0_contractAt_16 : decode cX0_contractAt 16 = .ok (.ireturn, 1) := dk_172 (dk_at dksX0_contractAt_0 16 rfl rfl)
abbrev cX0_goblinOf : ByteArray := method_29_code
def yX0_goblinOf : MethodName := ⟨RX0, "goblinOf", "(LGoblinHousehold;I[J)I"⟩
def dkwX0_goblinOf_0 : List UInt8 := [44, 3, 42, 27, 182, 0, 101, 133, 80, 167, 0, 6, 78, 4, 172, 3, 172]
abbrev dktX0_goblinOf_0 : List UInt8 := dkwX0_goblinOf_0 ++ []
theorem dksX0_goblinOf_0 : cX0_goblinOf.data.toList.drop 0 = dktX0_goblinOf_0 := by decide +kernel
theorem dX0_goblinOf_0 : decode cX0_goblinOf 0 = .ok (.aload_n 2, 1) := dk_44 (dk_at dksX0_goblinOf_0 0 rfl rfl)
theorem dX0_goblinOf_1 : decode cX0_goblinOf 1 = .ok (.iconst 0, 1) := dk_3 (dk_at dksX0_goblinOf_0 1 rfl rfl)
theorem dX0_goblinOf_2 : decode cX0_goblinOf 2 = .ok (.aload_n 0, 1) := dk_42 (dk_at dksX0_goblinOf_0 2 rfl rfl)
theorem dX0_goblinOf_3 : decode cX0_goblinOf 3 = .ok (.iload_n 1, 1) := dk_27 (dk_at dksX0_goblinOf_0 3 rfl rfl)
theorem dX0_goblinOf_4 : decode cX0_goblinOf 4 = .ok (.invokevirtual 101, 3) := dk_182 0 101 (dk_at dksX0_goblinOf_0 4 rfl rfl)
theorem dX0_goblinOf_7 : decode cX0_goblinOf 7 = .ok (.i2l, 1) := dk_133 (dk_at dksX0_goblinOf_0 7 rfl rfl)
theorem dX0_goblinOf_8 : decode cX0_goblinOf 8 = .ok (.lastore, 1) := dk_80 (dk_at dksX0_goblinOf_0 8 rfl rfl)
theorem dX0_goblinOf_9 : decode cX0_goblinOf 9 = .ok (.goto 6, 3) := dk_167 0 6 (dk_at dksX0_goblinOf_0 9 rfl rfl)
theorem dX0_goblinOf_12 : decode cX0_goblinOf 12 = .ok (.astore_n 3, 1) := dk_78 (dk_at dksX0_goblinOf_0 12 rfl rfl)
theorem dX0_goblinOf_13 : decode cX0_goblinOf 13 = .ok (.iconst 1, 1) := dk_4 (dk_at dksX0_goblinOf_0 13 rfl rfl)
theorem dX0_goblinOf_14 : decode cX0_goblinOf 14 = .ok (.ireturn, 1) := dk_172 (dk_at dksX0_goblinOf_0 14 rfl rfl)
theorem dX0_goblinOf_15 : decode cX0_goblinOf 15 = .ok (.iconst 0, 1) := dk_3 (dk_at dksX0_goblinOf_0 15 rfl rfl)
theorem dX0_goblinOf_16 : decode cX0_goblinOf 16 = .ok (.ireturn, 1) := dk_172 (dk_at dksX0_goblinOf_0 16 rfl rfl)
abbrev cX0_roomOf : ByteArray := method_30_code
def yX0_roomOf : MethodName := ⟨RX0, "roomOf", "(LGoblinHousehold;I[J)I"⟩
def dkwX0_roomOf_0 : List UInt8 := [44, 3, 42, 27, 182, 0, 104, 133, 80, 167, 0, 6, 78, 4, 172, 3, 172]
abbrev dktX0_roomOf_0 : List UInt8 := dkwX0_roomOf_0 ++ []
theorem dksX0_roomOf_0 : cX0_roomOf.data.toList.drop 0 = dktX0_roomOf_0 := by decide +kernel
theorem dX0_roomOf_0 : decode cX0_roomOf 0 = .ok (.aload_n 2, 1) := dk_44 (dk_at dksX0_roomOf_0 0 rfl rfl)
theorem dX0_roomOf_1 : decode cX0_roomOf 1 = .ok (.iconst 0, 1) := dk_3 (dk_at dksX0_roomOf_0 1 rfl rfl)
theorem dX0_roomOf_2 : decode cX0_roomOf 2 = .ok (.aload_n 0, 1) := dk_42 (dk_at dksX0_roomOf_0 2 rfl rfl)
theorem dX0_roomOf_3 : decode cX0_roomOf 3 = .ok (.iload_n 1, 1) := dk_27 (dk_at dksX0_roomOf_0 3 rfl rfl)
theorem dX0_roomOf_4 : decode cX0_roomOf 4 = .ok (.invokevirtual 104, 3) := dk_182 0 104 (dk_at dksX0_roomOf_0 4 rfl rfl)
theorem dX0_roomOf_7 : decode cX0_roomOf 7 = .ok (.i2l, 1) := dk_133 (dk_at dksX0_roomOf_0 7 rfl rfl)
theorem dX0_roomOf_8 : decode cX0_roomOf 8 = .ok (.lastore, 1) := dk_80 (dk_at dksX0_roomOf_0 8 rfl rfl)
theorem dX0_roomOf_9 : decode cX0_roomOf 9 = .ok (.goto 6, 3) := dk_167 0 6 (dk_at dksX0_roomOf_0 9 rfl rfl)
theorem dX0_roomOf_12 : decode cX0_roomOf 12 = .ok (.astore_n 3, 1) := dk_78 (dk_at dksX0_roomOf_0 12 rfl rfl)
theorem dX0_roomOf_13 : decode cX0_roomOf 13 = .ok (.iconst 1, 1) := dk_4 (dk_at dksX0_roomOf_0 13 rfl rfl)
theorem dX0_roomOf_14 : decode cX0_roomOf 14 = .ok (.ireturn, 1) := dk_172 (dk_at dksX0_roomOf_0 14 rfl rfl)
theorem dX0_roomOf_15 : decode cX0_roomOf 15 = .ok (.iconst 0, 1) := dk_3 (dk_at dksX0_roomOf_0 15 rfl rfl)
theorem dX0_roomOf_16 : decode cX0_roomOf 16 = .ok (.ireturn, 1) := dk_172 (dk_at dksX0_roomOf_0 16 rfl rfl)
abbrev cX0_wage : ByteArray := method_31_code
def yX0_wage : MethodName := ⟨RX0, "wage", "(LGoblinHousehold;I[J)I"⟩
def dkwX0_wage_0 : List UInt8 := [44, 3, 42, 27, 182, 0, 107, 133, 80, 167, 0, 6, 78, 4, 172, 3, 172]
abbrev dktX0_wage_0 : List UInt8 := dkwX0_wage_0 ++ []
theorem dksX0_wage_0 : cX0_wage.data.toList.drop 0 = dktX0_wage_0 := by decide +kernel
theorem dX0_wage_0 : decode cX0_wage 0 = .ok (.aload_n 2, 1) := dk_44 (dk_at dksX0_wage_0 0 rfl rfl)
theorem dX0_wage_1 : decode cX0_wage 1 = .ok (.iconst 0, 1) := dk_3 (dk_at dksX0_wage_0 1 rfl rfl)
theorem dX0_wage_2 : decode cX0_wage 2 = .ok (.aload_n 0, 1) := dk_42 (dk_at dksX0_wage_0 2 rfl rfl)
theorem dX0_wage_3 : decode cX0_wage 3 = .ok (.iload_n 1, 1) := dk_27 (dk_at dksX0_wage_0 3 rfl rfl)
theorem dX0_wage_4 : decode cX0_wage 4 = .ok (.invokevirtual 107, 3) := dk_182 0 107 (dk_at dksX0_wage_0 4 rfl rfl)
theorem dX0_wage_7 : decode cX0_wage 7 = .ok (.i2l, 1) := dk_133 (dk_at dksX0_wage_0 7 rfl rfl)
theorem dX0_wage_8 : decode cX0_wage 8 = .ok (.lastore, 1) := dk_80 (dk_at dksX0_wage_0 8 rfl rfl)
theorem dX0_wage_9 : decode cX0_wage 9 = .ok (.goto 6, 3) := dk_167 0 6 (dk_at dksX0_wage_0 9 rfl rfl)
theorem dX0_wage_12 : decode cX0_wage 12 = .ok (.astore_n 3, 1) := dk_78 (dk_at dksX0_wage_0 12 rfl rfl)
theorem dX0_wage_13 : decode cX0_wage 13 = .ok (.iconst 1, 1) := dk_4 (dk_at dksX0_wage_0 13 rfl rfl)
theorem dX0_wage_14 : decode cX0_wage 14 = .ok (.ireturn, 1) := dk_172 (dk_at dksX0_wage_0 14 rfl rfl)
theorem dX0_wage_15 : decode cX0_wage 15 = .ok (.iconst 0, 1) := dk_3 (dk_at dksX0_wage_0 15 rfl rfl)
theorem dX0_wage_16 : decode cX0_wage 16 = .ok (.ireturn, 1) := dk_172 (dk_at dksX0_wage_0 16 rfl rfl)
abbrev cX0_effort : ByteArray := method_32_code
def yX0_effort : MethodName := ⟨RX0, "effort", "(LGoblinHousehold;I[J)I"⟩
def dkwX0_effort_0 : List UInt8 := [44, 3, 42, 27, 182, 0, 110, 133, 80, 167, 0, 6, 78, 4, 172, 3, 172]
abbrev dktX0_effort_0 : List UInt8 := dkwX0_effort_0 ++ []
theorem dksX0_effort_0 : cX0_effort.data.toList.drop 0 = dktX0_effort_0 := by decide +kernel
theorem dX0_effort_0 : decode cX0_effort 0 = .ok (.aload_n 2, 1) := dk_44 (dk_at dksX0_effort_0 0 rfl rfl)
theorem dX0_effort_1 : decode cX0_effort 1 = .ok (.iconst 0, 1) := dk_3 (dk_at dksX0_effort_0 1 rfl rfl)
theorem dX0_effort_2 : decode cX0_effort 2 = .ok (.aload_n 0, 1) := dk_42 (dk_at dksX0_effort_0 2 rfl rfl)
theorem dX0_effort_3 : decode cX0_effort 3 = .ok (.iload_n 1, 1) := dk_27 (dk_at dksX0_effort_0 3 rfl rfl)
theorem dX0_effort_4 : decode cX0_effort 4 = .ok (.invokevirtual 110, 3) := dk_182 0 110 (dk_at dksX0_effort_0 4 rfl rfl)
theorem dX0_effort_7 : decode cX0_effort 7 = .ok (.i2l, 1) := dk_133 (dk_at dksX0_effort_0 7 rfl rfl)
theorem dX0_effort_8 : decode cX0_effort 8 = .ok (.lastore, 1) := dk_80 (dk_at dksX0_effort_0 8 rfl rfl)
theorem dX0_effort_9 : decode cX0_effort 9 = .ok (.goto 6, 3) := dk_167 0 6 (dk_at dksX0_effort_0 9 rfl rfl)
theorem dX0_effort_12 : decode cX0_effort 12 = .ok (.astore_n 3, 1) := dk_78 (dk_at dksX0_effort_0 12 rfl rfl)
theorem dX0_effort_13 : decode cX0_effort 13 = .ok (.iconst 1, 1) := dk_4 (dk_at dksX0_effort_0 13 rfl rfl)
theorem dX0_effort_14 : decode cX0_effort 14 = .ok (.ireturn, 1) := dk_172 (dk_at dksX0_effort_0 14 rfl rfl)
theorem dX0_effort_15 : decode cX0_effort 15 = .ok (.iconst 0, 1) := dk_3 (dk_at dksX0_effort_0 15 rfl rfl)
theorem dX0_effort_16 : decode cX0_effort 16 = .ok (.ireturn, 1) := dk_172 (dk_at dksX0_effort_0 16 rfl rfl)
abbrev cX0_nightsUntilDone : ByteArray := method_33_code
def yX0_nightsUntilDone : MethodName := ⟨RX0, "nightsUntilDone", "(LGoblinHousehold;I[J)I"⟩
def dkwX0_nightsUntilDone_0 : List UInt8 := [44, 3, 42, 27, 182, 0, 113, 133, 80, 167, 0, 9, 78, 4, 172, 78, 5, 172, 3, 172]
abbrev dktX0_nightsUntilDone_0 : List UInt8 := dkwX0_nightsUntilDone_0 ++ []
theorem dksX0_nightsUntilDone_0 : cX0_nightsUntilDone.data.toList.drop 0 = dktX0_nightsUntilDone_0 := by decide +kernel
theorem dX0_nightsUntilDone_0 : decode cX0_nightsUntilDone 0 = .ok (.aload_n 2, 1) := dk_44 (dk_at dksX0_nightsUntilDone_0 0 rfl rfl)
theorem dX0_nightsUntilDone_1 : decode cX0_nightsUntilDone 1 = .ok (.iconst 0, 1) := dk_3 (dk_at dksX0_nightsUntilDone_0 1 rfl rfl)
theorem dX0_nightsUntilDone_2 : decode cX0_nightsUntilDone 2 = .ok (.aload_n 0, 1) := dk_42 (dk_at dksX0_nightsUntilDone_0 2 rfl rfl)
theorem dX0_nightsUntilDone_3 : decode cX0_nightsUntilDone 3 = .ok (.iload_n 1, 1) := dk_27 (dk_at dksX0_nightsUntilDone_0 3 rfl rfl)
theorem dX0_nightsUntilDone_4 : decode cX0_nightsUntilDone 4 = .ok (.invokevirtual 113, 3) := dk_182 0 113 (dk_at dksX0_nightsUntilDone_0 4 rfl rfl)
theorem dX0_nightsUntilDone_7 : decode cX0_nightsUntilDone 7 = .ok (.i2l, 1) := dk_133 (dk_at dksX0_nightsUntilDone_0 7 rfl rfl)
theorem dX0_nightsUntilDone_8 : decode cX0_nightsUntilDone 8 = .ok (.lastore, 1) := dk_80 (dk_at dksX0_nightsUntilDone_0 8 rfl rfl)
theorem dX0_nightsUntilDone_9 : decode cX0_nightsUntilDone 9 = .ok (.goto 9, 3) := dk_167 0 9 (dk_at dksX0_nightsUntilDone_0 9 rfl rfl)
theorem dX0_nightsUntilDone_12 : decode cX0_nightsUntilDone 12 = .ok (.astore_n 3, 1) := dk_78 (dk_at dksX0_nightsUntilDone_0 12 rfl rfl)
theorem dX0_nightsUntilDone_13 : decode cX0_nightsUntilDone 13 = .ok (.iconst 1, 1) := dk_4 (dk_at dksX0_nightsUntilDone_0 13 rfl rfl)
theorem dX0_nightsUntilDone_14 : decode cX0_nightsUntilDone 14 = .ok (.ireturn, 1) := dk_172 (dk_at dksX0_nightsUntilDone_0 14 rfl rfl)
theorem dX0_nightsUntilDone_15 : decode cX0_nightsUntilDone 15 = .ok (.astore_n 3, 1) := dk_78 (dk_at dksX0_nightsUntilDone_0 15 rfl rfl)
theorem dX0_nightsUntilDone_16 : decode cX0_nightsUntilDone 16 = .ok (.iconst 2, 1) := dk_5 (dk_at dksX0_nightsUntilDone_0 16 rfl rfl)
theorem dX0_nightsUntilDone_17 : decode cX0_nightsUntilDone 17 = .ok (.ireturn, 1) := dk_172 (dk_at dksX0_nightsUntilDone_0 17 rfl rfl)
theorem dX0_nightsUntilDone_18 : decode cX0_nightsUntilDone 18 = .ok (.iconst 0, 1) := dk_3 (dk_at dksX0_nightsUntilDone_0 18 rfl rfl)
theorem dX0_nightsUntilDone_19 : decode cX0_nightsUntilDone 19 = .ok (.ireturn, 1) := dk_172 (dk_at dksX0_nightsUntilDone_0 19 rfl rfl)
abbrev cX0_chestAfter : ByteArray := method_34_code
def yX0_chestAfter : MethodName := ⟨RX0, "chestAfter", "(LGoblinHousehold;I[J)I"⟩
def dkwX0_chestAfter_0 : List UInt8 := [44, 3, 42, 27, 182, 0, 116, 133, 80, 167, 0, 6, 78, 4, 172, 3, 172]
abbrev dktX0_chestAfter_0 : List UInt8 := dkwX0_chestAfter_0 ++ []
theorem dksX0_chestAfter_0 : cX0_chestAfter.data.toList.drop 0 = dktX0_chestAfter_0 := by decide +kernel
theorem dX0_chestAfter_0 : decode cX0_chestAfter 0 = .ok (.aload_n 2, 1) := dk_44 (dk_at dksX0_chestAfter_0 0 rfl rfl)
theorem dX0_chestAfter_1 : decode cX0_chestAfter 1 = .ok (.iconst 0, 1) := dk_3 (dk_at dksX0_chestAfter_0 1 rfl rfl)
theorem dX0_chestAfter_2 : decode cX0_chestAfter 2 = .ok (.aload_n 0, 1) := dk_42 (dk_at dksX0_chestAfter_0 2 rfl rfl)
theorem dX0_chestAfter_3 : decode cX0_chestAfter 3 = .ok (.iload_n 1, 1) := dk_27 (dk_at dksX0_chestAfter_0 3 rfl rfl)
theorem dX0_chestAfter_4 : decode cX0_chestAfter 4 = .ok (.invokevirtual 116, 3) := dk_182 0 116 (dk_at dksX0_chestAfter_0 4 rfl rfl)
theorem dX0_chestAfter_7 : decode cX0_chestAfter 7 = .ok (.i2l, 1) := dk_133 (dk_at dksX0_chestAfter_0 7 rfl rfl)
theorem dX0_chestAfter_8 : decode cX0_chestAfter 8 = .ok (.lastore, 1) := dk_80 (dk_at dksX0_chestAfter_0 8 rfl rfl)
theorem dX0_chestAfter_9 : decode cX0_chestAfter 9 = .ok (.goto 6, 3) := dk_167 0 6 (dk_at dksX0_chestAfter_0 9 rfl rfl)
theorem dX0_chestAfter_12 : decode cX0_chestAfter 12 = .ok (.astore_n 3, 1) := dk_78 (dk_at dksX0_chestAfter_0 12 rfl rfl)
theorem dX0_chestAfter_13 : decode cX0_chestAfter 13 = .ok (.iconst 1, 1) := dk_4 (dk_at dksX0_chestAfter_0 13 rfl rfl)
theorem dX0_chestAfter_14 : decode cX0_chestAfter 14 = .ok (.ireturn, 1) := dk_172 (dk_at dksX0_chestAfter_0 14 rfl rfl)
theorem dX0_chestAfter_15 : decode cX0_chestAfter 15 = .ok (.iconst 0, 1) := dk_3 (dk_at dksX0_chestAfter_0 15 rfl rfl)
theorem dX0_chestAfter_16 : decode cX0_chestAfter 16 = .ok (.ireturn, 1) := dk_172 (dk_at dksX0_chestAfter_0 16 rfl rfl)
abbrev cX0_debtAfter : ByteArray := method_35_code
def yX0_debtAfter : MethodName := ⟨RX0, "debtAfter", "(LGoblinHousehold;II[J)I"⟩
def dkwX0_debtAfter_0 : List UInt8 := [45, 3, 42, 27, 28, 182, 0, 119, 133, 80, 167, 0, 11, 58, 4, 4, 172, 58, 4, 5, 172, 3, 172]
abbrev dktX0_debtAfter_0 : List UInt8 := dkwX0_debtAfter_0 ++ []
theorem dksX0_debtAfter_0 : cX0_debtAfter.data.toList.drop 0 = dktX0_debtAfter_0 := by decide +kernel
theorem dX0_debtAfter_0 : decode cX0_debtAfter 0 = .ok (.aload_n 3, 1) := dk_45 (dk_at dksX0_debtAfter_0 0 rfl rfl)
theorem dX0_debtAfter_1 : decode cX0_debtAfter 1 = .ok (.iconst 0, 1) := dk_3 (dk_at dksX0_debtAfter_0 1 rfl rfl)
theorem dX0_debtAfter_2 : decode cX0_debtAfter 2 = .ok (.aload_n 0, 1) := dk_42 (dk_at dksX0_debtAfter_0 2 rfl rfl)
theorem dX0_debtAfter_3 : decode cX0_debtAfter 3 = .ok (.iload_n 1, 1) := dk_27 (dk_at dksX0_debtAfter_0 3 rfl rfl)
theorem dX0_debtAfter_4 : decode cX0_debtAfter 4 = .ok (.iload_n 2, 1) := dk_28 (dk_at dksX0_debtAfter_0 4 rfl rfl)
theorem dX0_debtAfter_5 : decode cX0_debtAfter 5 = .ok (.invokevirtual 119, 3) := dk_182 0 119 (dk_at dksX0_debtAfter_0 5 rfl rfl)
theorem dX0_debtAfter_8 : decode cX0_debtAfter 8 = .ok (.i2l, 1) := dk_133 (dk_at dksX0_debtAfter_0 8 rfl rfl)
theorem dX0_debtAfter_9 : decode cX0_debtAfter 9 = .ok (.lastore, 1) := dk_80 (dk_at dksX0_debtAfter_0 9 rfl rfl)
theorem dX0_debtAfter_10 : decode cX0_debtAfter 10 = .ok (.goto 11, 3) := dk_167 0 11 (dk_at dksX0_debtAfter_0 10 rfl rfl)
theorem dX0_debtAfter_13 : decode cX0_debtAfter 13 = .ok (.astore 4, 2) := dk_58 4 (dk_at dksX0_debtAfter_0 13 rfl rfl)
theorem dX0_debtAfter_15 : decode cX0_debtAfter 15 = .ok (.iconst 1, 1) := dk_4 (dk_at dksX0_debtAfter_0 15 rfl rfl)
theorem dX0_debtAfter_16 : decode cX0_debtAfter 16 = .ok (.ireturn, 1) := dk_172 (dk_at dksX0_debtAfter_0 16 rfl rfl)
theorem dX0_debtAfter_17 : decode cX0_debtAfter 17 = .ok (.astore 4, 2) := dk_58 4 (dk_at dksX0_debtAfter_0 17 rfl rfl)
theorem dX0_debtAfter_19 : decode cX0_debtAfter 19 = .ok (.iconst 2, 1) := dk_5 (dk_at dksX0_debtAfter_0 19 rfl rfl)
theorem dX0_debtAfter_20 : decode cX0_debtAfter 20 = .ok (.ireturn, 1) := dk_172 (dk_at dksX0_debtAfter_0 20 rfl rfl)
theorem dX0_debtAfter_21 : decode cX0_debtAfter 21 = .ok (.iconst 0, 1) := dk_3 (dk_at dksX0_debtAfter_0 21 rfl rfl)
theorem dX0_debtAfter_22 : decode cX0_debtAfter 22 = .ok (.ireturn, 1) := dk_172 (dk_at dksX0_debtAfter_0 22 rfl rfl)
abbrev cX0_reliability : ByteArray := method_36_code
def yX0_reliability : MethodName := ⟨RX0, "reliability", "(LGoblinHousehold;[D)I"⟩
def dkwX0_reliability_0 : List UInt8 := [43, 3, 42, 182, 0, 122, 141, 82, 167, 0, 6, 77, 4, 172, 3, 172]
abbrev dktX0_reliability_0 : List UInt8 := dkwX0_reliability_0 ++ []
theorem dksX0_reliability_0 : cX0_reliability.data.toList.drop 0 = dktX0_reliability_0 := by decide +kernel
theorem dX0_reliability_0 : decode cX0_reliability 0 = .ok (.aload_n 1, 1) := dk_43 (dk_at dksX0_reliability_0 0 rfl rfl)
theorem dX0_reliability_1 : decode cX0_reliability 1 = .ok (.iconst 0, 1) := dk_3 (dk_at dksX0_reliability_0 1 rfl rfl)
theorem dX0_reliability_2 : decode cX0_reliability 2 = .ok (.aload_n 0, 1) := dk_42 (dk_at dksX0_reliability_0 2 rfl rfl)
theorem dX0_reliability_3 : decode cX0_reliability 3 = .ok (.invokevirtual 122, 3) := dk_182 0 122 (dk_at dksX0_reliability_0 3 rfl rfl)
theorem dX0_reliability_6 : decode cX0_reliability 6 = .ok (.f2d, 1) := dk_141 (dk_at dksX0_reliability_0 6 rfl rfl)
theorem dX0_reliability_7 : decode cX0_reliability 7 = .ok (.dastore, 1) := dk_82 (dk_at dksX0_reliability_0 7 rfl rfl)
theorem dX0_reliability_8 : decode cX0_reliability 8 = .ok (.goto 6, 3) := dk_167 0 6 (dk_at dksX0_reliability_0 8 rfl rfl)
theorem dX0_reliability_11 : decode cX0_reliability 11 = .ok (.astore_n 2, 1) := dk_77 (dk_at dksX0_reliability_0 11 rfl rfl)
theorem dX0_reliability_12 : decode cX0_reliability 12 = .ok (.iconst 1, 1) := dk_4 (dk_at dksX0_reliability_0 12 rfl rfl)
theorem dX0_reliability_13 : decode cX0_reliability 13 = .ok (.ireturn, 1) := dk_172 (dk_at dksX0_reliability_0 13 rfl rfl)
theorem dX0_reliability_14 : decode cX0_reliability 14 = .ok (.iconst 0, 1) := dk_3 (dk_at dksX0_reliability_0 14 rfl rfl)
theorem dX0_reliability_15 : decode cX0_reliability 15 = .ok (.ireturn, 1) := dk_172 (dk_at dksX0_reliability_0 15 rfl rfl)
abbrev cX0_renderGoblin : ByteArray := method_37_code
def yX0_renderGoblin : MethodName := ⟨RX0, "renderGoblin", "(LGoblinHousehold;I[J)I"⟩
def dkwX0_renderGoblin_0 : List UInt8 := [44, 3, 42, 27, 182, 0, 128, 133, 80, 167, 0, 6, 78, 4, 172, 3, 172]
abbrev dktX0_renderGoblin_0 : List UInt8 := dkwX0_renderGoblin_0 ++ []
theorem dksX0_renderGoblin_0 : cX0_renderGoblin.data.toList.drop 0 = dktX0_renderGoblin_0 := by decide +kernel
theorem dX0_renderGoblin_0 : decode cX0_renderGoblin 0 = .ok (.aload_n 2, 1) := dk_44 (dk_at dksX0_renderGoblin_0 0 rfl rfl)
theorem dX0_renderGoblin_1 : decode cX0_renderGoblin 1 = .ok (.iconst 0, 1) := dk_3 (dk_at dksX0_renderGoblin_0 1 rfl rfl)
theorem dX0_renderGoblin_2 : decode cX0_renderGoblin 2 = .ok (.aload_n 0, 1) := dk_42 (dk_at dksX0_renderGoblin_0 2 rfl rfl)
theorem dX0_renderGoblin_3 : decode cX0_renderGoblin 3 = .ok (.iload_n 1, 1) := dk_27 (dk_at dksX0_renderGoblin_0 3 rfl rfl)
theorem dX0_renderGoblin_4 : decode cX0_renderGoblin 4 = .ok (.invokevirtual 128, 3) := dk_182 0 128 (dk_at dksX0_renderGoblin_0 4 rfl rfl)
theorem dX0_renderGoblin_7 : decode cX0_renderGoblin 7 = .ok (.i2l, 1) := dk_133 (dk_at dksX0_renderGoblin_0 7 rfl rfl)
theorem dX0_renderGoblin_8 : decode cX0_renderGoblin 8 = .ok (.lastore, 1) := dk_80 (dk_at dksX0_renderGoblin_0 8 rfl rfl)
theorem dX0_renderGoblin_9 : decode cX0_renderGoblin 9 = .ok (.goto 6, 3) := dk_167 0 6 (dk_at dksX0_renderGoblin_0 9 rfl rfl)
theorem dX0_renderGoblin_12 : decode cX0_renderGoblin 12 = .ok (.astore_n 3, 1) := dk_78 (dk_at dksX0_renderGoblin_0 12 rfl rfl)
theorem dX0_renderGoblin_13 : decode cX0_renderGoblin 13 = .ok (.iconst 1, 1) := dk_4 (dk_at dksX0_renderGoblin_0 13 rfl rfl)
theorem dX0_renderGoblin_14 : decode cX0_renderGoblin 14 = .ok (.ireturn, 1) := dk_172 (dk_at dksX0_renderGoblin_0 14 rfl rfl)
theorem dX0_renderGoblin_15 : decode cX0_renderGoblin 15 = .ok (.iconst 0, 1) := dk_3 (dk_at dksX0_renderGoblin_0 15 rfl rfl)
theorem dX0_renderGoblin_16 : decode cX0_renderGoblin 16 = .ok (.ireturn, 1) := dk_172 (dk_at dksX0_renderGoblin_0 16 rfl rfl)
abbrev cX0_outputAt : ByteArray := method_38_code
def yX0_outputAt : MethodName := ⟨RX0, "outputAt", "(LGoblinHousehold;I[J)I"⟩
def dkwX0_outputAt_0 : List UInt8 := [44, 3, 42, 27, 182, 0, 131, 133, 80, 167, 0, 6, 78, 4, 172, 3, 172]
abbrev dktX0_outputAt_0 : List UInt8 := dkwX0_outputAt_0 ++ []
theorem dksX0_outputAt_0 : cX0_outputAt.data.toList.drop 0 = dktX0_outputAt_0 := by decide +kernel
theorem dX0_outputAt_0 : decode cX0_outputAt 0 = .ok (.aload_n 2, 1) := dk_44 (dk_at dksX0_outputAt_0 0 rfl rfl)
theorem dX0_outputAt_1 : decode cX0_outputAt 1 = .ok (.iconst 0, 1) := dk_3 (dk_at dksX0_outputAt_0 1 rfl rfl)
theorem dX0_outputAt_2 : decode cX0_outputAt 2 = .ok (.aload_n 0, 1) := dk_42 (dk_at dksX0_outputAt_0 2 rfl rfl)
theorem dX0_outputAt_3 : decode cX0_outputAt 3 = .ok (.iload_n 1, 1) := dk_27 (dk_at dksX0_outputAt_0 3 rfl rfl)
theorem dX0_outputAt_4 : decode cX0_outputAt 4 = .ok (.invokevirtual 131, 3) := dk_182 0 131 (dk_at dksX0_outputAt_0 4 rfl rfl)
theorem dX0_outputAt_7 : decode cX0_outputAt 7 = .ok (.i2l, 1) := dk_133 (dk_at dksX0_outputAt_0 7 rfl rfl)
theorem dX0_outputAt_8 : decode cX0_outputAt 8 = .ok (.lastore, 1) := dk_80 (dk_at dksX0_outputAt_0 8 rfl rfl)
theorem dX0_outputAt_9 : decode cX0_outputAt 9 = .ok (.goto 6, 3) := dk_167 0 6 (dk_at dksX0_outputAt_0 9 rfl rfl)
theorem dX0_outputAt_12 : decode cX0_outputAt 12 = .ok (.astore_n 3, 1) := dk_78 (dk_at dksX0_outputAt_0 12 rfl rfl)
theorem dX0_outputAt_13 : decode cX0_outputAt 13 = .ok (.iconst 1, 1) := dk_4 (dk_at dksX0_outputAt_0 13 rfl rfl)
theorem dX0_outputAt_14 : decode cX0_outputAt 14 = .ok (.ireturn, 1) := dk_172 (dk_at dksX0_outputAt_0 14 rfl rfl)
theorem dX0_outputAt_15 : decode cX0_outputAt 15 = .ok (.iconst 0, 1) := dk_3 (dk_at dksX0_outputAt_0 15 rfl rfl)
theorem dX0_outputAt_16 : decode cX0_outputAt 16 = .ok (.ireturn, 1) := dk_172 (dk_at dksX0_outputAt_0 16 rfl rfl)
abbrev cX0_type : ByteArray := method_39_code
def yX0_type : MethodName := ⟨RX0, "type", "(LGoblinHousehold;C[J)I"⟩
def dkwX0_type_0 : List UInt8 := [44, 3, 42, 27, 182, 0, 135, 133, 80, 167, 0, 9, 78, 4, 172, 78, 5, 172, 3, 172]
abbrev dktX0_type_0 : List UInt8 := dkwX0_type_0 ++ []
theorem dksX0_type_0 : cX0_type.data.toList.drop 0 = dktX0_type_0 := by decide +kernel
theorem dX0_type_0 : decode cX0_type 0 = .ok (.aload_n 2, 1) := dk_44 (dk_at dksX0_type_0 0 rfl rfl)
theorem dX0_type_1 : decode cX0_type 1 = .ok (.iconst 0, 1) := dk_3 (dk_at dksX0_type_0 1 rfl rfl)
theorem dX0_type_2 : decode cX0_type 2 = .ok (.aload_n 0, 1) := dk_42 (dk_at dksX0_type_0 2 rfl rfl)
theorem dX0_type_3 : decode cX0_type 3 = .ok (.iload_n 1, 1) := dk_27 (dk_at dksX0_type_0 3 rfl rfl)
theorem dX0_type_4 : decode cX0_type 4 = .ok (.invokevirtual 135, 3) := dk_182 0 135 (dk_at dksX0_type_0 4 rfl rfl)
theorem dX0_type_7 : decode cX0_type 7 = .ok (.i2l, 1) := dk_133 (dk_at dksX0_type_0 7 rfl rfl)
theorem dX0_type_8 : decode cX0_type 8 = .ok (.lastore, 1) := dk_80 (dk_at dksX0_type_0 8 rfl rfl)
theorem dX0_type_9 : decode cX0_type 9 = .ok (.goto 9, 3) := dk_167 0 9 (dk_at dksX0_type_0 9 rfl rfl)
theorem dX0_type_12 : decode cX0_type 12 = .ok (.astore_n 3, 1) := dk_78 (dk_at dksX0_type_0 12 rfl rfl)
theorem dX0_type_13 : decode cX0_type 13 = .ok (.iconst 1, 1) := dk_4 (dk_at dksX0_type_0 13 rfl rfl)
theorem dX0_type_14 : decode cX0_type 14 = .ok (.ireturn, 1) := dk_172 (dk_at dksX0_type_0 14 rfl rfl)
theorem dX0_type_15 : decode cX0_type 15 = .ok (.astore_n 3, 1) := dk_78 (dk_at dksX0_type_0 15 rfl rfl)
theorem dX0_type_16 : decode cX0_type 16 = .ok (.iconst 2, 1) := dk_5 (dk_at dksX0_type_0 16 rfl rfl)
theorem dX0_type_17 : decode cX0_type 17 = .ok (.ireturn, 1) := dk_172 (dk_at dksX0_type_0 17 rfl rfl)
theorem dX0_type_18 : decode cX0_type 18 = .ok (.iconst 0, 1) := dk_3 (dk_at dksX0_type_0 18 rfl rfl)
theorem dX0_type_19 : decode cX0_type 19 = .ok (.ireturn, 1) := dk_172 (dk_at dksX0_type_0 19 rfl rfl)
abbrev cX0_runScript : ByteArray := method_40_code
def yX0_runScript : MethodName := ⟨RX0, "runScript", "(LGoblinHousehold;[J)I"⟩
def dkwX0_runScript_0 : List UInt8 := [43, 3, 42, 182, 0, 139, 133, 80, 167, 0, 9, 77, 4, 172, 77, 5, 172, 3, 172]
abbrev dktX0_runScript_0 : List UInt8 := dkwX0_runScript_0 ++ []
theorem dksX0_runScript_0 : cX0_runScript.data.toList.drop 0 = dktX0_runScript_0 := by decide +kernel
theorem dX0_runScript_0 : decode cX0_runScript 0 = .ok (.aload_n 1, 1) := dk_43 (dk_at dksX0_runScript_0 0 rfl rfl)
theorem dX0_runScript_1 : decode cX0_runScript 1 = .ok (.iconst 0, 1) := dk_3 (dk_at dksX0_runScript_0 1 rfl rfl)
theorem dX0_runScript_2 : decode cX0_runScript 2 = .ok (.aload_n 0, 1) := dk_42 (dk_at dksX0_runScript_0 2 rfl rfl)
theorem dX0_runScript_3 : decode cX0_runScript 3 = .ok (.invokevirtual 139, 3) := dk_182 0 139 (dk_at dksX0_runScript_0 3 rfl rfl)
theorem dX0_runScript_6 : decode cX0_runScript 6 = .ok (.i2l, 1) := dk_133 (dk_at dksX0_runScript_0 6 rfl rfl)
theorem dX0_runScript_7 : decode cX0_runScript 7 = .ok (.lastore, 1) := dk_80 (dk_at dksX0_runScript_0 7 rfl rfl)
theorem dX0_runScript_8 : decode cX0_runScript 8 = .ok (.goto 9, 3) := dk_167 0 9 (dk_at dksX0_runScript_0 8 rfl rfl)
theorem dX0_runScript_11 : decode cX0_runScript 11 = .ok (.astore_n 2, 1) := dk_77 (dk_at dksX0_runScript_0 11 rfl rfl)
theorem dX0_runScript_12 : decode cX0_runScript 12 = .ok (.iconst 1, 1) := dk_4 (dk_at dksX0_runScript_0 12 rfl rfl)
theorem dX0_runScript_13 : decode cX0_runScript 13 = .ok (.ireturn, 1) := dk_172 (dk_at dksX0_runScript_0 13 rfl rfl)
theorem dX0_runScript_14 : decode cX0_runScript 14 = .ok (.astore_n 2, 1) := dk_77 (dk_at dksX0_runScript_0 14 rfl rfl)
theorem dX0_runScript_15 : decode cX0_runScript 15 = .ok (.iconst 2, 1) := dk_5 (dk_at dksX0_runScript_0 15 rfl rfl)
theorem dX0_runScript_16 : decode cX0_runScript 16 = .ok (.ireturn, 1) := dk_172 (dk_at dksX0_runScript_0 16 rfl rfl)
theorem dX0_runScript_17 : decode cX0_runScript 17 = .ok (.iconst 0, 1) := dk_3 (dk_at dksX0_runScript_0 17 rfl rfl)
theorem dX0_runScript_18 : decode cX0_runScript 18 = .ok (.ireturn, 1) := dk_172 (dk_at dksX0_runScript_0 18 rfl rfl)
abbrev cX0_errorPosition : ByteArray := method_41_code
def yX0_errorPosition : MethodName := ⟨RX0, "errorPosition", "(LGoblinHousehold;[J)I"⟩
def dkwX0_errorPosition_0 : List UInt8 := [43, 3, 42, 182, 0, 143, 133, 80, 167, 0, 6, 77, 4, 172, 3, 172]
abbrev dktX0_errorPosition_0 : List UInt8 := dkwX0_errorPosition_0 ++ []
theorem dksX0_errorPosition_0 : cX0_errorPosition.data.toList.drop 0 = dktX0_errorPosition_0 := by decide +kernel
theorem dX0_errorPosition_0 : decode cX0_errorPosition 0 = .ok (.aload_n 1, 1) := dk_43 (dk_at dksX0_errorPosition_0 0 rfl rfl)
theorem dX0_errorPosition_1 : decode cX0_errorPosition 1 = .ok (.iconst 0, 1) := dk_3 (dk_at dksX0_errorPosition_0 1 rfl rfl)
theorem dX0_errorPosition_2 : decode cX0_errorPosition 2 = .ok (.aload_n 0, 1) := dk_42 (dk_at dksX0_errorPosition_0 2 rfl rfl)
theorem dX0_errorPosition_3 : decode cX0_errorPosition 3 = .ok (.invokevirtual 143, 3) := dk_182 0 143 (dk_at dksX0_errorPosition_0 3 rfl rfl)
theorem dX0_errorPosition_6 : decode cX0_errorPosition 6 = .ok (.i2l, 1) := dk_133 (dk_at dksX0_errorPosition_0 6 rfl rfl)
theorem dX0_errorPosition_7 : decode cX0_errorPosition 7 = .ok (.lastore, 1) := dk_80 (dk_at dksX0_errorPosition_0 7 rfl rfl)
theorem dX0_errorPosition_8 : decode cX0_errorPosition 8 = .ok (.goto 6, 3) := dk_167 0 6 (dk_at dksX0_errorPosition_0 8 rfl rfl)
theorem dX0_errorPosition_11 : decode cX0_errorPosition 11 = .ok (.astore_n 2, 1) := dk_77 (dk_at dksX0_errorPosition_0 11 rfl rfl)
theorem dX0_errorPosition_12 : decode cX0_errorPosition 12 = .ok (.iconst 1, 1) := dk_4 (dk_at dksX0_errorPosition_0 12 rfl rfl)
theorem dX0_errorPosition_13 : decode cX0_errorPosition 13 = .ok (.ireturn, 1) := dk_172 (dk_at dksX0_errorPosition_0 13 rfl rfl)
theorem dX0_errorPosition_14 : decode cX0_errorPosition 14 = .ok (.iconst 0, 1) := dk_3 (dk_at dksX0_errorPosition_0 14 rfl rfl)
theorem dX0_errorPosition_15 : decode cX0_errorPosition 15 = .ok (.ireturn, 1) := dk_172 (dk_at dksX0_errorPosition_0 15 rfl rfl)
abbrev cX0_failedCommand : ByteArray := method_42_code
def yX0_failedCommand : MethodName := ⟨RX0, "failedCommand", "(LGoblinHousehold;[J)I"⟩
def dkwX0_failedCommand_0 : List UInt8 := [43, 3, 42, 182, 0, 146, 133, 80, 167, 0, 6, 77, 4, 172, 3, 172]
abbrev dktX0_failedCommand_0 : List UInt8 := dkwX0_failedCommand_0 ++ []
theorem dksX0_failedCommand_0 : cX0_failedCommand.data.toList.drop 0 = dktX0_failedCommand_0 := by decide +kernel
theorem dX0_failedCommand_0 : decode cX0_failedCommand 0 = .ok (.aload_n 1, 1) := dk_43 (dk_at dksX0_failedCommand_0 0 rfl rfl)
theorem dX0_failedCommand_1 : decode cX0_failedCommand 1 = .ok (.iconst 0, 1) := dk_3 (dk_at dksX0_failedCommand_0 1 rfl rfl)
theorem dX0_failedCommand_2 : decode cX0_failedCommand 2 = .ok (.aload_n 0, 1) := dk_42 (dk_at dksX0_failedCommand_0 2 rfl rfl)
theorem dX0_failedCommand_3 : decode cX0_failedCommand 3 = .ok (.invokevirtual 146, 3) := dk_182 0 146 (dk_at dksX0_failedCommand_0 3 rfl rfl)
theorem dX0_failedCommand_6 : decode cX0_failedCommand 6 = .ok (.i2l, 1) := dk_133 (dk_at dksX0_failedCommand_0 6 rfl rfl)
theorem dX0_failedCommand_7 : decode cX0_failedCommand 7 = .ok (.lastore, 1) := dk_80 (dk_at dksX0_failedCommand_0 7 rfl rfl)
theorem dX0_failedCommand_8 : decode cX0_failedCommand 8 = .ok (.goto 6, 3) := dk_167 0 6 (dk_at dksX0_failedCommand_0 8 rfl rfl)
theorem dX0_failedCommand_11 : decode cX0_failedCommand 11 = .ok (.astore_n 2, 1) := dk_77 (dk_at dksX0_failedCommand_0 11 rfl rfl)
theorem dX0_failedCommand_12 : decode cX0_failedCommand 12 = .ok (.iconst 1, 1) := dk_4 (dk_at dksX0_failedCommand_0 12 rfl rfl)
theorem dX0_failedCommand_13 : decode cX0_failedCommand 13 = .ok (.ireturn, 1) := dk_172 (dk_at dksX0_failedCommand_0 13 rfl rfl)
theorem dX0_failedCommand_14 : decode cX0_failedCommand 14 = .ok (.iconst 0, 1) := dk_3 (dk_at dksX0_failedCommand_0 14 rfl rfl)
theorem dX0_failedCommand_15 : decode cX0_failedCommand 15 = .ok (.ireturn, 1) := dk_172 (dk_at dksX0_failedCommand_0 15 rfl rfl)
abbrev cX0_undo : ByteArray := method_43_code
def yX0_undo : MethodName := ⟨RX0, "undo", "(LGoblinHousehold;[J)I"⟩
def dkwX0_undo_0 : List UInt8 := [43, 3, 42, 182, 0, 149, 133, 80, 167, 0, 6, 77, 4, 172, 3, 172]
abbrev dktX0_undo_0 : List UInt8 := dkwX0_undo_0 ++ []
theorem dksX0_undo_0 : cX0_undo.data.toList.drop 0 = dktX0_undo_0 := by decide +kernel
theorem dX0_undo_0 : decode cX0_undo 0 = .ok (.aload_n 1, 1) := dk_43 (dk_at dksX0_undo_0 0 rfl rfl)
theorem dX0_undo_1 : decode cX0_undo 1 = .ok (.iconst 0, 1) := dk_3 (dk_at dksX0_undo_0 1 rfl rfl)
theorem dX0_undo_2 : decode cX0_undo 2 = .ok (.aload_n 0, 1) := dk_42 (dk_at dksX0_undo_0 2 rfl rfl)
theorem dX0_undo_3 : decode cX0_undo 3 = .ok (.invokevirtual 149, 3) := dk_182 0 149 (dk_at dksX0_undo_0 3 rfl rfl)
theorem dX0_undo_6 : decode cX0_undo 6 = .ok (.i2l, 1) := dk_133 (dk_at dksX0_undo_0 6 rfl rfl)
theorem dX0_undo_7 : decode cX0_undo 7 = .ok (.lastore, 1) := dk_80 (dk_at dksX0_undo_0 7 rfl rfl)
theorem dX0_undo_8 : decode cX0_undo 8 = .ok (.goto 6, 3) := dk_167 0 6 (dk_at dksX0_undo_0 8 rfl rfl)
theorem dX0_undo_11 : decode cX0_undo 11 = .ok (.astore_n 2, 1) := dk_77 (dk_at dksX0_undo_0 11 rfl rfl)
theorem dX0_undo_12 : decode cX0_undo 12 = .ok (.iconst 1, 1) := dk_4 (dk_at dksX0_undo_0 12 rfl rfl)
theorem dX0_undo_13 : decode cX0_undo 13 = .ok (.ireturn, 1) := dk_172 (dk_at dksX0_undo_0 13 rfl rfl)
theorem dX0_undo_14 : decode cX0_undo 14 = .ok (.iconst 0, 1) := dk_3 (dk_at dksX0_undo_0 14 rfl rfl)
theorem dX0_undo_15 : decode cX0_undo 15 = .ok (.ireturn, 1) := dk_172 (dk_at dksX0_undo_0 15 rfl rfl)
abbrev cX0_restore : ByteArray := method_44_code
def yX0_restore : MethodName := ⟨RX0, "restore", "(LGoblinHousehold;[J)I"⟩
def dkwX0_restore_0 : List UInt8 := [43, 3, 42, 182, 0, 152, 133, 80, 167, 0, 6, 77, 4, 172, 3, 172]
abbrev dktX0_restore_0 : List UInt8 := dkwX0_restore_0 ++ []
theorem dksX0_restore_0 : cX0_restore.data.toList.drop 0 = dktX0_restore_0 := by decide +kernel
theorem dX0_restore_0 : decode cX0_restore 0 = .ok (.aload_n 1, 1) := dk_43 (dk_at dksX0_restore_0 0 rfl rfl)
theorem dX0_restore_1 : decode cX0_restore 1 = .ok (.iconst 0, 1) := dk_3 (dk_at dksX0_restore_0 1 rfl rfl)
theorem dX0_restore_2 : decode cX0_restore 2 = .ok (.aload_n 0, 1) := dk_42 (dk_at dksX0_restore_0 2 rfl rfl)
theorem dX0_restore_3 : decode cX0_restore 3 = .ok (.invokevirtual 152, 3) := dk_182 0 152 (dk_at dksX0_restore_0 3 rfl rfl)
theorem dX0_restore_6 : decode cX0_restore 6 = .ok (.i2l, 1) := dk_133 (dk_at dksX0_restore_0 6 rfl rfl)
theorem dX0_restore_7 : decode cX0_restore 7 = .ok (.lastore, 1) := dk_80 (dk_at dksX0_restore_0 7 rfl rfl)
theorem dX0_restore_8 : decode cX0_restore 8 = .ok (.goto 6, 3) := dk_167 0 6 (dk_at dksX0_restore_0 8 rfl rfl)
theorem dX0_restore_11 : decode cX0_restore 11 = .ok (.astore_n 2, 1) := dk_77 (dk_at dksX0_restore_0 11 rfl rfl)
theorem dX0_restore_12 : decode cX0_restore 12 = .ok (.iconst 1, 1) := dk_4 (dk_at dksX0_restore_0 12 rfl rfl)
theorem dX0_restore_13 : decode cX0_restore 13 = .ok (.ireturn, 1) := dk_172 (dk_at dksX0_restore_0 13 rfl rfl)
theorem dX0_restore_14 : decode cX0_restore 14 = .ok (.iconst 0, 1) := dk_3 (dk_at dksX0_restore_0 14 rfl rfl)
theorem dX0_restore_15 : decode cX0_restore 15 = .ok (.ireturn, 1) := dk_172 (dk_at dksX0_restore_0 15 rfl rfl)
theorem q93 : (Jvm.Cond.initialized "GoblinHouseholdLaw") ∈ lw_all := lw_g (lw_at lw_m1 0 rfl) rfl
theorem q145 : (Jvm.Cond.classLink "GoblinHouseholdLaw" (8 : Nat) "GoblinHousehold") ∈ lw_all := lw_g (lw_at lw_m1 52 rfl) rfl
theorem q147 : (Jvm.Cond.methodLink "GoblinHouseholdLaw" (155 : Nat) ({ cls := "GoblinHousehold", name := "<init>", desc := "()V" } : Jvm.MethodName)) ∈ lw_all := lw_g (lw_at lw_m1 54 rfl) rfl
theorem q314 : (Jvm.Cond.methodLink "GoblinHouseholdLaw" (209 : Nat) ({ cls := "GoblinHousehold", name := "broomCount", desc := "()I" } : Jvm.MethodName)) ∈ lw_all := lw_g (lw_at lw_m1 221 rfl) rfl
theorem q334 : (Jvm.Cond.methodLink "GoblinHouseholdLaw" (219 : Nat) ({ cls := "GoblinHousehold", name := "goblinCount", desc := "()I" } : Jvm.MethodName)) ∈ lw_all := lw_g (lw_at lw_m2 1 rfl) rfl
theorem q338 : (Jvm.Cond.methodLink "GoblinHouseholdLaw" (250 : Nat) ({ cls := "GoblinHousehold", name := "openContracts", desc := "()I" } : Jvm.MethodName)) ∈ lw_all := lw_g (lw_at lw_m2 5 rfl) rfl
theorem q342 : (Jvm.Cond.methodLink "GoblinHouseholdLaw" (278 : Nat) ({ cls := "GoblinHousehold", name := "night", desc := "()I" } : Jvm.MethodName)) ∈ lw_all := lw_g (lw_at lw_m2 9 rfl) rfl
theorem q346 : (Jvm.Cond.methodLink "GoblinHouseholdLaw" (282 : Nat) ({ cls := "GoblinHousehold", name := "chest", desc := "()I" } : Jvm.MethodName)) ∈ lw_all := lw_g (lw_at lw_m2 13 rfl) rfl
theorem q350 : (Jvm.Cond.methodLink "GoblinHouseholdLaw" (286 : Nat) ({ cls := "GoblinHousehold", name := "allCrumbs", desc := "()I" } : Jvm.MethodName)) ∈ lw_all := lw_g (lw_at lw_m2 17 rfl) rfl
theorem q713 : (Jvm.Cond.methodLink "GoblinHouseholdLaw" (290 : Nat) ({ cls := "GoblinHousehold", name := "allCrumbsByAccounts", desc := "()I" } : Jvm.MethodName)) ∈ lw_all := lw_g (lw_at lw_m3 140 rfl) rfl
theorem q721 : (Jvm.Cond.methodLink "GoblinHouseholdLaw" (294 : Nat) ({ cls := "GoblinHousehold", name := "doneTotal", desc := "()I" } : Jvm.MethodName)) ∈ lw_all := lw_g (lw_at lw_m3 148 rfl) rfl
theorem q725 : (Jvm.Cond.methodLink "GoblinHouseholdLaw" (298 : Nat) ({ cls := "GoblinHousehold", name := "brokenTotal", desc := "()I" } : Jvm.MethodName)) ∈ lw_all := lw_g (lw_at lw_m3 152 rfl) rfl
theorem q729 : (Jvm.Cond.methodLink "GoblinHouseholdLaw" (302 : Nat) ({ cls := "GoblinHousehold", name := "unpaidTotal", desc := "()I" } : Jvm.MethodName)) ∈ lw_all := lw_g (lw_at lw_m3 156 rfl) rfl
theorem q733 : (Jvm.Cond.methodLink "GoblinHouseholdLaw" (306 : Nat) ({ cls := "GoblinHousehold", name := "interestTotal", desc := "()I" } : Jvm.MethodName)) ∈ lw_all := lw_g (lw_at lw_m3 160 rfl) rfl
theorem q737 : (Jvm.Cond.methodLink "GoblinHouseholdLaw" (310 : Nat) ({ cls := "GoblinHousehold", name := "meanDust", desc := "()D" } : Jvm.MethodName)) ∈ lw_all := lw_g (lw_at lw_m3 164 rfl) rfl
theorem q746 : (Jvm.Cond.methodLink "GoblinHouseholdLaw" (319 : Nat) ({ cls := "GoblinHousehold", name := "isConsistent", desc := "()Z" } : Jvm.MethodName)) ∈ lw_all := lw_g (lw_at lw_m3 173 rfl) rfl
theorem q831 : (Jvm.Cond.methodLink "GoblinHouseholdLaw" (327 : Nat) ({ cls := "GoblinHousehold", name := "renderContracts", desc := "()I" } : Jvm.MethodName)) ∈ lw_all := lw_g (lw_at lw_m4 18 rfl) rfl
theorem q863 : (Jvm.Cond.methodLink "GoblinHouseholdLaw" (351 : Nat) ({ cls := "GoblinHousehold", name := "save", desc := "()I" } : Jvm.MethodName)) ∈ lw_all := lw_g (lw_at lw_m4 50 rfl) rfl
theorem q868 : (Jvm.Cond.methodLink "GoblinHouseholdLaw" (159 : Nat) ({ cls := "GoblinHouseholdLaw", name := "addGoblin", desc := "(LGoblinHousehold;I[J)I" } : Jvm.MethodName)) ∈ lw_all := lw_g (lw_at lw_m4 55 rfl) rfl
theorem q869 : (Jvm.Cond.static ({ cls := "GoblinHouseholdLaw", name := "addGoblin", desc := "(LGoblinHousehold;I[J)I" } : Jvm.MethodName)) ∈ lw_all := lw_g (lw_at lw_m4 56 rfl) rfl
theorem q870 : (Jvm.Cond.codeWith ({ cls := "GoblinHouseholdLaw", name := "addGoblin", desc := "(LGoblinHousehold;I[J)I" } : Jvm.MethodName) method_3_code (4 : Nat) (Option.some Jvm.ClassFile.FieldType.int) [((0 : Nat), (9 : Nat), (12 : Nat), (13 : Nat)), ((0 : Nat), (9 : Nat), (15 : Nat), (15 : Nat))]) ∈ lw_all := lw_g (lw_at lw_m4 57 rfl) rfl
theorem q871 : (Jvm.Cond.classLink "GoblinHouseholdLaw" (13 : Nat) "java/lang/IllegalArgumentException") ∈ lw_all := lw_g (lw_at lw_m4 58 rfl) rfl
theorem q872 : (Jvm.Cond.classLink "GoblinHouseholdLaw" (15 : Nat) "java/lang/IllegalStateException") ∈ lw_all := lw_g (lw_at lw_m4 59 rfl) rfl
theorem q873 : (Jvm.Cond.methodLink "GoblinHouseholdLaw" (7 : Nat) ({ cls := "GoblinHousehold", name := "addGoblin", desc := "(I)I" } : Jvm.MethodName)) ∈ lw_all := lw_g (lw_at lw_m4 60 rfl) rfl
theorem q1295 : (Jvm.Cond.methodLink "GoblinHouseholdLaw" (168 : Nat) ({ cls := "GoblinHouseholdLaw", name := "addBroom", desc := "(LGoblinHousehold;I[J)I" } : Jvm.MethodName)) ∈ lw_all := lw_g (lw_at lw_m6 2 rfl) rfl
theorem q1296 : (Jvm.Cond.static ({ cls := "GoblinHouseholdLaw", name := "addBroom", desc := "(LGoblinHousehold;I[J)I" } : Jvm.MethodName)) ∈ lw_all := lw_g (lw_at lw_m6 3 rfl) rfl
theorem q1297 : (Jvm.Cond.codeWith ({ cls := "GoblinHouseholdLaw", name := "addBroom", desc := "(LGoblinHousehold;I[J)I" } : Jvm.MethodName) method_4_code (4 : Nat) (Option.some Jvm.ClassFile.FieldType.int) [((0 : Nat), (9 : Nat), (12 : Nat), (13 : Nat)), ((0 : Nat), (9 : Nat), (15 : Nat), (15 : Nat))]) ∈ lw_all := lw_g (lw_at lw_m6 4 rfl) rfl
theorem q1298 : (Jvm.Cond.methodLink "GoblinHouseholdLaw" (17 : Nat) ({ cls := "GoblinHousehold", name := "addBroom", desc := "(I)I" } : Jvm.MethodName)) ∈ lw_all := lw_g (lw_at lw_m6 5 rfl) rfl
theorem q1309 : (Jvm.Cond.methodLink "GoblinHouseholdLaw" (171 : Nat) ({ cls := "GoblinHouseholdLaw", name := "banishBroom", desc := "(LGoblinHousehold;I[J)I" } : Jvm.MethodName)) ∈ lw_all := lw_g (lw_at lw_m6 16 rfl) rfl
theorem q1310 : (Jvm.Cond.static ({ cls := "GoblinHouseholdLaw", name := "banishBroom", desc := "(LGoblinHousehold;I[J)I" } : Jvm.MethodName)) ∈ lw_all := lw_g (lw_at lw_m6 17 rfl) rfl
theorem q1311 : (Jvm.Cond.codeWith ({ cls := "GoblinHouseholdLaw", name := "banishBroom", desc := "(LGoblinHousehold;I[J)I" } : Jvm.MethodName) method_5_code (4 : Nat) (Option.some Jvm.ClassFile.FieldType.int) [((0 : Nat), (9 : Nat), (12 : Nat), (23 : Nat)), ((0 : Nat), (9 : Nat), (15 : Nat), (15 : Nat))]) ∈ lw_all := lw_g (lw_at lw_m6 18 rfl) rfl
theorem q1312 : (Jvm.Cond.classLink "GoblinHouseholdLaw" (23 : Nat) "java/lang/IndexOutOfBoundsException") ∈ lw_all := lw_g (lw_at lw_m6 19 rfl) rfl
theorem q1328 : (Jvm.Cond.methodLink "GoblinHouseholdLaw" (20 : Nat) ({ cls := "GoblinHousehold", name := "banishBroom", desc := "(I)I" } : Jvm.MethodName)) ∈ lw_all := lw_g (lw_at lw_m6 35 rfl) rfl
theorem q1349 : (Jvm.Cond.methodLink "GoblinHouseholdLaw" (174 : Nat) ({ cls := "GoblinHouseholdLaw", name := "recallBroom", desc := "(LGoblinHousehold;I[J)I" } : Jvm.MethodName)) ∈ lw_all := lw_g (lw_at lw_m6 56 rfl) rfl
theorem q1350 : (Jvm.Cond.static ({ cls := "GoblinHouseholdLaw", name := "recallBroom", desc := "(LGoblinHousehold;I[J)I" } : Jvm.MethodName)) ∈ lw_all := lw_g (lw_at lw_m6 57 rfl) rfl
theorem q1351 : (Jvm.Cond.codeWith ({ cls := "GoblinHouseholdLaw", name := "recallBroom", desc := "(LGoblinHousehold;I[J)I" } : Jvm.MethodName) method_6_code (4 : Nat) (Option.some Jvm.ClassFile.FieldType.int) [((0 : Nat), (9 : Nat), (12 : Nat), (23 : Nat)), ((0 : Nat), (9 : Nat), (15 : Nat), (15 : Nat))]) ∈ lw_all := lw_g (lw_at lw_m6 58 rfl) rfl
theorem q1352 : (Jvm.Cond.methodLink "GoblinHouseholdLaw" (25 : Nat) ({ cls := "GoblinHousehold", name := "recallBroom", desc := "(I)I" } : Jvm.MethodName)) ∈ lw_all := lw_g (lw_at lw_m6 59 rfl) rfl
theorem q1363 : (Jvm.Cond.methodLink "GoblinHouseholdLaw" (177 : Nat) ({ cls := "GoblinHouseholdLaw", name := "hire", desc := "(LGoblinHousehold;IIII[J)I" } : Jvm.MethodName)) ∈ lw_all := lw_g (lw_at lw_m6 70 rfl) rfl
theorem q1364 : (Jvm.Cond.static ({ cls := "GoblinHouseholdLaw", name := "hire", desc := "(LGoblinHousehold;IIII[J)I" } : Jvm.MethodName)) ∈ lw_all := lw_g (lw_at lw_m6 71 rfl) rfl
theorem q1365 : (Jvm.Cond.codeWith ({ cls := "GoblinHouseholdLaw", name := "hire", desc := "(LGoblinHousehold;IIII[J)I" } : Jvm.MethodName) method_7_code (7 : Nat) (Option.some Jvm.ClassFile.FieldType.int) [((0 : Nat), (14 : Nat), (17 : Nat), (23 : Nat)), ((0 : Nat), (14 : Nat), (21 : Nat), (13 : Nat)), ((0 : Nat), (14 : Nat), (25 : Nat), (15 : Nat)), ((0 : Nat), (14 : Nat), (29 : Nat), (32 : Nat))]) ∈ lw_all := lw_g (lw_at lw_m6 72 rfl) rfl
theorem q1366 : (Jvm.Cond.classLink "GoblinHouseholdLaw" (32 : Nat) "java/lang/UnsupportedOperationException") ∈ lw_all := lw_g (lw_at lw_m6 73 rfl) rfl
theorem q1367 : (Jvm.Cond.methodLink "GoblinHouseholdLaw" (28 : Nat) ({ cls := "GoblinHousehold", name := "hire", desc := "(IIII)I" } : Jvm.MethodName)) ∈ lw_all := lw_g (lw_at lw_m6 74 rfl) rfl
theorem q1415 : (Jvm.Cond.methodLink "GoblinHouseholdLaw" (181 : Nat) ({ cls := "GoblinHouseholdLaw", name := "cancelContract", desc := "(LGoblinHousehold;I[J)I" } : Jvm.MethodName)) ∈ lw_all := lw_g (lw_at lw_m6 122 rfl) rfl
theorem q1416 : (Jvm.Cond.static ({ cls := "GoblinHouseholdLaw", name := "cancelContract", desc := "(LGoblinHousehold;I[J)I" } : Jvm.MethodName)) ∈ lw_all := lw_g (lw_at lw_m6 123 rfl) rfl
theorem q1417 : (Jvm.Cond.codeWith ({ cls := "GoblinHouseholdLaw", name := "cancelContract", desc := "(LGoblinHousehold;I[J)I" } : Jvm.MethodName) method_8_code (4 : Nat) (Option.some Jvm.ClassFile.FieldType.int) [((0 : Nat), (9 : Nat), (12 : Nat), (37 : Nat))]) ∈ lw_all := lw_g (lw_at lw_m6 124 rfl) rfl
theorem q1418 : (Jvm.Cond.classLink "GoblinHouseholdLaw" (37 : Nat) "java/util/NoSuchElementException") ∈ lw_all := lw_g (lw_at lw_m6 125 rfl) rfl
theorem q1419 : (Jvm.Cond.methodLink "GoblinHouseholdLaw" (34 : Nat) ({ cls := "GoblinHousehold", name := "cancelContract", desc := "(I)I" } : Jvm.MethodName)) ∈ lw_all := lw_g (lw_at lw_m6 126 rfl) rfl
theorem q1549 : (Jvm.Cond.methodLink "GoblinHouseholdLaw" (184 : Nat) ({ cls := "GoblinHouseholdLaw", name := "rest", desc := "(LGoblinHousehold;I[J)I" } : Jvm.MethodName)) ∈ lw_all := lw_g (lw_at lw_m7 16 rfl) rfl
theorem q1550 : (Jvm.Cond.static ({ cls := "GoblinHouseholdLaw", name := "rest", desc := "(LGoblinHousehold;I[J)I" } : Jvm.MethodName)) ∈ lw_all := lw_g (lw_at lw_m7 17 rfl) rfl
theorem q1551 : (Jvm.Cond.codeWith ({ cls := "GoblinHouseholdLaw", name := "rest", desc := "(LGoblinHousehold;I[J)I" } : Jvm.MethodName) method_9_code (4 : Nat) (Option.some Jvm.ClassFile.FieldType.int) [((0 : Nat), (9 : Nat), (12 : Nat), (23 : Nat)), ((0 : Nat), (9 : Nat), (15 : Nat), (15 : Nat))]) ∈ lw_all := lw_g (lw_at lw_m7 18 rfl) rfl
theorem q1552 : (Jvm.Cond.methodLink "GoblinHouseholdLaw" (39 : Nat) ({ cls := "GoblinHousehold", name := "rest", desc := "(I)I" } : Jvm.MethodName)) ∈ lw_all := lw_g (lw_at lw_m7 19 rfl) rfl
theorem q1566 : (Jvm.Cond.methodLink "GoblinHouseholdLaw" (187 : Nat) ({ cls := "GoblinHouseholdLaw", name := "wake", desc := "(LGoblinHousehold;I[J)I" } : Jvm.MethodName)) ∈ lw_all := lw_g (lw_at lw_m7 33 rfl) rfl
theorem q1567 : (Jvm.Cond.static ({ cls := "GoblinHouseholdLaw", name := "wake", desc := "(LGoblinHousehold;I[J)I" } : Jvm.MethodName)) ∈ lw_all := lw_g (lw_at lw_m7 34 rfl) rfl
theorem q1568 : (Jvm.Cond.codeWith ({ cls := "GoblinHouseholdLaw", name := "wake", desc := "(LGoblinHousehold;I[J)I" } : Jvm.MethodName) method_10_code (4 : Nat) (Option.some Jvm.ClassFile.FieldType.int) [((0 : Nat), (9 : Nat), (12 : Nat), (23 : Nat)), ((0 : Nat), (9 : Nat), (15 : Nat), (15 : Nat))]) ∈ lw_all := lw_g (lw_at lw_m7 35 rfl) rfl
theorem q1569 : (Jvm.Cond.methodLink "GoblinHouseholdLaw" (42 : Nat) ({ cls := "GoblinHousehold", name := "wake", desc := "(I)I" } : Jvm.MethodName)) ∈ lw_all := lw_g (lw_at lw_m7 36 rfl) rfl
theorem q1575 : (Jvm.Cond.methodLink "GoblinHouseholdLaw" (190 : Nat) ({ cls := "GoblinHouseholdLaw", name := "lend", desc := "(LGoblinHousehold;II[J)I" } : Jvm.MethodName)) ∈ lw_all := lw_g (lw_at lw_m7 42 rfl) rfl
theorem q1576 : (Jvm.Cond.static ({ cls := "GoblinHouseholdLaw", name := "lend", desc := "(LGoblinHousehold;II[J)I" } : Jvm.MethodName)) ∈ lw_all := lw_g (lw_at lw_m7 43 rfl) rfl
theorem q1577 : (Jvm.Cond.codeWith ({ cls := "GoblinHouseholdLaw", name := "lend", desc := "(LGoblinHousehold;II[J)I" } : Jvm.MethodName) method_11_code (5 : Nat) (Option.some Jvm.ClassFile.FieldType.int) [((0 : Nat), (10 : Nat), (13 : Nat), (23 : Nat)), ((0 : Nat), (10 : Nat), (17 : Nat), (13 : Nat)), ((0 : Nat), (10 : Nat), (21 : Nat), (32 : Nat))]) ∈ lw_all := lw_g (lw_at lw_m7 44 rfl) rfl
theorem q1578 : (Jvm.Cond.methodLink "GoblinHouseholdLaw" (45 : Nat) ({ cls := "GoblinHousehold", name := "lend", desc := "(II)I" } : Jvm.MethodName)) ∈ lw_all := lw_g (lw_at lw_m7 45 rfl) rfl
theorem q1594 : (Jvm.Cond.methodLink "GoblinHouseholdLaw" (194 : Nat) ({ cls := "GoblinHouseholdLaw", name := "fund", desc := "(LGoblinHousehold;I[J)I" } : Jvm.MethodName)) ∈ lw_all := lw_g (lw_at lw_m7 61 rfl) rfl
theorem q1595 : (Jvm.Cond.static ({ cls := "GoblinHouseholdLaw", name := "fund", desc := "(LGoblinHousehold;I[J)I" } : Jvm.MethodName)) ∈ lw_all := lw_g (lw_at lw_m7 62 rfl) rfl
theorem q1596 : (Jvm.Cond.codeWith ({ cls := "GoblinHouseholdLaw", name := "fund", desc := "(LGoblinHousehold;I[J)I" } : Jvm.MethodName) method_12_code (4 : Nat) (Option.some Jvm.ClassFile.FieldType.int) [((0 : Nat), (9 : Nat), (12 : Nat), (13 : Nat))]) ∈ lw_all := lw_g (lw_at lw_m7 63 rfl) rfl
theorem q1597 : (Jvm.Cond.methodLink "GoblinHouseholdLaw" (49 : Nat) ({ cls := "GoblinHousehold", name := "fund", desc := "(I)I" } : Jvm.MethodName)) ∈ lw_all := lw_g (lw_at lw_m7 64 rfl) rfl
theorem q1607 : (Jvm.Cond.methodLink "GoblinHouseholdLaw" (197 : Nat) ({ cls := "GoblinHouseholdLaw", name := "spend", desc := "(LGoblinHousehold;I[J)I" } : Jvm.MethodName)) ∈ lw_all := lw_g (lw_at lw_m7 74 rfl) rfl
theorem q1608 : (Jvm.Cond.static ({ cls := "GoblinHouseholdLaw", name := "spend", desc := "(LGoblinHousehold;I[J)I" } : Jvm.MethodName)) ∈ lw_all := lw_g (lw_at lw_m7 75 rfl) rfl
theorem q1609 : (Jvm.Cond.codeWith ({ cls := "GoblinHouseholdLaw", name := "spend", desc := "(LGoblinHousehold;I[J)I" } : Jvm.MethodName) method_13_code (4 : Nat) (Option.some Jvm.ClassFile.FieldType.int) [((0 : Nat), (9 : Nat), (12 : Nat), (13 : Nat)), ((0 : Nat), (9 : Nat), (15 : Nat), (32 : Nat))]) ∈ lw_all := lw_g (lw_at lw_m7 76 rfl) rfl
theorem q1610 : (Jvm.Cond.methodLink "GoblinHouseholdLaw" (52 : Nat) ({ cls := "GoblinHousehold", name := "spend", desc := "(I)I" } : Jvm.MethodName)) ∈ lw_all := lw_g (lw_at lw_m7 77 rfl) rfl
theorem q1620 : (Jvm.Cond.methodLink "GoblinHouseholdLaw" (200 : Nat) ({ cls := "GoblinHouseholdLaw", name := "passNights", desc := "(LGoblinHousehold;I[J)I" } : Jvm.MethodName)) ∈ lw_all := lw_g (lw_at lw_m7 87 rfl) rfl
theorem q1621 : (Jvm.Cond.static ({ cls := "GoblinHouseholdLaw", name := "passNights", desc := "(LGoblinHousehold;I[J)I" } : Jvm.MethodName)) ∈ lw_all := lw_g (lw_at lw_m7 88 rfl) rfl
theorem q1622 : (Jvm.Cond.codeWith ({ cls := "GoblinHouseholdLaw", name := "passNights", desc := "(LGoblinHousehold;I[J)I" } : Jvm.MethodName) method_14_code (4 : Nat) (Option.some Jvm.ClassFile.FieldType.int) [((0 : Nat), (9 : Nat), (12 : Nat), (13 : Nat))]) ∈ lw_all := lw_g (lw_at lw_m7 89 rfl) rfl
theorem q1623 : (Jvm.Cond.methodLink "GoblinHouseholdLaw" (55 : Nat) ({ cls := "GoblinHousehold", name := "passNights", desc := "(I)I" } : Jvm.MethodName)) ∈ lw_all := lw_g (lw_at lw_m7 90 rfl) rfl
theorem q1706 : (Jvm.Cond.methodLink "GoblinHouseholdLaw" (203 : Nat) ({ cls := "GoblinHouseholdLaw", name := "dust", desc := "(LGoblinHousehold;I[J)I" } : Jvm.MethodName)) ∈ lw_all := lw_g (lw_at lw_m7 173 rfl) rfl
theorem q1707 : (Jvm.Cond.static ({ cls := "GoblinHouseholdLaw", name := "dust", desc := "(LGoblinHousehold;I[J)I" } : Jvm.MethodName)) ∈ lw_all := lw_g (lw_at lw_m7 174 rfl) rfl
theorem q1708 : (Jvm.Cond.codeWith ({ cls := "GoblinHouseholdLaw", name := "dust", desc := "(LGoblinHousehold;I[J)I" } : Jvm.MethodName) method_15_code (4 : Nat) (Option.some Jvm.ClassFile.FieldType.int) [((0 : Nat), (9 : Nat), (12 : Nat), (23 : Nat))]) ∈ lw_all := lw_g (lw_at lw_m7 175 rfl) rfl
theorem q1709 : (Jvm.Cond.methodLink "GoblinHouseholdLaw" (58 : Nat) ({ cls := "GoblinHousehold", name := "dust", desc := "(I)I" } : Jvm.MethodName)) ∈ lw_all := lw_g (lw_at lw_m7 176 rfl) rfl
theorem q1719 : (Jvm.Cond.methodLink "GoblinHouseholdLaw" (206 : Nat) ({ cls := "GoblinHouseholdLaw", name := "roomByDust", desc := "(LGoblinHousehold;I[J)I" } : Jvm.MethodName)) ∈ lw_all := lw_g (lw_at lw_m7 186 rfl) rfl
theorem q1720 : (Jvm.Cond.static ({ cls := "GoblinHouseholdLaw", name := "roomByDust", desc := "(LGoblinHousehold;I[J)I" } : Jvm.MethodName)) ∈ lw_all := lw_g (lw_at lw_m7 187 rfl) rfl
theorem q1721 : (Jvm.Cond.codeWith ({ cls := "GoblinHouseholdLaw", name := "roomByDust", desc := "(LGoblinHousehold;I[J)I" } : Jvm.MethodName) method_16_code (4 : Nat) (Option.some Jvm.ClassFile.FieldType.int) [((0 : Nat), (9 : Nat), (12 : Nat), (37 : Nat))]) ∈ lw_all := lw_g (lw_at lw_m7 188 rfl) rfl
theorem q1722 : (Jvm.Cond.methodLink "GoblinHouseholdLaw" (61 : Nat) ({ cls := "GoblinHousehold", name := "roomByDust", desc := "(I)I" } : Jvm.MethodName)) ∈ lw_all := lw_g (lw_at lw_m7 189 rfl) rfl
theorem q1738 : (Jvm.Cond.methodLink "GoblinHouseholdLaw" (213 : Nat) ({ cls := "GoblinHouseholdLaw", name := "power", desc := "(LGoblinHousehold;I[J)I" } : Jvm.MethodName)) ∈ lw_all := lw_g (lw_at lw_m7 205 rfl) rfl
theorem q1739 : (Jvm.Cond.static ({ cls := "GoblinHouseholdLaw", name := "power", desc := "(LGoblinHousehold;I[J)I" } : Jvm.MethodName)) ∈ lw_all := lw_g (lw_at lw_m7 206 rfl) rfl
theorem q1740 : (Jvm.Cond.codeWith ({ cls := "GoblinHouseholdLaw", name := "power", desc := "(LGoblinHousehold;I[J)I" } : Jvm.MethodName) method_17_code (4 : Nat) (Option.some Jvm.ClassFile.FieldType.int) [((0 : Nat), (9 : Nat), (12 : Nat), (23 : Nat))]) ∈ lw_all := lw_g (lw_at lw_m7 207 rfl) rfl
theorem q1741 : (Jvm.Cond.methodLink "GoblinHouseholdLaw" (64 : Nat) ({ cls := "GoblinHousehold", name := "power", desc := "(I)I" } : Jvm.MethodName)) ∈ lw_all := lw_g (lw_at lw_m7 208 rfl) rfl
theorem q1751 : (Jvm.Cond.methodLink "GoblinHouseholdLaw" (216 : Nat) ({ cls := "GoblinHouseholdLaw", name := "isBanished", desc := "(LGoblinHousehold;I[J)I" } : Jvm.MethodName)) ∈ lw_all := lw_g (lw_at lw_m7 218 rfl) rfl
theorem q1752 : (Jvm.Cond.static ({ cls := "GoblinHouseholdLaw", name := "isBanished", desc := "(LGoblinHousehold;I[J)I" } : Jvm.MethodName)) ∈ lw_all := lw_g (lw_at lw_m7 219 rfl) rfl
theorem q1753 : (Jvm.Cond.codeWith ({ cls := "GoblinHouseholdLaw", name := "isBanished", desc := "(LGoblinHousehold;I[J)I" } : Jvm.MethodName) method_18_code (4 : Nat) (Option.some Jvm.ClassFile.FieldType.int) [((0 : Nat), (16 : Nat), (19 : Nat), (23 : Nat))]) ∈ lw_all := lw_g (lw_at lw_m7 220 rfl) rfl
theorem q1754 : (Jvm.Cond.methodLink "GoblinHouseholdLaw" (67 : Nat) ({ cls := "GoblinHousehold", name := "isBanished", desc := "(I)Z" } : Jvm.MethodName)) ∈ lw_all := lw_g (lw_at lw_m7 221 rfl) rfl
theorem q1759 : (Jvm.Cond.methodLink "GoblinHouseholdLaw" (223 : Nat) ({ cls := "GoblinHouseholdLaw", name := "strength", desc := "(LGoblinHousehold;I[J)I" } : Jvm.MethodName)) ∈ lw_all := lw_g (lw_at lw_m7 226 rfl) rfl
theorem q1760 : (Jvm.Cond.static ({ cls := "GoblinHouseholdLaw", name := "strength", desc := "(LGoblinHousehold;I[J)I" } : Jvm.MethodName)) ∈ lw_all := lw_g (lw_at lw_m7 227 rfl) rfl
theorem q1761 : (Jvm.Cond.codeWith ({ cls := "GoblinHouseholdLaw", name := "strength", desc := "(LGoblinHousehold;I[J)I" } : Jvm.MethodName) method_19_code (4 : Nat) (Option.some Jvm.ClassFile.FieldType.int) [((0 : Nat), (9 : Nat), (12 : Nat), (23 : Nat))]) ∈ lw_all := lw_g (lw_at lw_m7 228 rfl) rfl
theorem q1762 : (Jvm.Cond.methodLink "GoblinHouseholdLaw" (71 : Nat) ({ cls := "GoblinHousehold", name := "strength", desc := "(I)I" } : Jvm.MethodName)) ∈ lw_all := lw_g (lw_at lw_m7 229 rfl) rfl
theorem q1772 : (Jvm.Cond.methodLink "GoblinHouseholdLaw" (226 : Nat) ({ cls := "GoblinHouseholdLaw", name := "purse", desc := "(LGoblinHousehold;I[J)I" } : Jvm.MethodName)) ∈ lw_all := lw_g (lw_at lw_m7 239 rfl) rfl
theorem q1773 : (Jvm.Cond.static ({ cls := "GoblinHouseholdLaw", name := "purse", desc := "(LGoblinHousehold;I[J)I" } : Jvm.MethodName)) ∈ lw_all := lw_g (lw_at lw_m8 0 rfl) rfl
theorem q1774 : (Jvm.Cond.codeWith ({ cls := "GoblinHouseholdLaw", name := "purse", desc := "(LGoblinHousehold;I[J)I" } : Jvm.MethodName) method_20_code (4 : Nat) (Option.some Jvm.ClassFile.FieldType.int) [((0 : Nat), (9 : Nat), (12 : Nat), (23 : Nat))]) ∈ lw_all := lw_g (lw_at lw_m8 1 rfl) rfl
theorem q1775 : (Jvm.Cond.methodLink "GoblinHouseholdLaw" (74 : Nat) ({ cls := "GoblinHousehold", name := "purse", desc := "(I)I" } : Jvm.MethodName)) ∈ lw_all := lw_g (lw_at lw_m8 2 rfl) rfl
theorem q1780 : (Jvm.Cond.methodLink "GoblinHouseholdLaw" (229 : Nat) ({ cls := "GoblinHouseholdLaw", name := "debt", desc := "(LGoblinHousehold;I[J)I" } : Jvm.MethodName)) ∈ lw_all := lw_g (lw_at lw_m8 7 rfl) rfl
theorem q1781 : (Jvm.Cond.static ({ cls := "GoblinHouseholdLaw", name := "debt", desc := "(LGoblinHousehold;I[J)I" } : Jvm.MethodName)) ∈ lw_all := lw_g (lw_at lw_m8 8 rfl) rfl
theorem q1782 : (Jvm.Cond.codeWith ({ cls := "GoblinHouseholdLaw", name := "debt", desc := "(LGoblinHousehold;I[J)I" } : Jvm.MethodName) method_21_code (4 : Nat) (Option.some Jvm.ClassFile.FieldType.int) [((0 : Nat), (9 : Nat), (12 : Nat), (23 : Nat))]) ∈ lw_all := lw_g (lw_at lw_m8 9 rfl) rfl
theorem q1783 : (Jvm.Cond.methodLink "GoblinHouseholdLaw" (77 : Nat) ({ cls := "GoblinHousehold", name := "debt", desc := "(I)I" } : Jvm.MethodName)) ∈ lw_all := lw_g (lw_at lw_m8 10 rfl) rfl
theorem q1788 : (Jvm.Cond.methodLink "GoblinHouseholdLaw" (232 : Nat) ({ cls := "GoblinHouseholdLaw", name := "skippedNights", desc := "(LGoblinHousehold;I[J)I" } : Jvm.MethodName)) ∈ lw_all := lw_g (lw_at lw_m8 15 rfl) rfl
theorem q1789 : (Jvm.Cond.static ({ cls := "GoblinHouseholdLaw", name := "skippedNights", desc := "(LGoblinHousehold;I[J)I" } : Jvm.MethodName)) ∈ lw_all := lw_g (lw_at lw_m8 16 rfl) rfl
theorem q1790 : (Jvm.Cond.codeWith ({ cls := "GoblinHouseholdLaw", name := "skippedNights", desc := "(LGoblinHousehold;I[J)I" } : Jvm.MethodName) method_22_code (4 : Nat) (Option.some Jvm.ClassFile.FieldType.int) [((0 : Nat), (9 : Nat), (12 : Nat), (23 : Nat))]) ∈ lw_all := lw_g (lw_at lw_m8 17 rfl) rfl
theorem q1791 : (Jvm.Cond.methodLink "GoblinHouseholdLaw" (80 : Nat) ({ cls := "GoblinHousehold", name := "skippedNights", desc := "(I)I" } : Jvm.MethodName)) ∈ lw_all := lw_g (lw_at lw_m8 18 rfl) rfl
theorem q1795 : (Jvm.Cond.methodLink "GoblinHouseholdLaw" (235 : Nat) ({ cls := "GoblinHouseholdLaw", name := "isResting", desc := "(LGoblinHousehold;I[J)I" } : Jvm.MethodName)) ∈ lw_all := lw_g (lw_at lw_m8 22 rfl) rfl
theorem q1796 : (Jvm.Cond.static ({ cls := "GoblinHouseholdLaw", name := "isResting", desc := "(LGoblinHousehold;I[J)I" } : Jvm.MethodName)) ∈ lw_all := lw_g (lw_at lw_m8 23 rfl) rfl
theorem q1797 : (Jvm.Cond.codeWith ({ cls := "GoblinHouseholdLaw", name := "isResting", desc := "(LGoblinHousehold;I[J)I" } : Jvm.MethodName) method_23_code (4 : Nat) (Option.some Jvm.ClassFile.FieldType.int) [((0 : Nat), (16 : Nat), (19 : Nat), (23 : Nat))]) ∈ lw_all := lw_g (lw_at lw_m8 24 rfl) rfl
theorem q1798 : (Jvm.Cond.methodLink "GoblinHouseholdLaw" (83 : Nat) ({ cls := "GoblinHousehold", name := "isResting", desc := "(I)Z" } : Jvm.MethodName)) ∈ lw_all := lw_g (lw_at lw_m8 25 rfl) rfl
theorem q1802 : (Jvm.Cond.methodLink "GoblinHouseholdLaw" (238 : Nat) ({ cls := "GoblinHouseholdLaw", name := "energy", desc := "(LGoblinHousehold;I[J)I" } : Jvm.MethodName)) ∈ lw_all := lw_g (lw_at lw_m8 29 rfl) rfl
theorem q1803 : (Jvm.Cond.static ({ cls := "GoblinHouseholdLaw", name := "energy", desc := "(LGoblinHousehold;I[J)I" } : Jvm.MethodName)) ∈ lw_all := lw_g (lw_at lw_m8 30 rfl) rfl
theorem q1804 : (Jvm.Cond.codeWith ({ cls := "GoblinHouseholdLaw", name := "energy", desc := "(LGoblinHousehold;I[J)I" } : Jvm.MethodName) method_24_code (4 : Nat) (Option.some Jvm.ClassFile.FieldType.int) [((0 : Nat), (9 : Nat), (12 : Nat), (23 : Nat))]) ∈ lw_all := lw_g (lw_at lw_m8 31 rfl) rfl
theorem q1805 : (Jvm.Cond.methodLink "GoblinHouseholdLaw" (86 : Nat) ({ cls := "GoblinHousehold", name := "energy", desc := "(I)I" } : Jvm.MethodName)) ∈ lw_all := lw_g (lw_at lw_m8 32 rfl) rfl
theorem q1810 : (Jvm.Cond.methodLink "GoblinHouseholdLaw" (241 : Nat) ({ cls := "GoblinHouseholdLaw", name := "goblinByWealth", desc := "(LGoblinHousehold;I[J)I" } : Jvm.MethodName)) ∈ lw_all := lw_g (lw_at lw_m8 37 rfl) rfl
theorem q1811 : (Jvm.Cond.static ({ cls := "GoblinHouseholdLaw", name := "goblinByWealth", desc := "(LGoblinHousehold;I[J)I" } : Jvm.MethodName)) ∈ lw_all := lw_g (lw_at lw_m8 38 rfl) rfl
theorem q1812 : (Jvm.Cond.codeWith ({ cls := "GoblinHouseholdLaw", name := "goblinByWealth", desc := "(LGoblinHousehold;I[J)I" } : Jvm.MethodName) method_25_code (4 : Nat) (Option.some Jvm.ClassFile.FieldType.int) [((0 : Nat), (9 : Nat), (12 : Nat), (37 : Nat))]) ∈ lw_all := lw_g (lw_at lw_m8 39 rfl) rfl
theorem q1813 : (Jvm.Cond.methodLink "GoblinHouseholdLaw" (89 : Nat) ({ cls := "GoblinHousehold", name := "goblinByWealth", desc := "(I)I" } : Jvm.MethodName)) ∈ lw_all := lw_g (lw_at lw_m8 40 rfl) rfl
theorem q1831 : (Jvm.Cond.methodLink "GoblinHouseholdLaw" (244 : Nat) ({ cls := "GoblinHouseholdLaw", name := "bestWages", desc := "(LGoblinHousehold;I[J)I" } : Jvm.MethodName)) ∈ lw_all := lw_g (lw_at lw_m8 58 rfl) rfl
theorem q1832 : (Jvm.Cond.static ({ cls := "GoblinHouseholdLaw", name := "bestWages", desc := "(LGoblinHousehold;I[J)I" } : Jvm.MethodName)) ∈ lw_all := lw_g (lw_at lw_m8 59 rfl) rfl
theorem q1833 : (Jvm.Cond.codeWith ({ cls := "GoblinHouseholdLaw", name := "bestWages", desc := "(LGoblinHousehold;I[J)I" } : Jvm.MethodName) method_26_code (4 : Nat) (Option.some Jvm.ClassFile.FieldType.int) [((0 : Nat), (9 : Nat), (12 : Nat), (23 : Nat))]) ∈ lw_all := lw_g (lw_at lw_m8 60 rfl) rfl
theorem q1834 : (Jvm.Cond.methodLink "GoblinHouseholdLaw" (92 : Nat) ({ cls := "GoblinHousehold", name := "bestWages", desc := "(I)I" } : Jvm.MethodName)) ∈ lw_all := lw_g (lw_at lw_m8 61 rfl) rfl
theorem q1839 : (Jvm.Cond.methodLink "GoblinHouseholdLaw" (247 : Nat) ({ cls := "GoblinHouseholdLaw", name := "bestWagesByTable", desc := "(LGoblinHousehold;I[J)I" } : Jvm.MethodName)) ∈ lw_all := lw_g (lw_at lw_m8 66 rfl) rfl
theorem q1840 : (Jvm.Cond.static ({ cls := "GoblinHouseholdLaw", name := "bestWagesByTable", desc := "(LGoblinHousehold;I[J)I" } : Jvm.MethodName)) ∈ lw_all := lw_g (lw_at lw_m8 67 rfl) rfl
theorem q1841 : (Jvm.Cond.codeWith ({ cls := "GoblinHouseholdLaw", name := "bestWagesByTable", desc := "(LGoblinHousehold;I[J)I" } : Jvm.MethodName) method_27_code (4 : Nat) (Option.some Jvm.ClassFile.FieldType.int) [((0 : Nat), (9 : Nat), (12 : Nat), (23 : Nat))]) ∈ lw_all := lw_g (lw_at lw_m8 68 rfl) rfl
theorem q1842 : (Jvm.Cond.methodLink "GoblinHouseholdLaw" (95 : Nat) ({ cls := "GoblinHousehold", name := "bestWagesByTable", desc := "(I)I" } : Jvm.MethodName)) ∈ lw_all := lw_g (lw_at lw_m8 69 rfl) rfl
theorem q1847 : (Jvm.Cond.methodLink "GoblinHouseholdLaw" (254 : Nat) ({ cls := "GoblinHouseholdLaw", name := "contractAt", desc := "(LGoblinHousehold;I[J)I" } : Jvm.MethodName)) ∈ lw_all := lw_g (lw_at lw_m8 74 rfl) rfl
theorem q1848 : (Jvm.Cond.static ({ cls := "GoblinHouseholdLaw", name := "contractAt", desc := "(LGoblinHousehold;I[J)I" } : Jvm.MethodName)) ∈ lw_all := lw_g (lw_at lw_m8 75 rfl) rfl
theorem q1849 : (Jvm.Cond.codeWith ({ cls := "GoblinHouseholdLaw", name := "contractAt", desc := "(LGoblinHousehold;I[J)I" } : Jvm.MethodName) method_28_code (4 : Nat) (Option.some Jvm.ClassFile.FieldType.int) [((0 : Nat), (9 : Nat), (12 : Nat), (37 : Nat))]) ∈ lw_all := lw_g (lw_at lw_m8 76 rfl) rfl
theorem q1850 : (Jvm.Cond.methodLink "GoblinHouseholdLaw" (98 : Nat) ({ cls := "GoblinHousehold", name := "contractAt", desc := "(I)I" } : Jvm.MethodName)) ∈ lw_all := lw_g (lw_at lw_m8 77 rfl) rfl
theorem q1855 : (Jvm.Cond.methodLink "GoblinHouseholdLaw" (257 : Nat) ({ cls := "GoblinHouseholdLaw", name := "goblinOf", desc := "(LGoblinHousehold;I[J)I" } : Jvm.MethodName)) ∈ lw_all := lw_g (lw_at lw_m8 82 rfl) rfl
theorem q1856 : (Jvm.Cond.static ({ cls := "GoblinHouseholdLaw", name := "goblinOf", desc := "(LGoblinHousehold;I[J)I" } : Jvm.MethodName)) ∈ lw_all := lw_g (lw_at lw_m8 83 rfl) rfl
theorem q1857 : (Jvm.Cond.codeWith ({ cls := "GoblinHouseholdLaw", name := "goblinOf", desc := "(LGoblinHousehold;I[J)I" } : Jvm.MethodName) method_29_code (4 : Nat) (Option.some Jvm.ClassFile.FieldType.int) [((0 : Nat), (9 : Nat), (12 : Nat), (37 : Nat))]) ∈ lw_all := lw_g (lw_at lw_m8 84 rfl) rfl
theorem q1858 : (Jvm.Cond.methodLink "GoblinHouseholdLaw" (101 : Nat) ({ cls := "GoblinHousehold", name := "goblinOf", desc := "(I)I" } : Jvm.MethodName)) ∈ lw_all := lw_g (lw_at lw_m8 85 rfl) rfl
theorem q1871 : (Jvm.Cond.methodLink "GoblinHouseholdLaw" (260 : Nat) ({ cls := "GoblinHouseholdLaw", name := "roomOf", desc := "(LGoblinHousehold;I[J)I" } : Jvm.MethodName)) ∈ lw_all := lw_g (lw_at lw_m8 98 rfl) rfl
theorem q1872 : (Jvm.Cond.static ({ cls := "GoblinHouseholdLaw", name := "roomOf", desc := "(LGoblinHousehold;I[J)I" } : Jvm.MethodName)) ∈ lw_all := lw_g (lw_at lw_m8 99 rfl) rfl
theorem q1873 : (Jvm.Cond.codeWith ({ cls := "GoblinHouseholdLaw", name := "roomOf", desc := "(LGoblinHousehold;I[J)I" } : Jvm.MethodName) method_30_code (4 : Nat) (Option.some Jvm.ClassFile.FieldType.int) [((0 : Nat), (9 : Nat), (12 : Nat), (37 : Nat))]) ∈ lw_all := lw_g (lw_at lw_m8 100 rfl) rfl
theorem q1874 : (Jvm.Cond.methodLink "GoblinHouseholdLaw" (104 : Nat) ({ cls := "GoblinHousehold", name := "roomOf", desc := "(I)I" } : Jvm.MethodName)) ∈ lw_all := lw_g (lw_at lw_m8 101 rfl) rfl
theorem q1880 : (Jvm.Cond.methodLink "GoblinHouseholdLaw" (263 : Nat) ({ cls := "GoblinHouseholdLaw", name := "wage", desc := "(LGoblinHousehold;I[J)I" } : Jvm.MethodName)) ∈ lw_all := lw_g (lw_at lw_m8 107 rfl) rfl
theorem q1881 : (Jvm.Cond.static ({ cls := "GoblinHouseholdLaw", name := "wage", desc := "(LGoblinHousehold;I[J)I" } : Jvm.MethodName)) ∈ lw_all := lw_g (lw_at lw_m8 108 rfl) rfl
theorem q1882 : (Jvm.Cond.codeWith ({ cls := "GoblinHouseholdLaw", name := "wage", desc := "(LGoblinHousehold;I[J)I" } : Jvm.MethodName) method_31_code (4 : Nat) (Option.some Jvm.ClassFile.FieldType.int) [((0 : Nat), (9 : Nat), (12 : Nat), (37 : Nat))]) ∈ lw_all := lw_g (lw_at lw_m8 109 rfl) rfl
theorem q1883 : (Jvm.Cond.methodLink "GoblinHouseholdLaw" (107 : Nat) ({ cls := "GoblinHousehold", name := "wage", desc := "(I)I" } : Jvm.MethodName)) ∈ lw_all := lw_g (lw_at lw_m8 110 rfl) rfl
theorem q1889 : (Jvm.Cond.methodLink "GoblinHouseholdLaw" (266 : Nat) ({ cls := "GoblinHouseholdLaw", name := "effort", desc := "(LGoblinHousehold;I[J)I" } : Jvm.MethodName)) ∈ lw_all := lw_g (lw_at lw_m8 116 rfl) rfl
theorem q1890 : (Jvm.Cond.static ({ cls := "GoblinHouseholdLaw", name := "effort", desc := "(LGoblinHousehold;I[J)I" } : Jvm.MethodName)) ∈ lw_all := lw_g (lw_at lw_m8 117 rfl) rfl
theorem q1891 : (Jvm.Cond.codeWith ({ cls := "GoblinHouseholdLaw", name := "effort", desc := "(LGoblinHousehold;I[J)I" } : Jvm.MethodName) method_32_code (4 : Nat) (Option.some Jvm.ClassFile.FieldType.int) [((0 : Nat), (9 : Nat), (12 : Nat), (37 : Nat))]) ∈ lw_all := lw_g (lw_at lw_m8 118 rfl) rfl
theorem q1892 : (Jvm.Cond.methodLink "GoblinHouseholdLaw" (110 : Nat) ({ cls := "GoblinHousehold", name := "effort", desc := "(I)I" } : Jvm.MethodName)) ∈ lw_all := lw_g (lw_at lw_m8 119 rfl) rfl
theorem q1898 : (Jvm.Cond.methodLink "GoblinHouseholdLaw" (269 : Nat) ({ cls := "GoblinHouseholdLaw", name := "nightsUntilDone", desc := "(LGoblinHousehold;I[J)I" } : Jvm.MethodName)) ∈ lw_all := lw_g (lw_at lw_m8 125 rfl) rfl
theorem q1899 : (Jvm.Cond.static ({ cls := "GoblinHouseholdLaw", name := "nightsUntilDone", desc := "(LGoblinHousehold;I[J)I" } : Jvm.MethodName)) ∈ lw_all := lw_g (lw_at lw_m8 126 rfl) rfl
theorem q1900 : (Jvm.Cond.codeWith ({ cls := "GoblinHouseholdLaw", name := "nightsUntilDone", desc := "(LGoblinHousehold;I[J)I" } : Jvm.MethodName) method_33_code (4 : Nat) (Option.some Jvm.ClassFile.FieldType.int) [((0 : Nat), (9 : Nat), (12 : Nat), (37 : Nat)), ((0 : Nat), (9 : Nat), (15 : Nat), (15 : Nat))]) ∈ lw_all := lw_g (lw_at lw_m8 127 rfl) rfl
theorem q1901 : (Jvm.Cond.methodLink "GoblinHouseholdLaw" (113 : Nat) ({ cls := "GoblinHousehold", name := "nightsUntilDone", desc := "(I)I" } : Jvm.MethodName)) ∈ lw_all := lw_g (lw_at lw_m8 128 rfl) rfl
theorem q1923 : (Jvm.Cond.methodLink "GoblinHouseholdLaw" (272 : Nat) ({ cls := "GoblinHouseholdLaw", name := "chestAfter", desc := "(LGoblinHousehold;I[J)I" } : Jvm.MethodName)) ∈ lw_all := lw_g (lw_at lw_m8 150 rfl) rfl
theorem q1924 : (Jvm.Cond.static ({ cls := "GoblinHouseholdLaw", name := "chestAfter", desc := "(LGoblinHousehold;I[J)I" } : Jvm.MethodName)) ∈ lw_all := lw_g (lw_at lw_m8 151 rfl) rfl
theorem q1925 : (Jvm.Cond.codeWith ({ cls := "GoblinHouseholdLaw", name := "chestAfter", desc := "(LGoblinHousehold;I[J)I" } : Jvm.MethodName) method_34_code (4 : Nat) (Option.some Jvm.ClassFile.FieldType.int) [((0 : Nat), (9 : Nat), (12 : Nat), (13 : Nat))]) ∈ lw_all := lw_g (lw_at lw_m8 152 rfl) rfl
theorem q1926 : (Jvm.Cond.methodLink "GoblinHouseholdLaw" (116 : Nat) ({ cls := "GoblinHousehold", name := "chestAfter", desc := "(I)I" } : Jvm.MethodName)) ∈ lw_all := lw_g (lw_at lw_m8 153 rfl) rfl
theorem q1939 : (Jvm.Cond.methodLink "GoblinHouseholdLaw" (275 : Nat) ({ cls := "GoblinHouseholdLaw", name := "debtAfter", desc := "(LGoblinHousehold;II[J)I" } : Jvm.MethodName)) ∈ lw_all := lw_g (lw_at lw_m8 166 rfl) rfl
theorem q1940 : (Jvm.Cond.static ({ cls := "GoblinHouseholdLaw", name := "debtAfter", desc := "(LGoblinHousehold;II[J)I" } : Jvm.MethodName)) ∈ lw_all := lw_g (lw_at lw_m8 167 rfl) rfl
theorem q1941 : (Jvm.Cond.codeWith ({ cls := "GoblinHouseholdLaw", name := "debtAfter", desc := "(LGoblinHousehold;II[J)I" } : Jvm.MethodName) method_35_code (5 : Nat) (Option.some Jvm.ClassFile.FieldType.int) [((0 : Nat), (10 : Nat), (13 : Nat), (23 : Nat)), ((0 : Nat), (10 : Nat), (17 : Nat), (13 : Nat))]) ∈ lw_all := lw_g (lw_at lw_m8 168 rfl) rfl
theorem q1942 : (Jvm.Cond.methodLink "GoblinHouseholdLaw" (119 : Nat) ({ cls := "GoblinHousehold", name := "debtAfter", desc := "(II)I" } : Jvm.MethodName)) ∈ lw_all := lw_g (lw_at lw_m8 169 rfl) rfl
theorem q1946 : (Jvm.Cond.methodLink "GoblinHouseholdLaw" (315 : Nat) ({ cls := "GoblinHouseholdLaw", name := "reliability", desc := "(LGoblinHousehold;[D)I" } : Jvm.MethodName)) ∈ lw_all := lw_g (lw_at lw_m8 173 rfl) rfl
theorem q1947 : (Jvm.Cond.static ({ cls := "GoblinHouseholdLaw", name := "reliability", desc := "(LGoblinHousehold;[D)I" } : Jvm.MethodName)) ∈ lw_all := lw_g (lw_at lw_m8 174 rfl) rfl
theorem q1948 : (Jvm.Cond.codeWith ({ cls := "GoblinHouseholdLaw", name := "reliability", desc := "(LGoblinHousehold;[D)I" } : Jvm.MethodName) method_36_code (3 : Nat) (Option.some Jvm.ClassFile.FieldType.int) [((0 : Nat), (8 : Nat), (11 : Nat), (126 : Nat))]) ∈ lw_all := lw_g (lw_at lw_m8 175 rfl) rfl
theorem q1949 : (Jvm.Cond.classLink "GoblinHouseholdLaw" (126 : Nat) "java/lang/ArithmeticException") ∈ lw_all := lw_g (lw_at lw_m8 176 rfl) rfl
theorem q1963 : (Jvm.Cond.methodLink "GoblinHouseholdLaw" (122 : Nat) ({ cls := "GoblinHousehold", name := "reliability", desc := "()F" } : Jvm.MethodName)) ∈ lw_all := lw_g (lw_at lw_m8 190 rfl) rfl
theorem q1972 : (Jvm.Cond.methodLink "GoblinHouseholdLaw" (324 : Nat) ({ cls := "GoblinHouseholdLaw", name := "renderGoblin", desc := "(LGoblinHousehold;I[J)I" } : Jvm.MethodName)) ∈ lw_all := lw_g (lw_at lw_m8 199 rfl) rfl
theorem q1973 : (Jvm.Cond.static ({ cls := "GoblinHouseholdLaw", name := "renderGoblin", desc := "(LGoblinHousehold;I[J)I" } : Jvm.MethodName)) ∈ lw_all := lw_g (lw_at lw_m8 200 rfl) rfl
theorem q1974 : (Jvm.Cond.codeWith ({ cls := "GoblinHouseholdLaw", name := "renderGoblin", desc := "(LGoblinHousehold;I[J)I" } : Jvm.MethodName) method_37_code (4 : Nat) (Option.some Jvm.ClassFile.FieldType.int) [((0 : Nat), (9 : Nat), (12 : Nat), (23 : Nat))]) ∈ lw_all := lw_g (lw_at lw_m8 201 rfl) rfl
theorem q1975 : (Jvm.Cond.methodLink "GoblinHouseholdLaw" (128 : Nat) ({ cls := "GoblinHousehold", name := "renderGoblin", desc := "(I)I" } : Jvm.MethodName)) ∈ lw_all := lw_g (lw_at lw_m8 202 rfl) rfl
theorem q2007 : (Jvm.Cond.methodLink "GoblinHouseholdLaw" (331 : Nat) ({ cls := "GoblinHouseholdLaw", name := "outputAt", desc := "(LGoblinHousehold;I[J)I" } : Jvm.MethodName)) ∈ lw_all := lw_g (lw_at lw_m8 234 rfl) rfl
theorem q2008 : (Jvm.Cond.static ({ cls := "GoblinHouseholdLaw", name := "outputAt", desc := "(LGoblinHousehold;I[J)I" } : Jvm.MethodName)) ∈ lw_all := lw_g (lw_at lw_m8 235 rfl) rfl
theorem q2009 : (Jvm.Cond.codeWith ({ cls := "GoblinHouseholdLaw", name := "outputAt", desc := "(LGoblinHousehold;I[J)I" } : Jvm.MethodName) method_38_code (4 : Nat) (Option.some Jvm.ClassFile.FieldType.int) [((0 : Nat), (9 : Nat), (12 : Nat), (23 : Nat))]) ∈ lw_all := lw_g (lw_at lw_m8 236 rfl) rfl
theorem q2010 : (Jvm.Cond.methodLink "GoblinHouseholdLaw" (131 : Nat) ({ cls := "GoblinHousehold", name := "outputAt", desc := "(I)C" } : Jvm.MethodName)) ∈ lw_all := lw_g (lw_at lw_m8 237 rfl) rfl
theorem q2032 : (Jvm.Cond.methodLink "GoblinHouseholdLaw" (334 : Nat) ({ cls := "GoblinHouseholdLaw", name := "type", desc := "(LGoblinHousehold;C[J)I" } : Jvm.MethodName)) ∈ lw_all := lw_g (lw_at lw_m9 19 rfl) rfl
theorem q2033 : (Jvm.Cond.static ({ cls := "GoblinHouseholdLaw", name := "type", desc := "(LGoblinHousehold;C[J)I" } : Jvm.MethodName)) ∈ lw_all := lw_g (lw_at lw_m9 20 rfl) rfl
theorem q2034 : (Jvm.Cond.codeWith ({ cls := "GoblinHouseholdLaw", name := "type", desc := "(LGoblinHousehold;C[J)I" } : Jvm.MethodName) method_39_code (4 : Nat) (Option.some Jvm.ClassFile.FieldType.int) [((0 : Nat), (9 : Nat), (12 : Nat), (13 : Nat)), ((0 : Nat), (9 : Nat), (15 : Nat), (15 : Nat))]) ∈ lw_all := lw_g (lw_at lw_m9 21 rfl) rfl
theorem q2035 : (Jvm.Cond.methodLink "GoblinHouseholdLaw" (135 : Nat) ({ cls := "GoblinHousehold", name := "type", desc := "(C)I" } : Jvm.MethodName)) ∈ lw_all := lw_g (lw_at lw_m9 22 rfl) rfl
theorem q2053 : (Jvm.Cond.methodLink "GoblinHouseholdLaw" (338 : Nat) ({ cls := "GoblinHouseholdLaw", name := "runScript", desc := "(LGoblinHousehold;[J)I" } : Jvm.MethodName)) ∈ lw_all := lw_g (lw_at lw_m9 40 rfl) rfl
theorem q2054 : (Jvm.Cond.static ({ cls := "GoblinHouseholdLaw", name := "runScript", desc := "(LGoblinHousehold;[J)I" } : Jvm.MethodName)) ∈ lw_all := lw_g (lw_at lw_m9 41 rfl) rfl
theorem q2055 : (Jvm.Cond.codeWith ({ cls := "GoblinHouseholdLaw", name := "runScript", desc := "(LGoblinHousehold;[J)I" } : Jvm.MethodName) method_40_code (3 : Nat) (Option.some Jvm.ClassFile.FieldType.int) [((0 : Nat), (8 : Nat), (11 : Nat), (13 : Nat)), ((0 : Nat), (8 : Nat), (14 : Nat), (15 : Nat))]) ∈ lw_all := lw_g (lw_at lw_m9 42 rfl) rfl
theorem q2056 : (Jvm.Cond.methodLink "GoblinHouseholdLaw" (139 : Nat) ({ cls := "GoblinHousehold", name := "runScript", desc := "()I" } : Jvm.MethodName)) ∈ lw_all := lw_g (lw_at lw_m9 43 rfl) rfl
theorem q2420 : (Jvm.Cond.methodLink "GoblinHouseholdLaw" (342 : Nat) ({ cls := "GoblinHouseholdLaw", name := "errorPosition", desc := "(LGoblinHousehold;[J)I" } : Jvm.MethodName)) ∈ lw_all := lw_g (lw_at lw_m10 167 rfl) rfl
theorem q2421 : (Jvm.Cond.static ({ cls := "GoblinHouseholdLaw", name := "errorPosition", desc := "(LGoblinHousehold;[J)I" } : Jvm.MethodName)) ∈ lw_all := lw_g (lw_at lw_m10 168 rfl) rfl
theorem q2422 : (Jvm.Cond.codeWith ({ cls := "GoblinHouseholdLaw", name := "errorPosition", desc := "(LGoblinHousehold;[J)I" } : Jvm.MethodName) method_41_code (3 : Nat) (Option.some Jvm.ClassFile.FieldType.int) [((0 : Nat), (8 : Nat), (11 : Nat), (37 : Nat))]) ∈ lw_all := lw_g (lw_at lw_m10 169 rfl) rfl
theorem q2423 : (Jvm.Cond.methodLink "GoblinHouseholdLaw" (143 : Nat) ({ cls := "GoblinHousehold", name := "errorPosition", desc := "()I" } : Jvm.MethodName)) ∈ lw_all := lw_g (lw_at lw_m10 170 rfl) rfl
theorem q2427 : (Jvm.Cond.methodLink "GoblinHouseholdLaw" (345 : Nat) ({ cls := "GoblinHouseholdLaw", name := "failedCommand", desc := "(LGoblinHousehold;[J)I" } : Jvm.MethodName)) ∈ lw_all := lw_g (lw_at lw_m10 174 rfl) rfl
theorem q2428 : (Jvm.Cond.static ({ cls := "GoblinHouseholdLaw", name := "failedCommand", desc := "(LGoblinHousehold;[J)I" } : Jvm.MethodName)) ∈ lw_all := lw_g (lw_at lw_m10 175 rfl) rfl
theorem q2429 : (Jvm.Cond.codeWith ({ cls := "GoblinHouseholdLaw", name := "failedCommand", desc := "(LGoblinHousehold;[J)I" } : Jvm.MethodName) method_42_code (3 : Nat) (Option.some Jvm.ClassFile.FieldType.int) [((0 : Nat), (8 : Nat), (11 : Nat), (37 : Nat))]) ∈ lw_all := lw_g (lw_at lw_m10 176 rfl) rfl
theorem q2430 : (Jvm.Cond.methodLink "GoblinHouseholdLaw" (146 : Nat) ({ cls := "GoblinHousehold", name := "failedCommand", desc := "()I" } : Jvm.MethodName)) ∈ lw_all := lw_g (lw_at lw_m10 177 rfl) rfl
theorem q2434 : (Jvm.Cond.methodLink "GoblinHouseholdLaw" (348 : Nat) ({ cls := "GoblinHouseholdLaw", name := "undo", desc := "(LGoblinHousehold;[J)I" } : Jvm.MethodName)) ∈ lw_all := lw_g (lw_at lw_m10 181 rfl) rfl
theorem q2435 : (Jvm.Cond.static ({ cls := "GoblinHouseholdLaw", name := "undo", desc := "(LGoblinHousehold;[J)I" } : Jvm.MethodName)) ∈ lw_all := lw_g (lw_at lw_m10 182 rfl) rfl
theorem q2436 : (Jvm.Cond.codeWith ({ cls := "GoblinHouseholdLaw", name := "undo", desc := "(LGoblinHousehold;[J)I" } : Jvm.MethodName) method_43_code (3 : Nat) (Option.some Jvm.ClassFile.FieldType.int) [((0 : Nat), (8 : Nat), (11 : Nat), (37 : Nat))]) ∈ lw_all := lw_g (lw_at lw_m10 183 rfl) rfl
theorem q2437 : (Jvm.Cond.methodLink "GoblinHouseholdLaw" (149 : Nat) ({ cls := "GoblinHousehold", name := "undo", desc := "()I" } : Jvm.MethodName)) ∈ lw_all := lw_g (lw_at lw_m10 184 rfl) rfl
theorem q2460 : (Jvm.Cond.methodLink "GoblinHouseholdLaw" (355 : Nat) ({ cls := "GoblinHouseholdLaw", name := "restore", desc := "(LGoblinHousehold;[J)I" } : Jvm.MethodName)) ∈ lw_all := lw_g (lw_at lw_m10 207 rfl) rfl
theorem q2461 : (Jvm.Cond.static ({ cls := "GoblinHouseholdLaw", name := "restore", desc := "(LGoblinHousehold;[J)I" } : Jvm.MethodName)) ∈ lw_all := lw_g (lw_at lw_m10 208 rfl) rfl
theorem q2462 : (Jvm.Cond.codeWith ({ cls := "GoblinHouseholdLaw", name := "restore", desc := "(LGoblinHousehold;[J)I" } : Jvm.MethodName) method_44_code (3 : Nat) (Option.some Jvm.ClassFile.FieldType.int) [((0 : Nat), (8 : Nat), (11 : Nat), (15 : Nat))]) ∈ lw_all := lw_g (lw_at lw_m10 209 rfl) rfl
theorem q2463 : (Jvm.Cond.methodLink "GoblinHouseholdLaw" (152 : Nat) ({ cls := "GoblinHousehold", name := "restore", desc := "()I" } : Jvm.MethodName)) ∈ lw_all := lw_g (lw_at lw_m10 210 rfl) rfl
theorem q2471 : (Jvm.Cond.classLink "GoblinHouseholdLaw" (156 : Nat) "GoblinHouseholdModel") ∈ lw_all := lw_g (lw_at lw_m10 218 rfl) rfl
theorem q2473 : (Jvm.Cond.methodLink "GoblinHouseholdLaw" (158 : Nat) ({ cls := "GoblinHouseholdModel", name := "<init>", desc := "()V" } : Jvm.MethodName)) ∈ lw_all := lw_g (lw_at lw_m10 220 rfl) rfl
theorem q2538 : (Jvm.Cond.methodLink "GoblinHouseholdLaw" (165 : Nat) ({ cls := "GoblinHouseholdModel", name := "thrown", desc := "()I" } : Jvm.MethodName)) ∈ lw_all := lw_g (lw_at lw_m11 45 rfl) rfl
theorem q2542 : (Jvm.Cond.methodLink "GoblinHouseholdLaw" (350 : Nat) ({ cls := "GoblinHouseholdModel", name := "undo", desc := "()I" } : Jvm.MethodName)) ∈ lw_all := lw_g (lw_at lw_m11 49 rfl) rfl
theorem q2557 : (Jvm.Cond.methodLink "GoblinHouseholdLaw" (354 : Nat) ({ cls := "GoblinHouseholdModel", name := "save", desc := "()I" } : Jvm.MethodName)) ∈ lw_all := lw_g (lw_at lw_m11 64 rfl) rfl
theorem q2561 : (Jvm.Cond.methodLink "GoblinHouseholdLaw" (357 : Nat) ({ cls := "GoblinHouseholdModel", name := "restore", desc := "()I" } : Jvm.MethodName)) ∈ lw_all := lw_g (lw_at lw_m11 68 rfl) rfl
theorem q2565 : (Jvm.Cond.methodLink "GoblinHouseholdLaw" (164 : Nat) ({ cls := "GoblinHouseholdModel", name := "addGoblin", desc := "(I)I" } : Jvm.MethodName)) ∈ lw_all := lw_g (lw_at lw_m11 72 rfl) rfl
theorem q2588 : (Jvm.Cond.methodLink "GoblinHouseholdLaw" (170 : Nat) ({ cls := "GoblinHouseholdModel", name := "addBroom", desc := "(I)I" } : Jvm.MethodName)) ∈ lw_all := lw_g (lw_at lw_m11 95 rfl) rfl
theorem q2596 : (Jvm.Cond.methodLink "GoblinHouseholdLaw" (173 : Nat) ({ cls := "GoblinHouseholdModel", name := "banishBroom", desc := "(I)I" } : Jvm.MethodName)) ∈ lw_all := lw_g (lw_at lw_m11 103 rfl) rfl
theorem q2616 : (Jvm.Cond.methodLink "GoblinHouseholdLaw" (176 : Nat) ({ cls := "GoblinHouseholdModel", name := "recallBroom", desc := "(I)I" } : Jvm.MethodName)) ∈ lw_all := lw_g (lw_at lw_m11 123 rfl) rfl
theorem q2620 : (Jvm.Cond.methodLink "GoblinHouseholdLaw" (186 : Nat) ({ cls := "GoblinHouseholdModel", name := "rest", desc := "(I)I" } : Jvm.MethodName)) ∈ lw_all := lw_g (lw_at lw_m11 127 rfl) rfl
theorem q2640 : (Jvm.Cond.methodLink "GoblinHouseholdLaw" (189 : Nat) ({ cls := "GoblinHouseholdModel", name := "wake", desc := "(I)I" } : Jvm.MethodName)) ∈ lw_all := lw_g (lw_at lw_m11 147 rfl) rfl
theorem q2644 : (Jvm.Cond.methodLink "GoblinHouseholdLaw" (180 : Nat) ({ cls := "GoblinHouseholdModel", name := "hire", desc := "(IIII)I" } : Jvm.MethodName)) ∈ lw_all := lw_g (lw_at lw_m11 151 rfl) rfl
theorem q2663 : (Jvm.Cond.methodLink "GoblinHouseholdLaw" (183 : Nat) ({ cls := "GoblinHouseholdModel", name := "cancelContract", desc := "(I)I" } : Jvm.MethodName)) ∈ lw_all := lw_g (lw_at lw_m11 170 rfl) rfl
theorem q2680 : (Jvm.Cond.methodLink "GoblinHouseholdLaw" (193 : Nat) ({ cls := "GoblinHouseholdModel", name := "lend", desc := "(II)I" } : Jvm.MethodName)) ∈ lw_all := lw_g (lw_at lw_m11 187 rfl) rfl
theorem q2688 : (Jvm.Cond.methodLink "GoblinHouseholdLaw" (196 : Nat) ({ cls := "GoblinHouseholdModel", name := "fund", desc := "(I)I" } : Jvm.MethodName)) ∈ lw_all := lw_g (lw_at lw_m11 195 rfl) rfl
theorem q2696 : (Jvm.Cond.methodLink "GoblinHouseholdLaw" (199 : Nat) ({ cls := "GoblinHouseholdModel", name := "spend", desc := "(I)I" } : Jvm.MethodName)) ∈ lw_all := lw_g (lw_at lw_m11 203 rfl) rfl
theorem q2704 : (Jvm.Cond.methodLink "GoblinHouseholdLaw" (202 : Nat) ({ cls := "GoblinHouseholdModel", name := "passNights", desc := "(I)I" } : Jvm.MethodName)) ∈ lw_all := lw_g (lw_at lw_m11 211 rfl) rfl
theorem q2737 : (Jvm.Cond.methodLink "GoblinHouseholdLaw" (205 : Nat) ({ cls := "GoblinHouseholdModel", name := "dust", desc := "(I)I" } : Jvm.MethodName)) ∈ lw_all := lw_g (lw_at lw_m12 4 rfl) rfl
theorem q2741 : (Jvm.Cond.methodLink "GoblinHouseholdLaw" (208 : Nat) ({ cls := "GoblinHouseholdModel", name := "roomByDust", desc := "(I)I" } : Jvm.MethodName)) ∈ lw_all := lw_g (lw_at lw_m12 8 rfl) rfl
theorem q2745 : (Jvm.Cond.methodLink "GoblinHouseholdLaw" (212 : Nat) ({ cls := "GoblinHouseholdModel", name := "broomCount", desc := "()I" } : Jvm.MethodName)) ∈ lw_all := lw_g (lw_at lw_m12 12 rfl) rfl
theorem q2749 : (Jvm.Cond.methodLink "GoblinHouseholdLaw" (215 : Nat) ({ cls := "GoblinHouseholdModel", name := "power", desc := "(I)I" } : Jvm.MethodName)) ∈ lw_all := lw_g (lw_at lw_m12 16 rfl) rfl
theorem q2753 : (Jvm.Cond.methodLink "GoblinHouseholdLaw" (218 : Nat) ({ cls := "GoblinHouseholdModel", name := "isBanished", desc := "(I)Z" } : Jvm.MethodName)) ∈ lw_all := lw_g (lw_at lw_m12 20 rfl) rfl
theorem q2757 : (Jvm.Cond.methodLink "GoblinHouseholdLaw" (222 : Nat) ({ cls := "GoblinHouseholdModel", name := "goblinCount", desc := "()I" } : Jvm.MethodName)) ∈ lw_all := lw_g (lw_at lw_m12 24 rfl) rfl
theorem q2761 : (Jvm.Cond.methodLink "GoblinHouseholdLaw" (225 : Nat) ({ cls := "GoblinHouseholdModel", name := "strength", desc := "(I)I" } : Jvm.MethodName)) ∈ lw_all := lw_g (lw_at lw_m12 28 rfl) rfl
theorem q2769 : (Jvm.Cond.methodLink "GoblinHouseholdLaw" (228 : Nat) ({ cls := "GoblinHouseholdModel", name := "purse", desc := "(I)I" } : Jvm.MethodName)) ∈ lw_all := lw_g (lw_at lw_m12 36 rfl) rfl
theorem q2773 : (Jvm.Cond.methodLink "GoblinHouseholdLaw" (231 : Nat) ({ cls := "GoblinHouseholdModel", name := "debt", desc := "(I)I" } : Jvm.MethodName)) ∈ lw_all := lw_g (lw_at lw_m12 40 rfl) rfl
theorem q2777 : (Jvm.Cond.methodLink "GoblinHouseholdLaw" (234 : Nat) ({ cls := "GoblinHouseholdModel", name := "skippedNights", desc := "(I)I" } : Jvm.MethodName)) ∈ lw_all := lw_g (lw_at lw_m12 44 rfl) rfl
theorem q2781 : (Jvm.Cond.methodLink "GoblinHouseholdLaw" (237 : Nat) ({ cls := "GoblinHouseholdModel", name := "isResting", desc := "(I)Z" } : Jvm.MethodName)) ∈ lw_all := lw_g (lw_at lw_m12 48 rfl) rfl
theorem q2785 : (Jvm.Cond.methodLink "GoblinHouseholdLaw" (240 : Nat) ({ cls := "GoblinHouseholdModel", name := "energy", desc := "(I)I" } : Jvm.MethodName)) ∈ lw_all := lw_g (lw_at lw_m12 52 rfl) rfl
theorem q2789 : (Jvm.Cond.methodLink "GoblinHouseholdLaw" (243 : Nat) ({ cls := "GoblinHouseholdModel", name := "goblinByWealth", desc := "(I)I" } : Jvm.MethodName)) ∈ lw_all := lw_g (lw_at lw_m12 56 rfl) rfl
theorem q2793 : (Jvm.Cond.methodLink "GoblinHouseholdLaw" (246 : Nat) ({ cls := "GoblinHouseholdModel", name := "bestWages", desc := "(I)I" } : Jvm.MethodName)) ∈ lw_all := lw_g (lw_at lw_m12 60 rfl) rfl
theorem q2801 : (Jvm.Cond.methodLink "GoblinHouseholdLaw" (249 : Nat) ({ cls := "GoblinHouseholdModel", name := "bestWagesByTable", desc := "(I)I" } : Jvm.MethodName)) ∈ lw_all := lw_g (lw_at lw_m12 68 rfl) rfl
theorem q2805 : (Jvm.Cond.methodLink "GoblinHouseholdLaw" (253 : Nat) ({ cls := "GoblinHouseholdModel", name := "openContracts", desc := "()I" } : Jvm.MethodName)) ∈ lw_all := lw_g (lw_at lw_m12 72 rfl) rfl
theorem q2809 : (Jvm.Cond.methodLink "GoblinHouseholdLaw" (256 : Nat) ({ cls := "GoblinHouseholdModel", name := "contractAt", desc := "(I)I" } : Jvm.MethodName)) ∈ lw_all := lw_g (lw_at lw_m12 76 rfl) rfl
theorem q2813 : (Jvm.Cond.methodLink "GoblinHouseholdLaw" (259 : Nat) ({ cls := "GoblinHouseholdModel", name := "goblinOf", desc := "(I)I" } : Jvm.MethodName)) ∈ lw_all := lw_g (lw_at lw_m12 80 rfl) rfl
theorem q2821 : (Jvm.Cond.methodLink "GoblinHouseholdLaw" (262 : Nat) ({ cls := "GoblinHouseholdModel", name := "roomOf", desc := "(I)I" } : Jvm.MethodName)) ∈ lw_all := lw_g (lw_at lw_m12 88 rfl) rfl
theorem q2825 : (Jvm.Cond.methodLink "GoblinHouseholdLaw" (265 : Nat) ({ cls := "GoblinHouseholdModel", name := "wage", desc := "(I)I" } : Jvm.MethodName)) ∈ lw_all := lw_g (lw_at lw_m12 92 rfl) rfl
theorem q2829 : (Jvm.Cond.methodLink "GoblinHouseholdLaw" (268 : Nat) ({ cls := "GoblinHouseholdModel", name := "effort", desc := "(I)I" } : Jvm.MethodName)) ∈ lw_all := lw_g (lw_at lw_m12 96 rfl) rfl
theorem q2833 : (Jvm.Cond.methodLink "GoblinHouseholdLaw" (271 : Nat) ({ cls := "GoblinHouseholdModel", name := "nightsUntilDone", desc := "(I)I" } : Jvm.MethodName)) ∈ lw_all := lw_g (lw_at lw_m12 100 rfl) rfl
theorem q2841 : (Jvm.Cond.methodLink "GoblinHouseholdLaw" (274 : Nat) ({ cls := "GoblinHouseholdModel", name := "chestAfter", desc := "(I)I" } : Jvm.MethodName)) ∈ lw_all := lw_g (lw_at lw_m12 108 rfl) rfl
theorem q2849 : (Jvm.Cond.methodLink "GoblinHouseholdLaw" (277 : Nat) ({ cls := "GoblinHouseholdModel", name := "debtAfter", desc := "(II)I" } : Jvm.MethodName)) ∈ lw_all := lw_g (lw_at lw_m12 116 rfl) rfl
theorem q2853 : (Jvm.Cond.methodLink "GoblinHouseholdLaw" (281 : Nat) ({ cls := "GoblinHouseholdModel", name := "night", desc := "()I" } : Jvm.MethodName)) ∈ lw_all := lw_g (lw_at lw_m12 120 rfl) rfl
theorem q2861 : (Jvm.Cond.methodLink "GoblinHouseholdLaw" (285 : Nat) ({ cls := "GoblinHouseholdModel", name := "chest", desc := "()I" } : Jvm.MethodName)) ∈ lw_all := lw_g (lw_at lw_m12 128 rfl) rfl
theorem q2865 : (Jvm.Cond.methodLink "GoblinHouseholdLaw" (289 : Nat) ({ cls := "GoblinHouseholdModel", name := "allCrumbs", desc := "()I" } : Jvm.MethodName)) ∈ lw_all := lw_g (lw_at lw_m12 132 rfl) rfl
theorem q2869 : (Jvm.Cond.methodLink "GoblinHouseholdLaw" (293 : Nat) ({ cls := "GoblinHouseholdModel", name := "allCrumbsByAccounts", desc := "()I" } : Jvm.MethodName)) ∈ lw_all := lw_g (lw_at lw_m12 136 rfl) rfl
theorem q2873 : (Jvm.Cond.methodLink "GoblinHouseholdLaw" (297 : Nat) ({ cls := "GoblinHouseholdModel", name := "doneTotal", desc := "()I" } : Jvm.MethodName)) ∈ lw_all := lw_g (lw_at lw_m12 140 rfl) rfl
theorem q2877 : (Jvm.Cond.methodLink "GoblinHouseholdLaw" (301 : Nat) ({ cls := "GoblinHouseholdModel", name := "brokenTotal", desc := "()I" } : Jvm.MethodName)) ∈ lw_all := lw_g (lw_at lw_m12 144 rfl) rfl
theorem q2881 : (Jvm.Cond.methodLink "GoblinHouseholdLaw" (305 : Nat) ({ cls := "GoblinHouseholdModel", name := "unpaidTotal", desc := "()I" } : Jvm.MethodName)) ∈ lw_all := lw_g (lw_at lw_m12 148 rfl) rfl
theorem q2885 : (Jvm.Cond.methodLink "GoblinHouseholdLaw" (309 : Nat) ({ cls := "GoblinHouseholdModel", name := "interestTotal", desc := "()I" } : Jvm.MethodName)) ∈ lw_all := lw_g (lw_at lw_m12 152 rfl) rfl
theorem q2889 : (Jvm.Cond.methodLink "GoblinHouseholdLaw" (314 : Nat) ({ cls := "GoblinHouseholdModel", name := "meanDust", desc := "()D" } : Jvm.MethodName)) ∈ lw_all := lw_g (lw_at lw_m12 156 rfl) rfl
theorem q2894 : (Jvm.Cond.methodLink "GoblinHouseholdLaw" (318 : Nat) ({ cls := "GoblinHouseholdModel", name := "reliability", desc := "()F" } : Jvm.MethodName)) ∈ lw_all := lw_g (lw_at lw_m12 161 rfl) rfl
theorem q2898 : (Jvm.Cond.methodLink "GoblinHouseholdLaw" (323 : Nat) ({ cls := "GoblinHouseholdModel", name := "isConsistent", desc := "()Z" } : Jvm.MethodName)) ∈ lw_all := lw_g (lw_at lw_m12 165 rfl) rfl
theorem q2902 : (Jvm.Cond.methodLink "GoblinHouseholdLaw" (326 : Nat) ({ cls := "GoblinHouseholdModel", name := "renderGoblin", desc := "(I)I" } : Jvm.MethodName)) ∈ lw_all := lw_g (lw_at lw_m12 169 rfl) rfl
theorem q2914 : (Jvm.Cond.methodLink "GoblinHouseholdLaw" (330 : Nat) ({ cls := "GoblinHouseholdModel", name := "renderContracts", desc := "()I" } : Jvm.MethodName)) ∈ lw_all := lw_g (lw_at lw_m12 181 rfl) rfl
theorem q2922 : (Jvm.Cond.methodLink "GoblinHouseholdLaw" (333 : Nat) ({ cls := "GoblinHouseholdModel", name := "outputAt", desc := "(I)C" } : Jvm.MethodName)) ∈ lw_all := lw_g (lw_at lw_m12 189 rfl) rfl
theorem q2926 : (Jvm.Cond.methodLink "GoblinHouseholdLaw" (337 : Nat) ({ cls := "GoblinHouseholdModel", name := "type", desc := "(C)I" } : Jvm.MethodName)) ∈ lw_all := lw_g (lw_at lw_m12 193 rfl) rfl
theorem q2930 : (Jvm.Cond.methodLink "GoblinHouseholdLaw" (341 : Nat) ({ cls := "GoblinHouseholdModel", name := "runScript", desc := "()I" } : Jvm.MethodName)) ∈ lw_all := lw_g (lw_at lw_m12 197 rfl) rfl
theorem q2979 : (Jvm.Cond.methodLink "GoblinHouseholdLaw" (344 : Nat) ({ cls := "GoblinHouseholdModel", name := "errorPosition", desc := "()I" } : Jvm.MethodName)) ∈ lw_all := lw_g (lw_at lw_m13 6 rfl) rfl
theorem q2983 : (Jvm.Cond.methodLink "GoblinHouseholdLaw" (347 : Nat) ({ cls := "GoblinHouseholdModel", name := "failedCommand", desc := "()I" } : Jvm.MethodName)) ∈ lw_all := lw_g (lw_at lw_m13 10 rfl) rfl
/-! the law's own entry -/
set_option maxRecDepth 100000
abbrev cL_law : ByteArray := code
def dkwL_law_115 : List UInt8 := [4, 172]
abbrev dktL_law_115 : List UInt8 := dkwL_law_115 ++ []
def dkwL_law_114 : List UInt8 := [154, 0, 15, 45, 3, 47, 21, 7, 133, 148, 153, 0, 5, 3, 172, 167, 0, 3, 132, 5, 5, 167, 244, 208]
abbrev dktL_law_114 : List UInt8 := dkwL_law_114 ++ dktL_law_115
def dkwL_law_113 : List UInt8 := [184, 1, 99, 54, 6, 44, 182, 1, 101, 54, 7, 44, 182, 0, 165, 21, 6, 159, 0, 5, 3, 172, 21, 6]
abbrev dktL_law_113 : List UInt8 := dkwL_law_113 ++ dktL_law_114
def dkwL_law_112 : List UInt8 := [153, 0, 5, 3, 172, 167, 0, 60, 43, 182, 1, 95, 44, 182, 1, 98, 159, 0, 49, 3, 172, 43, 45]
abbrev dktL_law_112 : List UInt8 := dkwL_law_112 ++ dktL_law_113
def dkwL_law_111 : List UInt8 := [182, 0, 165, 21, 6, 159, 0, 5, 3, 172, 21, 6, 154, 0, 15, 45, 3, 47, 21, 7, 133, 148]
abbrev dktL_law_111 : List UInt8 := dkwL_law_111 ++ dktL_law_112
def dkwL_law_110 : List UInt8 := [153, 0, 5, 3, 172, 167, 0, 104, 43, 45, 184, 1, 92, 54, 6, 44, 182, 1, 94, 54, 7, 44]
abbrev dktL_law_110 : List UInt8 := dkwL_law_110 ++ dktL_law_111
def dkwL_law_109 : List UInt8 := [182, 0, 165, 21, 6, 159, 0, 5, 3, 172, 21, 6, 154, 0, 15, 45, 3, 47, 21, 7, 133, 148]
abbrev dktL_law_109 : List UInt8 := dkwL_law_109 ++ dktL_law_110
def dkwL_law_108 : List UInt8 := [153, 0, 5, 3, 172, 167, 0, 148, 43, 45, 184, 1, 89, 54, 6, 44, 182, 1, 91, 54, 7, 44]
abbrev dktL_law_108 : List UInt8 := dkwL_law_108 ++ dktL_law_109
def dkwL_law_107 : List UInt8 := [182, 0, 165, 21, 6, 159, 0, 5, 3, 172, 21, 6, 154, 0, 15, 45, 3, 47, 21, 7, 133, 148]
abbrev dktL_law_107 : List UInt8 := dkwL_law_107 ++ dktL_law_108
def dkwL_law_106 : List UInt8 := [148, 153, 0, 5, 3, 172, 167, 0, 192, 43, 45, 184, 1, 86, 54, 6, 44, 182, 1, 88, 54, 7, 44]
abbrev dktL_law_106 : List UInt8 := dkwL_law_106 ++ dktL_law_107
def dkwL_law_105 : List UInt8 := [54, 7, 44, 182, 0, 165, 21, 6, 159, 0, 5, 3, 172, 21, 6, 154, 0, 15, 45, 3, 47, 21, 7, 133]
abbrev dktL_law_105 : List UInt8 := dkwL_law_105 ++ dktL_law_106
def dkwL_law_104 : List UInt8 := [47, 21, 7, 133, 148, 153, 0, 5, 3, 172, 167, 0, 236, 43, 45, 184, 1, 82, 54, 6, 44, 182, 1, 85]
abbrev dktL_law_104 : List UInt8 := dkwL_law_104 ++ dktL_law_105
def dkwL_law_103 : List UInt8 := [146, 182, 1, 81, 54, 7, 44, 182, 0, 165, 21, 6, 159, 0, 5, 3, 172, 21, 6, 154, 0, 15, 45, 3]
abbrev dktL_law_103 : List UInt8 := dkwL_law_103 ++ dktL_law_104
def dkwL_law_102 : List UInt8 := [167, 1, 38, 43, 42, 21, 5, 4, 96, 46, 146, 45, 184, 1, 78, 54, 6, 44, 42, 21, 5, 4, 96, 46]
abbrev dktL_law_102 : List UInt8 := dkwL_law_102 ++ dktL_law_103
def dkwL_law_101 : List UInt8 := [159, 0, 5, 3, 172, 21, 6, 154, 0, 15, 45, 3, 47, 21, 7, 133, 148, 153, 0, 5, 3, 172]
abbrev dktL_law_101 : List UInt8 := dkwL_law_101 ++ dktL_law_102
def dkwL_law_100 : List UInt8 := [184, 1, 75, 54, 6, 44, 42, 21, 5, 4, 96, 46, 182, 1, 77, 54, 7, 44, 182, 0, 165, 21, 6]
abbrev dktL_law_100 : List UInt8 := dkwL_law_100 ++ dktL_law_101
def dkwL_law_99 : List UInt8 := [167, 1, 107, 43, 182, 1, 71, 44, 182, 1, 74, 159, 1, 96, 3, 172, 43, 42, 21, 5, 4, 96, 46, 45]
abbrev dktL_law_99 : List UInt8 := dkwL_law_99 ++ dktL_law_100
def dkwL_law_98 : List UInt8 := [159, 0, 5, 3, 172, 21, 6, 154, 0, 15, 45, 3, 47, 21, 7, 133, 148, 153, 0, 5, 3, 172]
abbrev dktL_law_98 : List UInt8 := dkwL_law_98 ++ dktL_law_99
def dkwL_law_97 : List UInt8 := [45, 184, 1, 68, 54, 6, 44, 42, 21, 5, 4, 96, 46, 182, 1, 70, 54, 7, 44, 182, 0, 165, 21, 6]
abbrev dktL_law_97 : List UInt8 := dkwL_law_97 ++ dktL_law_98
def dkwL_law_96 : List UInt8 := [172, 167, 1, 176, 43, 182, 1, 63, 44, 182, 1, 67, 159, 1, 165, 3, 172, 43, 42, 21, 5, 4, 96, 46]
abbrev dktL_law_96 : List UInt8 := dkwL_law_96 ++ dktL_law_97
def dkwL_law_95 : List UInt8 := [153, 0, 25, 25, 4, 3, 49, 25, 4, 3, 49, 151, 153, 0, 11, 23, 7, 23, 7, 149, 154, 0, 5, 3]
abbrev dktL_law_95 : List UInt8 := dkwL_law_95 ++ dktL_law_96
def dkwL_law_94 : List UInt8 := [182, 0, 165, 21, 6, 159, 0, 5, 3, 172, 21, 6, 154, 0, 36, 25, 4, 3, 49, 23, 7, 141, 151]
abbrev dktL_law_94 : List UInt8 := dkwL_law_94 ++ dktL_law_95
def dkwL_law_93 : List UInt8 := [154, 0, 5, 3, 172, 167, 1, 242, 43, 25, 4, 184, 1, 59, 54, 6, 44, 182, 1, 62, 56, 7, 44]
abbrev dktL_law_93 : List UInt8 := dkwL_law_93 ++ dktL_law_94
def dkwL_law_92 : List UInt8 := [57, 8, 24, 6, 24, 8, 151, 153, 0, 21, 24, 6, 24, 6, 151, 153, 0, 11, 24, 8, 24, 8, 151]
abbrev dktL_law_92 : List UInt8 := dkwL_law_92 ++ dktL_law_93
def dkwL_law_91 : List UInt8 := [172, 43, 182, 1, 50, 44, 182, 1, 53, 159, 2, 29, 3, 172, 43, 182, 1, 54, 57, 6, 44, 182, 1, 58]
abbrev dktL_law_91 : List UInt8 := dkwL_law_91 ++ dktL_law_92
def dkwL_law_90 : List UInt8 := [182, 1, 42, 44, 182, 1, 45, 159, 2, 55, 3, 172, 43, 182, 1, 46, 44, 182, 1, 49, 159, 2, 42, 3]
abbrev dktL_law_90 : List UInt8 := dkwL_law_90 ++ dktL_law_91
def dkwL_law_89 : List UInt8 := [182, 1, 37, 159, 2, 81, 3, 172, 43, 182, 1, 38, 44, 182, 1, 41, 159, 2, 68, 3, 172, 43]
abbrev dktL_law_89 : List UInt8 := dkwL_law_89 ++ dktL_law_90
def dkwL_law_88 : List UInt8 := [159, 2, 107, 3, 172, 43, 182, 1, 30, 44, 182, 1, 33, 159, 2, 94, 3, 172, 43, 182, 1, 34, 44]
abbrev dktL_law_88 : List UInt8 := dkwL_law_88 ++ dktL_law_89
def dkwL_law_87 : List UInt8 := [167, 2, 131, 43, 182, 1, 22, 44, 182, 1, 25, 159, 2, 120, 3, 172, 43, 182, 1, 26, 44, 182, 1, 29]
abbrev dktL_law_87 : List UInt8 := dkwL_law_87 ++ dktL_law_88
def dkwL_law_86 : List UInt8 := [159, 0, 5, 3, 172, 21, 6, 154, 0, 15, 45, 3, 47, 21, 7, 133, 148, 153, 0, 5, 3, 172]
abbrev dktL_law_86 : List UInt8 := dkwL_law_86 ++ dktL_law_87
def dkwL_law_85 : List UInt8 := [21, 5, 4, 96, 46, 42, 21, 5, 5, 96, 46, 182, 1, 21, 54, 7, 44, 182, 0, 165, 21, 6]
abbrev dktL_law_85 : List UInt8 := dkwL_law_85 ++ dktL_law_86
def dkwL_law_84 : List UInt8 := [167, 2, 199, 43, 42, 21, 5, 4, 96, 46, 42, 21, 5, 5, 96, 46, 45, 184, 1, 19, 54, 6, 44, 42]
abbrev dktL_law_84 : List UInt8 := dkwL_law_84 ++ dktL_law_85
def dkwL_law_83 : List UInt8 := [21, 6, 159, 0, 5, 3, 172, 21, 6, 154, 0, 15, 45, 3, 47, 21, 7, 133, 148, 153, 0, 5, 3, 172]
abbrev dktL_law_83 : List UInt8 := dkwL_law_83 ++ dktL_law_84
def dkwL_law_82 : List UInt8 := [46, 45, 184, 1, 16, 54, 6, 44, 42, 21, 5, 4, 96, 46, 182, 1, 18, 54, 7, 44, 182, 0, 165]
abbrev dktL_law_82 : List UInt8 := dkwL_law_82 ++ dktL_law_83
def dkwL_law_81 : List UInt8 := [154, 0, 15, 45, 3, 47, 21, 7, 133, 148, 153, 0, 5, 3, 172, 167, 2, 255, 43, 42, 21, 5, 4, 96]
abbrev dktL_law_81 : List UInt8 := dkwL_law_81 ++ dktL_law_82
def dkwL_law_80 : List UInt8 := [21, 5, 4, 96, 46, 182, 1, 15, 54, 7, 44, 182, 0, 165, 21, 6, 159, 0, 5, 3, 172, 21, 6]
abbrev dktL_law_80 : List UInt8 := dkwL_law_80 ++ dktL_law_81
def dkwL_law_79 : List UInt8 := [153, 0, 5, 3, 172, 167, 3, 55, 43, 42, 21, 5, 4, 96, 46, 45, 184, 1, 13, 54, 6, 44, 42]
abbrev dktL_law_79 : List UInt8 := dkwL_law_79 ++ dktL_law_80
def dkwL_law_78 : List UInt8 := [182, 0, 165, 21, 6, 159, 0, 5, 3, 172, 21, 6, 154, 0, 15, 45, 3, 47, 21, 7, 133, 148]
abbrev dktL_law_78 : List UInt8 := dkwL_law_78 ++ dktL_law_79
def dkwL_law_77 : List UInt8 := [21, 5, 4, 96, 46, 45, 184, 1, 10, 54, 6, 44, 42, 21, 5, 4, 96, 46, 182, 1, 12, 54, 7, 44]
abbrev dktL_law_77 : List UInt8 := dkwL_law_77 ++ dktL_law_78
def dkwL_law_76 : List UInt8 := [172, 21, 6, 154, 0, 15, 45, 3, 47, 21, 7, 133, 148, 153, 0, 5, 3, 172, 167, 3, 111, 43, 42]
abbrev dktL_law_76 : List UInt8 := dkwL_law_76 ++ dktL_law_77
def dkwL_law_75 : List UInt8 := [54, 6, 44, 42, 21, 5, 4, 96, 46, 182, 1, 9, 54, 7, 44, 182, 0, 165, 21, 6, 159, 0, 5, 3]
abbrev dktL_law_75 : List UInt8 := dkwL_law_75 ++ dktL_law_76
def dkwL_law_74 : List UInt8 := [21, 7, 133, 148, 153, 0, 5, 3, 172, 167, 3, 167, 43, 42, 21, 5, 4, 96, 46, 45, 184, 1, 7]
abbrev dktL_law_74 : List UInt8 := dkwL_law_74 ++ dktL_law_75
def dkwL_law_73 : List UInt8 := [182, 1, 6, 54, 7, 44, 182, 0, 165, 21, 6, 159, 0, 5, 3, 172, 21, 6, 154, 0, 15, 45, 3, 47]
abbrev dktL_law_73 : List UInt8 := dkwL_law_73 ++ dktL_law_74
def dkwL_law_72 : List UInt8 := [167, 3, 223, 43, 42, 21, 5, 4, 96, 46, 45, 184, 1, 4, 54, 6, 44, 42, 21, 5, 4, 96, 46]
abbrev dktL_law_72 : List UInt8 := dkwL_law_72 ++ dktL_law_73
def dkwL_law_71 : List UInt8 := [21, 6, 159, 0, 5, 3, 172, 21, 6, 154, 0, 15, 45, 3, 47, 21, 7, 133, 148, 153, 0, 5, 3, 172]
abbrev dktL_law_71 : List UInt8 := dkwL_law_71 ++ dktL_law_72
def dkwL_law_70 : List UInt8 := [46, 45, 184, 1, 1, 54, 6, 44, 42, 21, 5, 4, 96, 46, 182, 1, 3, 54, 7, 44, 182, 0, 165]
abbrev dktL_law_70 : List UInt8 := dkwL_law_70 ++ dktL_law_71
def dkwL_law_69 : List UInt8 := [154, 0, 15, 45, 3, 47, 21, 7, 133, 148, 153, 0, 5, 3, 172, 167, 4, 23, 43, 42, 21, 5, 4, 96]
abbrev dktL_law_69 : List UInt8 := dkwL_law_69 ++ dktL_law_70
def dkwL_law_68 : List UInt8 := [21, 5, 4, 96, 46, 182, 1, 0, 54, 7, 44, 182, 0, 165, 21, 6, 159, 0, 5, 3, 172, 21, 6]
abbrev dktL_law_68 : List UInt8 := dkwL_law_68 ++ dktL_law_69
def dkwL_law_67 : List UInt8 := [182, 0, 253, 159, 4, 81, 3, 172, 43, 42, 21, 5, 4, 96, 46, 45, 184, 0, 254, 54, 6, 44, 42]
abbrev dktL_law_67 : List UInt8 := dkwL_law_67 ++ dktL_law_68
def dkwL_law_66 : List UInt8 := [154, 0, 15, 45, 3, 47, 21, 7, 133, 148, 153, 0, 5, 3, 172, 167, 4, 92, 43, 182, 0, 250, 44]
abbrev dktL_law_66 : List UInt8 := dkwL_law_66 ++ dktL_law_67
def dkwL_law_65 : List UInt8 := [21, 5, 4, 96, 46, 182, 0, 249, 54, 7, 44, 182, 0, 165, 21, 6, 159, 0, 5, 3, 172, 21, 6]
abbrev dktL_law_65 : List UInt8 := dkwL_law_65 ++ dktL_law_66
def dkwL_law_64 : List UInt8 := [153, 0, 5, 3, 172, 167, 4, 148, 43, 42, 21, 5, 4, 96, 46, 45, 184, 0, 247, 54, 6, 44, 42]
abbrev dktL_law_64 : List UInt8 := dkwL_law_64 ++ dktL_law_65
def dkwL_law_63 : List UInt8 := [182, 0, 165, 21, 6, 159, 0, 5, 3, 172, 21, 6, 154, 0, 15, 45, 3, 47, 21, 7, 133, 148]
abbrev dktL_law_63 : List UInt8 := dkwL_law_63 ++ dktL_law_64
def dkwL_law_62 : List UInt8 := [21, 5, 4, 96, 46, 45, 184, 0, 244, 54, 6, 44, 42, 21, 5, 4, 96, 46, 182, 0, 246, 54, 7, 44]
abbrev dktL_law_62 : List UInt8 := dkwL_law_62 ++ dktL_law_63
def dkwL_law_61 : List UInt8 := [172, 21, 6, 154, 0, 15, 45, 3, 47, 21, 7, 133, 148, 153, 0, 5, 3, 172, 167, 4, 204, 43, 42]
abbrev dktL_law_61 : List UInt8 := dkwL_law_61 ++ dktL_law_62
def dkwL_law_60 : List UInt8 := [54, 6, 44, 42, 21, 5, 4, 96, 46, 182, 0, 243, 54, 7, 44, 182, 0, 165, 21, 6, 159, 0, 5, 3]
abbrev dktL_law_60 : List UInt8 := dkwL_law_60 ++ dktL_law_61
def dkwL_law_59 : List UInt8 := [21, 7, 133, 148, 153, 0, 5, 3, 172, 167, 5, 4, 43, 42, 21, 5, 4, 96, 46, 45, 184, 0, 241]
abbrev dktL_law_59 : List UInt8 := dkwL_law_59 ++ dktL_law_60
def dkwL_law_58 : List UInt8 := [182, 0, 240, 54, 7, 44, 182, 0, 165, 21, 6, 159, 0, 5, 3, 172, 21, 6, 154, 0, 15, 45, 3, 47]
abbrev dktL_law_58 : List UInt8 := dkwL_law_58 ++ dktL_law_59
def dkwL_law_57 : List UInt8 := [167, 5, 60, 43, 42, 21, 5, 4, 96, 46, 45, 184, 0, 238, 54, 6, 44, 42, 21, 5, 4, 96, 46]
abbrev dktL_law_57 : List UInt8 := dkwL_law_57 ++ dktL_law_58
def dkwL_law_56 : List UInt8 := [154, 0, 22, 45, 3, 47, 21, 7, 153, 0, 7, 10, 167, 0, 4, 9, 148, 153, 0, 5, 3, 172]
abbrev dktL_law_56 : List UInt8 := dkwL_law_56 ++ dktL_law_57
def dkwL_law_55 : List UInt8 := [21, 5, 4, 96, 46, 182, 0, 237, 54, 7, 44, 182, 0, 165, 21, 6, 159, 0, 5, 3, 172, 21, 6]
abbrev dktL_law_55 : List UInt8 := dkwL_law_55 ++ dktL_law_56
def dkwL_law_54 : List UInt8 := [153, 0, 5, 3, 172, 167, 5, 123, 43, 42, 21, 5, 4, 96, 46, 45, 184, 0, 235, 54, 6, 44, 42]
abbrev dktL_law_54 : List UInt8 := dkwL_law_54 ++ dktL_law_55
def dkwL_law_53 : List UInt8 := [182, 0, 165, 21, 6, 159, 0, 5, 3, 172, 21, 6, 154, 0, 15, 45, 3, 47, 21, 7, 133, 148]
abbrev dktL_law_53 : List UInt8 := dkwL_law_53 ++ dktL_law_54
def dkwL_law_52 : List UInt8 := [21, 5, 4, 96, 46, 45, 184, 0, 232, 54, 6, 44, 42, 21, 5, 4, 96, 46, 182, 0, 234, 54, 7, 44]
abbrev dktL_law_52 : List UInt8 := dkwL_law_52 ++ dktL_law_53
def dkwL_law_51 : List UInt8 := [172, 21, 6, 154, 0, 15, 45, 3, 47, 21, 7, 133, 148, 153, 0, 5, 3, 172, 167, 5, 179, 43, 42]
abbrev dktL_law_51 : List UInt8 := dkwL_law_51 ++ dktL_law_52
def dkwL_law_50 : List UInt8 := [54, 6, 44, 42, 21, 5, 4, 96, 46, 182, 0, 231, 54, 7, 44, 182, 0, 165, 21, 6, 159, 0, 5, 3]
abbrev dktL_law_50 : List UInt8 := dkwL_law_50 ++ dktL_law_51
def dkwL_law_49 : List UInt8 := [21, 7, 133, 148, 153, 0, 5, 3, 172, 167, 5, 235, 43, 42, 21, 5, 4, 96, 46, 45, 184, 0, 229]
abbrev dktL_law_49 : List UInt8 := dkwL_law_49 ++ dktL_law_50
def dkwL_law_48 : List UInt8 := [182, 0, 228, 54, 7, 44, 182, 0, 165, 21, 6, 159, 0, 5, 3, 172, 21, 6, 154, 0, 15, 45, 3, 47]
abbrev dktL_law_48 : List UInt8 := dkwL_law_48 ++ dktL_law_49
def dkwL_law_47 : List UInt8 := [167, 6, 35, 43, 42, 21, 5, 4, 96, 46, 45, 184, 0, 226, 54, 6, 44, 42, 21, 5, 4, 96, 46]
abbrev dktL_law_47 : List UInt8 := dkwL_law_47 ++ dktL_law_48
def dkwL_law_46 : List UInt8 := [159, 0, 5, 3, 172, 21, 6, 154, 0, 15, 45, 3, 47, 21, 7, 133, 148, 153, 0, 5, 3, 172]
abbrev dktL_law_46 : List UInt8 := dkwL_law_46 ++ dktL_law_47
def dkwL_law_45 : List UInt8 := [184, 0, 223, 54, 6, 44, 42, 21, 5, 4, 96, 46, 182, 0, 225, 54, 7, 44, 182, 0, 165, 21, 6]
abbrev dktL_law_45 : List UInt8 := dkwL_law_45 ++ dktL_law_46
def dkwL_law_44 : List UInt8 := [167, 6, 104, 43, 182, 0, 219, 44, 182, 0, 222, 159, 6, 93, 3, 172, 43, 42, 21, 5, 4, 96, 46, 45]
abbrev dktL_law_44 : List UInt8 := dkwL_law_44 ++ dktL_law_45
def dkwL_law_43 : List UInt8 := [154, 0, 22, 45, 3, 47, 21, 7, 153, 0, 7, 10, 167, 0, 4, 9, 148, 153, 0, 5, 3, 172]
abbrev dktL_law_43 : List UInt8 := dkwL_law_43 ++ dktL_law_44
def dkwL_law_42 : List UInt8 := [21, 5, 4, 96, 46, 182, 0, 218, 54, 7, 44, 182, 0, 165, 21, 6, 159, 0, 5, 3, 172, 21, 6]
abbrev dktL_law_42 : List UInt8 := dkwL_law_42 ++ dktL_law_43
def dkwL_law_41 : List UInt8 := [153, 0, 5, 3, 172, 167, 6, 167, 43, 42, 21, 5, 4, 96, 46, 45, 184, 0, 216, 54, 6, 44, 42]
abbrev dktL_law_41 : List UInt8 := dkwL_law_41 ++ dktL_law_42
def dkwL_law_40 : List UInt8 := [182, 0, 165, 21, 6, 159, 0, 5, 3, 172, 21, 6, 154, 0, 15, 45, 3, 47, 21, 7, 133, 148]
abbrev dktL_law_40 : List UInt8 := dkwL_law_40 ++ dktL_law_41
def dkwL_law_39 : List UInt8 := [21, 5, 4, 96, 46, 45, 184, 0, 213, 54, 6, 44, 42, 21, 5, 4, 96, 46, 182, 0, 215, 54, 7, 44]
abbrev dktL_law_39 : List UInt8 := dkwL_law_39 ++ dktL_law_40
def dkwL_law_38 : List UInt8 := [153, 0, 5, 3, 172, 167, 6, 236, 43, 182, 0, 209, 44, 182, 0, 212, 159, 6, 225, 3, 172, 43, 42]
abbrev dktL_law_38 : List UInt8 := dkwL_law_38 ++ dktL_law_39
def dkwL_law_37 : List UInt8 := [182, 0, 165, 21, 6, 159, 0, 5, 3, 172, 21, 6, 154, 0, 15, 45, 3, 47, 21, 7, 133, 148]
abbrev dktL_law_37 : List UInt8 := dkwL_law_37 ++ dktL_law_38
def dkwL_law_36 : List UInt8 := [21, 5, 4, 96, 46, 45, 184, 0, 206, 54, 6, 44, 42, 21, 5, 4, 96, 46, 182, 0, 208, 54, 7, 44]
abbrev dktL_law_36 : List UInt8 := dkwL_law_36 ++ dktL_law_37
def dkwL_law_35 : List UInt8 := [172, 21, 6, 154, 0, 15, 45, 3, 47, 21, 7, 133, 148, 153, 0, 5, 3, 172, 167, 7, 36, 43, 42]
abbrev dktL_law_35 : List UInt8 := dkwL_law_35 ++ dktL_law_36
def dkwL_law_34 : List UInt8 := [54, 6, 44, 42, 21, 5, 4, 96, 46, 182, 0, 205, 54, 7, 44, 182, 0, 165, 21, 6, 159, 0, 5, 3]
abbrev dktL_law_34 : List UInt8 := dkwL_law_34 ++ dktL_law_35
def dkwL_law_33 : List UInt8 := [21, 7, 133, 148, 153, 0, 5, 3, 172, 167, 7, 92, 43, 42, 21, 5, 4, 96, 46, 45, 184, 0, 203]
abbrev dktL_law_33 : List UInt8 := dkwL_law_33 ++ dktL_law_34
def dkwL_law_32 : List UInt8 := [182, 0, 202, 54, 7, 44, 182, 0, 165, 21, 6, 159, 0, 5, 3, 172, 21, 6, 154, 0, 15, 45, 3, 47]
abbrev dktL_law_32 : List UInt8 := dkwL_law_32 ++ dktL_law_33
def dkwL_law_31 : List UInt8 := [167, 7, 148, 43, 42, 21, 5, 4, 96, 46, 45, 184, 0, 200, 54, 6, 44, 42, 21, 5, 4, 96, 46]
abbrev dktL_law_31 : List UInt8 := dkwL_law_31 ++ dktL_law_32
def dkwL_law_30 : List UInt8 := [21, 6, 159, 0, 5, 3, 172, 21, 6, 154, 0, 15, 45, 3, 47, 21, 7, 133, 148, 153, 0, 5, 3, 172]
abbrev dktL_law_30 : List UInt8 := dkwL_law_30 ++ dktL_law_31
def dkwL_law_29 : List UInt8 := [46, 45, 184, 0, 197, 54, 6, 44, 42, 21, 5, 4, 96, 46, 182, 0, 199, 54, 7, 44, 182, 0, 165]
abbrev dktL_law_29 : List UInt8 := dkwL_law_29 ++ dktL_law_30
def dkwL_law_28 : List UInt8 := [154, 0, 15, 45, 3, 47, 21, 7, 133, 148, 153, 0, 5, 3, 172, 167, 7, 204, 43, 42, 21, 5, 4, 96]
abbrev dktL_law_28 : List UInt8 := dkwL_law_28 ++ dktL_law_29
def dkwL_law_27 : List UInt8 := [21, 5, 4, 96, 46, 182, 0, 196, 54, 7, 44, 182, 0, 165, 21, 6, 159, 0, 5, 3, 172, 21, 6]
abbrev dktL_law_27 : List UInt8 := dkwL_law_27 ++ dktL_law_28
def dkwL_law_26 : List UInt8 := [148, 153, 0, 5, 3, 172, 167, 8, 4, 43, 42, 21, 5, 4, 96, 46, 45, 184, 0, 194, 54, 6, 44, 42]
abbrev dktL_law_26 : List UInt8 := dkwL_law_26 ++ dktL_law_27
def dkwL_law_25 : List UInt8 := [54, 7, 44, 182, 0, 165, 21, 6, 159, 0, 5, 3, 172, 21, 6, 154, 0, 15, 45, 3, 47, 21, 7, 133]
abbrev dktL_law_25 : List UInt8 := dkwL_law_25 ++ dktL_law_26
def dkwL_law_24 : List UInt8 := [46, 45, 184, 0, 190, 54, 6, 44, 42, 21, 5, 4, 96, 46, 42, 21, 5, 5, 96, 46, 182, 0, 193]
abbrev dktL_law_24 : List UInt8 := dkwL_law_24 ++ dktL_law_25
def dkwL_law_23 : List UInt8 := [21, 7, 133, 148, 153, 0, 5, 3, 172, 167, 8, 72, 43, 42, 21, 5, 4, 96, 46, 42, 21, 5, 5, 96]
abbrev dktL_law_23 : List UInt8 := dkwL_law_23 ++ dktL_law_24
def dkwL_law_22 : List UInt8 := [182, 0, 189, 54, 7, 44, 182, 0, 165, 21, 6, 159, 0, 5, 3, 172, 21, 6, 154, 0, 15, 45, 3, 47]
abbrev dktL_law_22 : List UInt8 := dkwL_law_22 ++ dktL_law_23
def dkwL_law_21 : List UInt8 := [167, 8, 128, 43, 42, 21, 5, 4, 96, 46, 45, 184, 0, 187, 54, 6, 44, 42, 21, 5, 4, 96, 46]
abbrev dktL_law_21 : List UInt8 := dkwL_law_21 ++ dktL_law_22
def dkwL_law_20 : List UInt8 := [21, 6, 159, 0, 5, 3, 172, 21, 6, 154, 0, 15, 45, 3, 47, 21, 7, 133, 148, 153, 0, 5, 3, 172]
abbrev dktL_law_20 : List UInt8 := dkwL_law_20 ++ dktL_law_21
def dkwL_law_19 : List UInt8 := [46, 45, 184, 0, 184, 54, 6, 44, 42, 21, 5, 4, 96, 46, 182, 0, 186, 54, 7, 44, 182, 0, 165]
abbrev dktL_law_19 : List UInt8 := dkwL_law_19 ++ dktL_law_20
def dkwL_law_18 : List UInt8 := [154, 0, 15, 45, 3, 47, 21, 7, 133, 148, 153, 0, 5, 3, 172, 167, 8, 184, 43, 42, 21, 5, 4, 96]
abbrev dktL_law_18 : List UInt8 := dkwL_law_18 ++ dktL_law_19
def dkwL_law_17 : List UInt8 := [21, 5, 4, 96, 46, 182, 0, 183, 54, 7, 44, 182, 0, 165, 21, 6, 159, 0, 5, 3, 172, 21, 6]
abbrev dktL_law_17 : List UInt8 := dkwL_law_17 ++ dktL_law_18
def dkwL_law_16 : List UInt8 := [148, 153, 0, 5, 3, 172, 167, 8, 240, 43, 42, 21, 5, 4, 96, 46, 45, 184, 0, 181, 54, 6, 44, 42]
abbrev dktL_law_16 : List UInt8 := dkwL_law_16 ++ dktL_law_17
def dkwL_law_15 : List UInt8 := [54, 7, 44, 182, 0, 165, 21, 6, 159, 0, 5, 3, 172, 21, 6, 154, 0, 15, 45, 3, 47, 21, 7, 133]
abbrev dktL_law_15 : List UInt8 := dkwL_law_15 ++ dktL_law_16
def dkwL_law_14 : List UInt8 := [96, 46, 42, 21, 5, 5, 96, 46, 42, 21, 5, 6, 96, 46, 42, 21, 5, 7, 96, 46, 182, 0, 180]
abbrev dktL_law_14 : List UInt8 := dkwL_law_14 ++ dktL_law_15
def dkwL_law_13 : List UInt8 := [46, 42, 21, 5, 6, 96, 46, 42, 21, 5, 7, 96, 46, 45, 184, 0, 177, 54, 6, 44, 42, 21, 5, 4]
abbrev dktL_law_13 : List UInt8 := dkwL_law_13 ++ dktL_law_14
def dkwL_law_12 : List UInt8 := [21, 7, 133, 148, 153, 0, 5, 3, 172, 167, 9, 76, 43, 42, 21, 5, 4, 96, 46, 42, 21, 5, 5, 96]
abbrev dktL_law_12 : List UInt8 := dkwL_law_12 ++ dktL_law_13
def dkwL_law_11 : List UInt8 := [182, 0, 176, 54, 7, 44, 182, 0, 165, 21, 6, 159, 0, 5, 3, 172, 21, 6, 154, 0, 15, 45, 3, 47]
abbrev dktL_law_11 : List UInt8 := dkwL_law_11 ++ dktL_law_12
def dkwL_law_10 : List UInt8 := [167, 9, 132, 43, 42, 21, 5, 4, 96, 46, 45, 184, 0, 174, 54, 6, 44, 42, 21, 5, 4, 96, 46]
abbrev dktL_law_10 : List UInt8 := dkwL_law_10 ++ dktL_law_11
def dkwL_law_9 : List UInt8 := [21, 6, 159, 0, 5, 3, 172, 21, 6, 154, 0, 15, 45, 3, 47, 21, 7, 133, 148, 153, 0, 5, 3, 172]
abbrev dktL_law_9 : List UInt8 := dkwL_law_9 ++ dktL_law_10
def dkwL_law_8 : List UInt8 := [46, 45, 184, 0, 171, 54, 6, 44, 42, 21, 5, 4, 96, 46, 182, 0, 173, 54, 7, 44, 182, 0, 165]
abbrev dktL_law_8 : List UInt8 := dkwL_law_8 ++ dktL_law_9
def dkwL_law_7 : List UInt8 := [154, 0, 15, 45, 3, 47, 21, 7, 133, 148, 153, 0, 5, 3, 172, 167, 9, 188, 43, 42, 21, 5, 4, 96]
abbrev dktL_law_7 : List UInt8 := dkwL_law_7 ++ dktL_law_8
def dkwL_law_6 : List UInt8 := [21, 5, 4, 96, 46, 182, 0, 170, 54, 7, 44, 182, 0, 165, 21, 6, 159, 0, 5, 3, 172, 21, 6]
abbrev dktL_law_6 : List UInt8 := dkwL_law_6 ++ dktL_law_7
def dkwL_law_5 : List UInt8 := [148, 153, 0, 5, 3, 172, 167, 9, 244, 43, 42, 21, 5, 4, 96, 46, 45, 184, 0, 168, 54, 6, 44, 42]
abbrev dktL_law_5 : List UInt8 := dkwL_law_5 ++ dktL_law_6
def dkwL_law_4 : List UInt8 := [54, 7, 44, 182, 0, 165, 21, 6, 159, 0, 5, 3, 172, 21, 6, 154, 0, 15, 45, 3, 47, 21, 7, 133]
abbrev dktL_law_4 : List UInt8 := dkwL_law_4 ++ dktL_law_5
def dkwL_law_3 : List UInt8 := [43, 42, 21, 5, 4, 96, 46, 45, 184, 0, 159, 54, 6, 44, 42, 21, 5, 4, 96, 46, 182, 0, 164]
abbrev dktL_law_3 : List UInt8 := dkwL_law_3 ++ dktL_law_4
def dkwL_law_2 : List UInt8 := [170, 0, 0, 0, 0, 0, 11, 29, 0, 0, 0, 0, 0, 0, 0, 56, 0, 0, 0, 244, 0, 0, 1, 44, 0, 0, 1, 100, 0, 0, 1, 156, 0, 0, 1, 212, 0, 0, 2, 48, 0, 0, 2, 104, 0, 0, 2, 160, 0, 0, 2, 216, 0, 0, 3, 28, 0, 0, 3, 84, 0, 0, 3, 140, 0, 0, 3, 196, 0, 0, 3, 252, 0, 0, 4, 52, 0, 0, 4, 65, 0, 0, 4, 121, 0, 0, 4, 184, 0, 0, 4, 197, 0, 0, 4, 253, 0, 0, 5, 53, 0, 0, 5, 109, 0, 0, 5, 165, 0, 0, 5, 228, 0, 0, 6, 28, 0, 0, 6, 84, 0, 0, 6, 140, 0, 0, 6, 196, 0, 0, 6, 209, 0, 0, 7, 9, 0, 0, 7, 65, 0, 0, 7, 121, 0, 0, 7, 177, 0, 0, 7, 233, 0, 0, 8, 33, 0, 0, 8, 89, 0, 0, 8, 157, 0, 0, 8, 170, 0, 0, 8, 183, 0, 0, 8, 196, 0, 0, 8, 209, 0, 0, 8, 222, 0, 0, 8, 235, 0, 0, 8, 248, 0, 0, 9, 5, 0, 0, 9, 46, 0, 0, 9, 112, 0, 0, 9, 125, 0, 0, 9, 181, 0, 0, 9, 194, 0, 0, 9, 250, 0, 0, 10, 52, 0, 0, 10, 96, 0, 0, 10, 140, 0, 0, 10, 184, 0, 0, 10, 228, 0, 0, 10, 241]
abbrev dktL_law_2 : List UInt8 := dkwL_law_2 ++ dktL_law_3
def dkwL_law_1 : List UInt8 := [58, 4, 3, 54, 5, 21, 5, 42, 190, 8, 100, 163, 11, 45, 42, 21, 5, 46, 16, 63, 126]
abbrev dktL_law_1 : List UInt8 := dkwL_law_1 ++ dktL_law_2
def dkwL_law_0 : List UInt8 := [187, 0, 8, 89, 183, 0, 155, 76, 187, 0, 156, 89, 183, 0, 158, 77, 4, 188, 11, 78, 4, 188, 7]
abbrev dktL_law_0 : List UInt8 := dkwL_law_0 ++ dktL_law_1
theorem dksL_law_0 : cL_law.data.toList.drop 0 = dktL_law_0 := by decide +kernel
theorem dksL_law_1 : cL_law.data.toList.drop 23 = dktL_law_1 := dk_seg dksL_law_0 23 rfl rfl
theorem dksL_law_2 : cL_law.data.toList.drop 44 = dktL_law_2 := dk_seg dksL_law_1 21 rfl rfl
theorem dksL_law_3 : cL_law.data.toList.drop 288 = dktL_law_3 := dk_seg dksL_law_2 244 rfl rfl
theorem dksL_law_4 : cL_law.data.toList.drop 311 = dktL_law_4 := dk_seg dksL_law_3 23 rfl rfl
theorem dksL_law_5 : cL_law.data.toList.drop 335 = dktL_law_5 := dk_seg dksL_law_4 24 rfl rfl
theorem dksL_law_6 : cL_law.data.toList.drop 359 = dktL_law_6 := dk_seg dksL_law_5 24 rfl rfl
theorem dksL_law_7 : cL_law.data.toList.drop 382 = dktL_law_7 := dk_seg dksL_law_6 23 rfl rfl
theorem dksL_law_8 : cL_law.data.toList.drop 406 = dktL_law_8 := dk_seg dksL_law_7 24 rfl rfl
theorem dksL_law_9 : cL_law.data.toList.drop 429 = dktL_law_9 := dk_seg dksL_law_8 23 rfl rfl
theorem dksL_law_10 : cL_law.data.toList.drop 453 = dktL_law_10 := dk_seg dksL_law_9 24 rfl rfl
theorem dksL_law_11 : cL_law.data.toList.drop 476 = dktL_law_11 := dk_seg dksL_law_10 23 rfl rfl
theorem dksL_law_12 : cL_law.data.toList.drop 500 = dktL_law_12 := dk_seg dksL_law_11 24 rfl rfl
theorem dksL_law_13 : cL_law.data.toList.drop 524 = dktL_law_13 := dk_seg dksL_law_12 24 rfl rfl
theorem dksL_law_14 : cL_law.data.toList.drop 548 = dktL_law_14 := dk_seg dksL_law_13 24 rfl rfl
theorem dksL_law_15 : cL_law.data.toList.drop 571 = dktL_law_15 := dk_seg dksL_law_14 23 rfl rfl
theorem dksL_law_16 : cL_law.data.toList.drop 595 = dktL_law_16 := dk_seg dksL_law_15 24 rfl rfl
theorem dksL_law_17 : cL_law.data.toList.drop 619 = dktL_law_17 := dk_seg dksL_law_16 24 rfl rfl
theorem dksL_law_18 : cL_law.data.toList.drop 642 = dktL_law_18 := dk_seg dksL_law_17 23 rfl rfl
theorem dksL_law_19 : cL_law.data.toList.drop 666 = dktL_law_19 := dk_seg dksL_law_18 24 rfl rfl
theorem dksL_law_20 : cL_law.data.toList.drop 689 = dktL_law_20 := dk_seg dksL_law_19 23 rfl rfl
theorem dksL_law_21 : cL_law.data.toList.drop 713 = dktL_law_21 := dk_seg dksL_law_20 24 rfl rfl
theorem dksL_law_22 : cL_law.data.toList.drop 736 = dktL_law_22 := dk_seg dksL_law_21 23 rfl rfl
theorem dksL_law_23 : cL_law.data.toList.drop 760 = dktL_law_23 := dk_seg dksL_law_22 24 rfl rfl
theorem dksL_law_24 : cL_law.data.toList.drop 784 = dktL_law_24 := dk_seg dksL_law_23 24 rfl rfl
theorem dksL_law_25 : cL_law.data.toList.drop 807 = dktL_law_25 := dk_seg dksL_law_24 23 rfl rfl
theorem dksL_law_26 : cL_law.data.toList.drop 831 = dktL_law_26 := dk_seg dksL_law_25 24 rfl rfl
theorem dksL_law_27 : cL_law.data.toList.drop 855 = dktL_law_27 := dk_seg dksL_law_26 24 rfl rfl
theorem dksL_law_28 : cL_law.data.toList.drop 878 = dktL_law_28 := dk_seg dksL_law_27 23 rfl rfl
theorem dksL_law_29 : cL_law.data.toList.drop 902 = dktL_law_29 := dk_seg dksL_law_28 24 rfl rfl
theorem dksL_law_30 : cL_law.data.toList.drop 925 = dktL_law_30 := dk_seg dksL_law_29 23 rfl rfl
theorem dksL_law_31 : cL_law.data.toList.drop 949 = dktL_law_31 := dk_seg dksL_law_30 24 rfl rfl
theorem dksL_law_32 : cL_law.data.toList.drop 972 = dktL_law_32 := dk_seg dksL_law_31 23 rfl rfl
theorem dksL_law_33 : cL_law.data.toList.drop 996 = dktL_law_33 := dk_seg dksL_law_32 24 rfl rfl
theorem dksL_law_34 : cL_law.data.toList.drop 1019 = dktL_law_34 := dk_seg dksL_law_33 23 rfl rfl
theorem dksL_law_35 : cL_law.data.toList.drop 1043 = dktL_law_35 := dk_seg dksL_law_34 24 rfl rfl
theorem dksL_law_36 : cL_law.data.toList.drop 1066 = dktL_law_36 := dk_seg dksL_law_35 23 rfl rfl
theorem dksL_law_37 : cL_law.data.toList.drop 1090 = dktL_law_37 := dk_seg dksL_law_36 24 rfl rfl
theorem dksL_law_38 : cL_law.data.toList.drop 1112 = dktL_law_38 := dk_seg dksL_law_37 22 rfl rfl
theorem dksL_law_39 : cL_law.data.toList.drop 1135 = dktL_law_39 := dk_seg dksL_law_38 23 rfl rfl
theorem dksL_law_40 : cL_law.data.toList.drop 1159 = dktL_law_40 := dk_seg dksL_law_39 24 rfl rfl
theorem dksL_law_41 : cL_law.data.toList.drop 1181 = dktL_law_41 := dk_seg dksL_law_40 22 rfl rfl
theorem dksL_law_42 : cL_law.data.toList.drop 1204 = dktL_law_42 := dk_seg dksL_law_41 23 rfl rfl
theorem dksL_law_43 : cL_law.data.toList.drop 1227 = dktL_law_43 := dk_seg dksL_law_42 23 rfl rfl
theorem dksL_law_44 : cL_law.data.toList.drop 1249 = dktL_law_44 := dk_seg dksL_law_43 22 rfl rfl
theorem dksL_law_45 : cL_law.data.toList.drop 1273 = dktL_law_45 := dk_seg dksL_law_44 24 rfl rfl
theorem dksL_law_46 : cL_law.data.toList.drop 1296 = dktL_law_46 := dk_seg dksL_law_45 23 rfl rfl
theorem dksL_law_47 : cL_law.data.toList.drop 1318 = dktL_law_47 := dk_seg dksL_law_46 22 rfl rfl
theorem dksL_law_48 : cL_law.data.toList.drop 1341 = dktL_law_48 := dk_seg dksL_law_47 23 rfl rfl
theorem dksL_law_49 : cL_law.data.toList.drop 1365 = dktL_law_49 := dk_seg dksL_law_48 24 rfl rfl
theorem dksL_law_50 : cL_law.data.toList.drop 1388 = dktL_law_50 := dk_seg dksL_law_49 23 rfl rfl
theorem dksL_law_51 : cL_law.data.toList.drop 1412 = dktL_law_51 := dk_seg dksL_law_50 24 rfl rfl
theorem dksL_law_52 : cL_law.data.toList.drop 1435 = dktL_law_52 := dk_seg dksL_law_51 23 rfl rfl
theorem dksL_law_53 : cL_law.data.toList.drop 1459 = dktL_law_53 := dk_seg dksL_law_52 24 rfl rfl
theorem dksL_law_54 : cL_law.data.toList.drop 1481 = dktL_law_54 := dk_seg dksL_law_53 22 rfl rfl
theorem dksL_law_55 : cL_law.data.toList.drop 1504 = dktL_law_55 := dk_seg dksL_law_54 23 rfl rfl
theorem dksL_law_56 : cL_law.data.toList.drop 1527 = dktL_law_56 := dk_seg dksL_law_55 23 rfl rfl
theorem dksL_law_57 : cL_law.data.toList.drop 1549 = dktL_law_57 := dk_seg dksL_law_56 22 rfl rfl
theorem dksL_law_58 : cL_law.data.toList.drop 1572 = dktL_law_58 := dk_seg dksL_law_57 23 rfl rfl
theorem dksL_law_59 : cL_law.data.toList.drop 1596 = dktL_law_59 := dk_seg dksL_law_58 24 rfl rfl
theorem dksL_law_60 : cL_law.data.toList.drop 1619 = dktL_law_60 := dk_seg dksL_law_59 23 rfl rfl
theorem dksL_law_61 : cL_law.data.toList.drop 1643 = dktL_law_61 := dk_seg dksL_law_60 24 rfl rfl
theorem dksL_law_62 : cL_law.data.toList.drop 1666 = dktL_law_62 := dk_seg dksL_law_61 23 rfl rfl
theorem dksL_law_63 : cL_law.data.toList.drop 1690 = dktL_law_63 := dk_seg dksL_law_62 24 rfl rfl
theorem dksL_law_64 : cL_law.data.toList.drop 1712 = dktL_law_64 := dk_seg dksL_law_63 22 rfl rfl
theorem dksL_law_65 : cL_law.data.toList.drop 1735 = dktL_law_65 := dk_seg dksL_law_64 23 rfl rfl
theorem dksL_law_66 : cL_law.data.toList.drop 1758 = dktL_law_66 := dk_seg dksL_law_65 23 rfl rfl
theorem dksL_law_67 : cL_law.data.toList.drop 1781 = dktL_law_67 := dk_seg dksL_law_66 23 rfl rfl
theorem dksL_law_68 : cL_law.data.toList.drop 1804 = dktL_law_68 := dk_seg dksL_law_67 23 rfl rfl
theorem dksL_law_69 : cL_law.data.toList.drop 1827 = dktL_law_69 := dk_seg dksL_law_68 23 rfl rfl
theorem dksL_law_70 : cL_law.data.toList.drop 1851 = dktL_law_70 := dk_seg dksL_law_69 24 rfl rfl
theorem dksL_law_71 : cL_law.data.toList.drop 1874 = dktL_law_71 := dk_seg dksL_law_70 23 rfl rfl
theorem dksL_law_72 : cL_law.data.toList.drop 1898 = dktL_law_72 := dk_seg dksL_law_71 24 rfl rfl
theorem dksL_law_73 : cL_law.data.toList.drop 1921 = dktL_law_73 := dk_seg dksL_law_72 23 rfl rfl
theorem dksL_law_74 : cL_law.data.toList.drop 1945 = dktL_law_74 := dk_seg dksL_law_73 24 rfl rfl
theorem dksL_law_75 : cL_law.data.toList.drop 1968 = dktL_law_75 := dk_seg dksL_law_74 23 rfl rfl
theorem dksL_law_76 : cL_law.data.toList.drop 1992 = dktL_law_76 := dk_seg dksL_law_75 24 rfl rfl
theorem dksL_law_77 : cL_law.data.toList.drop 2015 = dktL_law_77 := dk_seg dksL_law_76 23 rfl rfl
theorem dksL_law_78 : cL_law.data.toList.drop 2039 = dktL_law_78 := dk_seg dksL_law_77 24 rfl rfl
theorem dksL_law_79 : cL_law.data.toList.drop 2061 = dktL_law_79 := dk_seg dksL_law_78 22 rfl rfl
theorem dksL_law_80 : cL_law.data.toList.drop 2084 = dktL_law_80 := dk_seg dksL_law_79 23 rfl rfl
theorem dksL_law_81 : cL_law.data.toList.drop 2107 = dktL_law_81 := dk_seg dksL_law_80 23 rfl rfl
theorem dksL_law_82 : cL_law.data.toList.drop 2131 = dktL_law_82 := dk_seg dksL_law_81 24 rfl rfl
theorem dksL_law_83 : cL_law.data.toList.drop 2154 = dktL_law_83 := dk_seg dksL_law_82 23 rfl rfl
theorem dksL_law_84 : cL_law.data.toList.drop 2178 = dktL_law_84 := dk_seg dksL_law_83 24 rfl rfl
theorem dksL_law_85 : cL_law.data.toList.drop 2202 = dktL_law_85 := dk_seg dksL_law_84 24 rfl rfl
theorem dksL_law_86 : cL_law.data.toList.drop 2224 = dktL_law_86 := dk_seg dksL_law_85 22 rfl rfl
theorem dksL_law_87 : cL_law.data.toList.drop 2246 = dktL_law_87 := dk_seg dksL_law_86 22 rfl rfl
theorem dksL_law_88 : cL_law.data.toList.drop 2270 = dktL_law_88 := dk_seg dksL_law_87 24 rfl rfl
theorem dksL_law_89 : cL_law.data.toList.drop 2293 = dktL_law_89 := dk_seg dksL_law_88 23 rfl rfl
theorem dksL_law_90 : cL_law.data.toList.drop 2315 = dktL_law_90 := dk_seg dksL_law_89 22 rfl rfl
theorem dksL_law_91 : cL_law.data.toList.drop 2339 = dktL_law_91 := dk_seg dksL_law_90 24 rfl rfl
theorem dksL_law_92 : cL_law.data.toList.drop 2363 = dktL_law_92 := dk_seg dksL_law_91 24 rfl rfl
theorem dksL_law_93 : cL_law.data.toList.drop 2386 = dktL_law_93 := dk_seg dksL_law_92 23 rfl rfl
theorem dksL_law_94 : cL_law.data.toList.drop 2409 = dktL_law_94 := dk_seg dksL_law_93 23 rfl rfl
theorem dksL_law_95 : cL_law.data.toList.drop 2432 = dktL_law_95 := dk_seg dksL_law_94 23 rfl rfl
theorem dksL_law_96 : cL_law.data.toList.drop 2456 = dktL_law_96 := dk_seg dksL_law_95 24 rfl rfl
theorem dksL_law_97 : cL_law.data.toList.drop 2480 = dktL_law_97 := dk_seg dksL_law_96 24 rfl rfl
theorem dksL_law_98 : cL_law.data.toList.drop 2504 = dktL_law_98 := dk_seg dksL_law_97 24 rfl rfl
theorem dksL_law_99 : cL_law.data.toList.drop 2526 = dktL_law_99 := dk_seg dksL_law_98 22 rfl rfl
theorem dksL_law_100 : cL_law.data.toList.drop 2550 = dktL_law_100 := dk_seg dksL_law_99 24 rfl rfl
theorem dksL_law_101 : cL_law.data.toList.drop 2573 = dktL_law_101 := dk_seg dksL_law_100 23 rfl rfl
theorem dksL_law_102 : cL_law.data.toList.drop 2595 = dktL_law_102 := dk_seg dksL_law_101 22 rfl rfl
theorem dksL_law_103 : cL_law.data.toList.drop 2619 = dktL_law_103 := dk_seg dksL_law_102 24 rfl rfl
theorem dksL_law_104 : cL_law.data.toList.drop 2643 = dktL_law_104 := dk_seg dksL_law_103 24 rfl rfl
theorem dksL_law_105 : cL_law.data.toList.drop 2667 = dktL_law_105 := dk_seg dksL_law_104 24 rfl rfl
theorem dksL_law_106 : cL_law.data.toList.drop 2691 = dktL_law_106 := dk_seg dksL_law_105 24 rfl rfl
theorem dksL_law_107 : cL_law.data.toList.drop 2714 = dktL_law_107 := dk_seg dksL_law_106 23 rfl rfl
theorem dksL_law_108 : cL_law.data.toList.drop 2736 = dktL_law_108 := dk_seg dksL_law_107 22 rfl rfl
theorem dksL_law_109 : cL_law.data.toList.drop 2758 = dktL_law_109 := dk_seg dksL_law_108 22 rfl rfl
theorem dksL_law_110 : cL_law.data.toList.drop 2780 = dktL_law_110 := dk_seg dksL_law_109 22 rfl rfl
theorem dksL_law_111 : cL_law.data.toList.drop 2802 = dktL_law_111 := dk_seg dksL_law_110 22 rfl rfl
theorem dksL_law_112 : cL_law.data.toList.drop 2824 = dktL_law_112 := dk_seg dksL_law_111 22 rfl rfl
theorem dksL_law_113 : cL_law.data.toList.drop 2847 = dktL_law_113 := dk_seg dksL_law_112 23 rfl rfl
theorem dksL_law_114 : cL_law.data.toList.drop 2871 = dktL_law_114 := dk_seg dksL_law_113 24 rfl rfl
theorem dksL_law_115 : cL_law.data.toList.drop 2895 = dktL_law_115 := dk_seg dksL_law_114 24 rfl rfl
theorem dL_law_0 : decode cL_law 0 = .ok (.new 8, 3) := dk_187 0 8 (dk_at dksL_law_0 0 rfl rfl)
theorem dL_law_3 : decode cL_law 3 = .ok (.dup, 1) := dk_89 (dk_at dksL_law_0 3 rfl rfl)
theorem dL_law_4 : decode cL_law 4 = .ok (.invokespecial 155, 3) := dk_183 0 155 (dk_at dksL_law_0 4 rfl rfl)
theorem dL_law_7 : decode cL_law 7 = .ok (.astore_n 1, 1) := dk_76 (dk_at dksL_law_0 7 rfl rfl)
theorem dL_law_8 : decode cL_law 8 = .ok (.new 156, 3) := dk_187 0 156 (dk_at dksL_law_0 8 rfl rfl)
theorem dL_law_11 : decode cL_law 11 = .ok (.dup, 1) := dk_89 (dk_at dksL_law_0 11 rfl rfl)
theorem dL_law_12 : decode cL_law 12 = .ok (.invokespecial 158, 3) := dk_183 0 158 (dk_at dksL_law_0 12 rfl rfl)
theorem dL_law_15 : decode cL_law 15 = .ok (.astore_n 2, 1) := dk_77 (dk_at dksL_law_0 15 rfl rfl)
theorem dL_law_16 : decode cL_law 16 = .ok (.iconst 1, 1) := dk_4 (dk_at dksL_law_0 16 rfl rfl)
theorem dL_law_17 : decode cL_law 17 = .ok (.newarray .long, 2) := dk_188_11 (dk_at dksL_law_0 17 rfl rfl)
theorem dL_law_19 : decode cL_law 19 = .ok (.astore_n 3, 1) := dk_78 (dk_at dksL_law_0 19 rfl rfl)
theorem dL_law_20 : decode cL_law 20 = .ok (.iconst 1, 1) := dk_4 (dk_at dksL_law_0 20 rfl rfl)
theorem dL_law_21 : decode cL_law 21 = .ok (.newarray .double, 2) := dk_188_7 (dk_at dksL_law_0 21 rfl rfl)
theorem dL_law_23 : decode cL_law 23 = .ok (.astore 4, 2) := dk_58 4 (dk_at dksL_law_1 0 rfl rfl)
theorem dL_law_25 : decode cL_law 25 = .ok (.iconst 0, 1) := dk_3 (dk_at dksL_law_1 2 rfl rfl)
theorem dL_law_26 : decode cL_law 26 = .ok (.istore 5, 2) := dk_54 5 (dk_at dksL_law_1 3 rfl rfl)
theorem dL_law_28 : decode cL_law 28 = .ok (.iload 5, 2) := dk_21 5 (dk_at dksL_law_1 5 rfl rfl)
theorem dL_law_30 : decode cL_law 30 = .ok (.aload_n 0, 1) := dk_42 (dk_at dksL_law_1 7 rfl rfl)
theorem dL_law_31 : decode cL_law 31 = .ok (.arraylength, 1) := dk_190 (dk_at dksL_law_1 8 rfl rfl)
theorem dL_law_32 : decode cL_law 32 = .ok (.iconst 5, 1) := dk_8 (dk_at dksL_law_1 9 rfl rfl)
theorem dL_law_33 : decode cL_law 33 = .ok (.isub, 1) := dk_100 (dk_at dksL_law_1 10 rfl rfl)
theorem dL_law_34 : decode cL_law 34 = .ok (.if_icmp .gt 2861, 3) := dk_163 11 45 (dk_at dksL_law_1 11 rfl rfl)
theorem dL_law_37 : decode cL_law 37 = .ok (.aload_n 0, 1) := dk_42 (dk_at dksL_law_1 14 rfl rfl)
theorem dL_law_38 : decode cL_law 38 = .ok (.iload 5, 2) := dk_21 5 (dk_at dksL_law_1 15 rfl rfl)
theorem dL_law_40 : decode cL_law 40 = .ok (.iaload, 1) := dk_46 (dk_at dksL_law_1 17 rfl rfl)
theorem dL_law_41 : decode cL_law 41 = .ok (.bipush 63, 2) := dk_16 63 (dk_at dksL_law_1 18 rfl rfl)
theorem dL_law_43 : decode cL_law 43 = .ok (.iand, 1) := dk_126 (dk_at dksL_law_1 20 rfl rfl)
theorem dL_law_44 : decode cL_law 44 = .ok (.tableswitch 2845 0 56 #[244, 300, 356, 412, 468, 560, 616, 672, 728, 796, 852, 908, 964, 1020, 1076, 1089, 1145, 1208, 1221, 1277, 1333, 1389, 1445, 1508, 1564, 1620, 1676, 1732, 1745, 1801, 1857, 1913, 1969, 2025, 2081, 2137, 2205, 2218, 2231, 2244, 2257, 2270, 2283, 2296, 2309, 2350, 2416, 2429, 2485, 2498, 2554, 2612, 2656, 2700, 2744, 2788, 2801], 244) := by decide +kernel
theorem dL_law_288 : decode cL_law 288 = .ok (.aload_n 1, 1) := dk_43 (dk_at dksL_law_3 0 rfl rfl)
theorem dL_law_289 : decode cL_law 289 = .ok (.aload_n 0, 1) := dk_42 (dk_at dksL_law_3 1 rfl rfl)
theorem dL_law_290 : decode cL_law 290 = .ok (.iload 5, 2) := dk_21 5 (dk_at dksL_law_3 2 rfl rfl)
theorem dL_law_292 : decode cL_law 292 = .ok (.iconst 1, 1) := dk_4 (dk_at dksL_law_3 4 rfl rfl)
theorem dL_law_293 : decode cL_law 293 = .ok (.iadd, 1) := dk_96 (dk_at dksL_law_3 5 rfl rfl)
theorem dL_law_294 : decode cL_law 294 = .ok (.iaload, 1) := dk_46 (dk_at dksL_law_3 6 rfl rfl)
theorem dL_law_295 : decode cL_law 295 = .ok (.aload_n 3, 1) := dk_45 (dk_at dksL_law_3 7 rfl rfl)
theorem dL_law_296 : decode cL_law 296 = .ok (.invokestatic 159, 3) := dk_184 0 159 (dk_at dksL_law_3 8 rfl rfl)
theorem dL_law_299 : decode cL_law 299 = .ok (.istore 6, 2) := dk_54 6 (dk_at dksL_law_3 11 rfl rfl)
theorem dL_law_301 : decode cL_law 301 = .ok (.aload_n 2, 1) := dk_44 (dk_at dksL_law_3 13 rfl rfl)
theorem dL_law_302 : decode cL_law 302 = .ok (.aload_n 0, 1) := dk_42 (dk_at dksL_law_3 14 rfl rfl)
theorem dL_law_303 : decode cL_law 303 = .ok (.iload 5, 2) := dk_21 5 (dk_at dksL_law_3 15 rfl rfl)
theorem dL_law_305 : decode cL_law 305 = .ok (.iconst 1, 1) := dk_4 (dk_at dksL_law_3 17 rfl rfl)
theorem dL_law_306 : decode cL_law 306 = .ok (.iadd, 1) := dk_96 (dk_at dksL_law_3 18 rfl rfl)
theorem dL_law_307 : decode cL_law 307 = .ok (.iaload, 1) := dk_46 (dk_at dksL_law_3 19 rfl rfl)
theorem dL_law_308 : decode cL_law 308 = .ok (.invokevirtual 164, 3) := dk_182 0 164 (dk_at dksL_law_3 20 rfl rfl)
theorem dL_law_311 : decode cL_law 311 = .ok (.istore 7, 2) := dk_54 7 (dk_at dksL_law_4 0 rfl rfl)
theorem dL_law_313 : decode cL_law 313 = .ok (.aload_n 2, 1) := dk_44 (dk_at dksL_law_4 2 rfl rfl)
theorem dL_law_314 : decode cL_law 314 = .ok (.invokevirtual 165, 3) := dk_182 0 165 (dk_at dksL_law_4 3 rfl rfl)
theorem dL_law_317 : decode cL_law 317 = .ok (.iload 6, 2) := dk_21 6 (dk_at dksL_law_4 6 rfl rfl)
theorem dL_law_319 : decode cL_law 319 = .ok (.if_icmp .eq 5, 3) := dk_159 0 5 (dk_at dksL_law_4 8 rfl rfl)
theorem dL_law_322 : decode cL_law 322 = .ok (.iconst 0, 1) := dk_3 (dk_at dksL_law_4 11 rfl rfl)
theorem dL_law_323 : decode cL_law 323 = .ok (.ireturn, 1) := dk_172 (dk_at dksL_law_4 12 rfl rfl)
theorem dL_law_324 : decode cL_law 324 = .ok (.iload 6, 2) := dk_21 6 (dk_at dksL_law_4 13 rfl rfl)
theorem dL_law_326 : decode cL_law 326 = .ok (.ifCond .ne 15, 3) := dk_154 0 15 (dk_at dksL_law_4 15 rfl rfl)
theorem dL_law_329 : decode cL_law 329 = .ok (.aload_n 3, 1) := dk_45 (dk_at dksL_law_4 18 rfl rfl)
theorem dL_law_330 : decode cL_law 330 = .ok (.iconst 0, 1) := dk_3 (dk_at dksL_law_4 19 rfl rfl)
theorem dL_law_331 : decode cL_law 331 = .ok (.laload, 1) := dk_47 (dk_at dksL_law_4 20 rfl rfl)
theorem dL_law_332 : decode cL_law 332 = .ok (.iload 7, 2) := dk_21 7 (dk_at dksL_law_4 21 rfl rfl)
theorem dL_law_334 : decode cL_law 334 = .ok (.i2l, 1) := dk_133 (dk_at dksL_law_4 23 rfl rfl)
theorem dL_law_335 : decode cL_law 335 = .ok (.lcmp, 1) := dk_148 (dk_at dksL_law_5 0 rfl rfl)
theorem dL_law_336 : decode cL_law 336 = .ok (.ifCond .eq 5, 3) := dk_153 0 5 (dk_at dksL_law_5 1 rfl rfl)
theorem dL_law_339 : decode cL_law 339 = .ok (.iconst 0, 1) := dk_3 (dk_at dksL_law_5 4 rfl rfl)
theorem dL_law_340 : decode cL_law 340 = .ok (.ireturn, 1) := dk_172 (dk_at dksL_law_5 5 rfl rfl)
theorem dL_law_341 : decode cL_law 341 = .ok (.goto 2548, 3) := dk_167 9 244 (dk_at dksL_law_5 6 rfl rfl)
theorem dL_law_344 : decode cL_law 344 = .ok (.aload_n 1, 1) := dk_43 (dk_at dksL_law_5 9 rfl rfl)
theorem dL_law_345 : decode cL_law 345 = .ok (.aload_n 0, 1) := dk_42 (dk_at dksL_law_5 10 rfl rfl)
theorem dL_law_346 : decode cL_law 346 = .ok (.iload 5, 2) := dk_21 5 (dk_at dksL_law_5 11 rfl rfl)
theorem dL_law_348 : decode cL_law 348 = .ok (.iconst 1, 1) := dk_4 (dk_at dksL_law_5 13 rfl rfl)
theorem dL_law_349 : decode cL_law 349 = .ok (.iadd, 1) := dk_96 (dk_at dksL_law_5 14 rfl rfl)
theorem dL_law_350 : decode cL_law 350 = .ok (.iaload, 1) := dk_46 (dk_at dksL_law_5 15 rfl rfl)
theorem dL_law_351 : decode cL_law 351 = .ok (.aload_n 3, 1) := dk_45 (dk_at dksL_law_5 16 rfl rfl)
theorem dL_law_352 : decode cL_law 352 = .ok (.invokestatic 168, 3) := dk_184 0 168 (dk_at dksL_law_5 17 rfl rfl)
theorem dL_law_355 : decode cL_law 355 = .ok (.istore 6, 2) := dk_54 6 (dk_at dksL_law_5 20 rfl rfl)
theorem dL_law_357 : decode cL_law 357 = .ok (.aload_n 2, 1) := dk_44 (dk_at dksL_law_5 22 rfl rfl)
theorem dL_law_358 : decode cL_law 358 = .ok (.aload_n 0, 1) := dk_42 (dk_at dksL_law_5 23 rfl rfl)
theorem dL_law_359 : decode cL_law 359 = .ok (.iload 5, 2) := dk_21 5 (dk_at dksL_law_6 0 rfl rfl)
theorem dL_law_361 : decode cL_law 361 = .ok (.iconst 1, 1) := dk_4 (dk_at dksL_law_6 2 rfl rfl)
theorem dL_law_362 : decode cL_law 362 = .ok (.iadd, 1) := dk_96 (dk_at dksL_law_6 3 rfl rfl)
theorem dL_law_363 : decode cL_law 363 = .ok (.iaload, 1) := dk_46 (dk_at dksL_law_6 4 rfl rfl)
theorem dL_law_364 : decode cL_law 364 = .ok (.invokevirtual 170, 3) := dk_182 0 170 (dk_at dksL_law_6 5 rfl rfl)
theorem dL_law_367 : decode cL_law 367 = .ok (.istore 7, 2) := dk_54 7 (dk_at dksL_law_6 8 rfl rfl)
theorem dL_law_369 : decode cL_law 369 = .ok (.aload_n 2, 1) := dk_44 (dk_at dksL_law_6 10 rfl rfl)
theorem dL_law_370 : decode cL_law 370 = .ok (.invokevirtual 165, 3) := dk_182 0 165 (dk_at dksL_law_6 11 rfl rfl)
theorem dL_law_373 : decode cL_law 373 = .ok (.iload 6, 2) := dk_21 6 (dk_at dksL_law_6 14 rfl rfl)
theorem dL_law_375 : decode cL_law 375 = .ok (.if_icmp .eq 5, 3) := dk_159 0 5 (dk_at dksL_law_6 16 rfl rfl)
theorem dL_law_378 : decode cL_law 378 = .ok (.iconst 0, 1) := dk_3 (dk_at dksL_law_6 19 rfl rfl)
theorem dL_law_379 : decode cL_law 379 = .ok (.ireturn, 1) := dk_172 (dk_at dksL_law_6 20 rfl rfl)
theorem dL_law_380 : decode cL_law 380 = .ok (.iload 6, 2) := dk_21 6 (dk_at dksL_law_6 21 rfl rfl)
theorem dL_law_382 : decode cL_law 382 = .ok (.ifCond .ne 15, 3) := dk_154 0 15 (dk_at dksL_law_7 0 rfl rfl)
theorem dL_law_385 : decode cL_law 385 = .ok (.aload_n 3, 1) := dk_45 (dk_at dksL_law_7 3 rfl rfl)
theorem dL_law_386 : decode cL_law 386 = .ok (.iconst 0, 1) := dk_3 (dk_at dksL_law_7 4 rfl rfl)
theorem dL_law_387 : decode cL_law 387 = .ok (.laload, 1) := dk_47 (dk_at dksL_law_7 5 rfl rfl)
theorem dL_law_388 : decode cL_law 388 = .ok (.iload 7, 2) := dk_21 7 (dk_at dksL_law_7 6 rfl rfl)
theorem dL_law_390 : decode cL_law 390 = .ok (.i2l, 1) := dk_133 (dk_at dksL_law_7 8 rfl rfl)
theorem dL_law_391 : decode cL_law 391 = .ok (.lcmp, 1) := dk_148 (dk_at dksL_law_7 9 rfl rfl)
theorem dL_law_392 : decode cL_law 392 = .ok (.ifCond .eq 5, 3) := dk_153 0 5 (dk_at dksL_law_7 10 rfl rfl)
theorem dL_law_395 : decode cL_law 395 = .ok (.iconst 0, 1) := dk_3 (dk_at dksL_law_7 13 rfl rfl)
theorem dL_law_396 : decode cL_law 396 = .ok (.ireturn, 1) := dk_172 (dk_at dksL_law_7 14 rfl rfl)
theorem dL_law_397 : decode cL_law 397 = .ok (.goto 2492, 3) := dk_167 9 188 (dk_at dksL_law_7 15 rfl rfl)
theorem dL_law_400 : decode cL_law 400 = .ok (.aload_n 1, 1) := dk_43 (dk_at dksL_law_7 18 rfl rfl)
theorem dL_law_401 : decode cL_law 401 = .ok (.aload_n 0, 1) := dk_42 (dk_at dksL_law_7 19 rfl rfl)
theorem dL_law_402 : decode cL_law 402 = .ok (.iload 5, 2) := dk_21 5 (dk_at dksL_law_7 20 rfl rfl)
theorem dL_law_404 : decode cL_law 404 = .ok (.iconst 1, 1) := dk_4 (dk_at dksL_law_7 22 rfl rfl)
theorem dL_law_405 : decode cL_law 405 = .ok (.iadd, 1) := dk_96 (dk_at dksL_law_7 23 rfl rfl)
theorem dL_law_406 : decode cL_law 406 = .ok (.iaload, 1) := dk_46 (dk_at dksL_law_8 0 rfl rfl)
theorem dL_law_407 : decode cL_law 407 = .ok (.aload_n 3, 1) := dk_45 (dk_at dksL_law_8 1 rfl rfl)
theorem dL_law_408 : decode cL_law 408 = .ok (.invokestatic 171, 3) := dk_184 0 171 (dk_at dksL_law_8 2 rfl rfl)
theorem dL_law_411 : decode cL_law 411 = .ok (.istore 6, 2) := dk_54 6 (dk_at dksL_law_8 5 rfl rfl)
theorem dL_law_413 : decode cL_law 413 = .ok (.aload_n 2, 1) := dk_44 (dk_at dksL_law_8 7 rfl rfl)
theorem dL_law_414 : decode cL_law 414 = .ok (.aload_n 0, 1) := dk_42 (dk_at dksL_law_8 8 rfl rfl)
theorem dL_law_415 : decode cL_law 415 = .ok (.iload 5, 2) := dk_21 5 (dk_at dksL_law_8 9 rfl rfl)
theorem dL_law_417 : decode cL_law 417 = .ok (.iconst 1, 1) := dk_4 (dk_at dksL_law_8 11 rfl rfl)
theorem dL_law_418 : decode cL_law 418 = .ok (.iadd, 1) := dk_96 (dk_at dksL_law_8 12 rfl rfl)
theorem dL_law_419 : decode cL_law 419 = .ok (.iaload, 1) := dk_46 (dk_at dksL_law_8 13 rfl rfl)
theorem dL_law_420 : decode cL_law 420 = .ok (.invokevirtual 173, 3) := dk_182 0 173 (dk_at dksL_law_8 14 rfl rfl)
theorem dL_law_423 : decode cL_law 423 = .ok (.istore 7, 2) := dk_54 7 (dk_at dksL_law_8 17 rfl rfl)
theorem dL_law_425 : decode cL_law 425 = .ok (.aload_n 2, 1) := dk_44 (dk_at dksL_law_8 19 rfl rfl)
theorem dL_law_426 : decode cL_law 426 = .ok (.invokevirtual 165, 3) := dk_182 0 165 (dk_at dksL_law_8 20 rfl rfl)
theorem dL_law_429 : decode cL_law 429 = .ok (.iload 6, 2) := dk_21 6 (dk_at dksL_law_9 0 rfl rfl)
theorem dL_law_431 : decode cL_law 431 = .ok (.if_icmp .eq 5, 3) := dk_159 0 5 (dk_at dksL_law_9 2 rfl rfl)
theorem dL_law_434 : decode cL_law 434 = .ok (.iconst 0, 1) := dk_3 (dk_at dksL_law_9 5 rfl rfl)
theorem dL_law_435 : decode cL_law 435 = .ok (.ireturn, 1) := dk_172 (dk_at dksL_law_9 6 rfl rfl)
theorem dL_law_436 : decode cL_law 436 = .ok (.iload 6, 2) := dk_21 6 (dk_at dksL_law_9 7 rfl rfl)
theorem dL_law_438 : decode cL_law 438 = .ok (.ifCond .ne 15, 3) := dk_154 0 15 (dk_at dksL_law_9 9 rfl rfl)
theorem dL_law_441 : decode cL_law 441 = .ok (.aload_n 3, 1) := dk_45 (dk_at dksL_law_9 12 rfl rfl)
theorem dL_law_442 : decode cL_law 442 = .ok (.iconst 0, 1) := dk_3 (dk_at dksL_law_9 13 rfl rfl)
theorem dL_law_443 : decode cL_law 443 = .ok (.laload, 1) := dk_47 (dk_at dksL_law_9 14 rfl rfl)
theorem dL_law_444 : decode cL_law 444 = .ok (.iload 7, 2) := dk_21 7 (dk_at dksL_law_9 15 rfl rfl)
theorem dL_law_446 : decode cL_law 446 = .ok (.i2l, 1) := dk_133 (dk_at dksL_law_9 17 rfl rfl)
theorem dL_law_447 : decode cL_law 447 = .ok (.lcmp, 1) := dk_148 (dk_at dksL_law_9 18 rfl rfl)
theorem dL_law_448 : decode cL_law 448 = .ok (.ifCond .eq 5, 3) := dk_153 0 5 (dk_at dksL_law_9 19 rfl rfl)
theorem dL_law_451 : decode cL_law 451 = .ok (.iconst 0, 1) := dk_3 (dk_at dksL_law_9 22 rfl rfl)
theorem dL_law_452 : decode cL_law 452 = .ok (.ireturn, 1) := dk_172 (dk_at dksL_law_9 23 rfl rfl)
theorem dL_law_453 : decode cL_law 453 = .ok (.goto 2436, 3) := dk_167 9 132 (dk_at dksL_law_10 0 rfl rfl)
theorem dL_law_456 : decode cL_law 456 = .ok (.aload_n 1, 1) := dk_43 (dk_at dksL_law_10 3 rfl rfl)
theorem dL_law_457 : decode cL_law 457 = .ok (.aload_n 0, 1) := dk_42 (dk_at dksL_law_10 4 rfl rfl)
theorem dL_law_458 : decode cL_law 458 = .ok (.iload 5, 2) := dk_21 5 (dk_at dksL_law_10 5 rfl rfl)
theorem dL_law_460 : decode cL_law 460 = .ok (.iconst 1, 1) := dk_4 (dk_at dksL_law_10 7 rfl rfl)
theorem dL_law_461 : decode cL_law 461 = .ok (.iadd, 1) := dk_96 (dk_at dksL_law_10 8 rfl rfl)
theorem dL_law_462 : decode cL_law 462 = .ok (.iaload, 1) := dk_46 (dk_at dksL_law_10 9 rfl rfl)
theorem dL_law_463 : decode cL_law 463 = .ok (.aload_n 3, 1) := dk_45 (dk_at dksL_law_10 10 rfl rfl)
theorem dL_law_464 : decode cL_law 464 = .ok (.invokestatic 174, 3) := dk_184 0 174 (dk_at dksL_law_10 11 rfl rfl)
theorem dL_law_467 : decode cL_law 467 = .ok (.istore 6, 2) := dk_54 6 (dk_at dksL_law_10 14 rfl rfl)
theorem dL_law_469 : decode cL_law 469 = .ok (.aload_n 2, 1) := dk_44 (dk_at dksL_law_10 16 rfl rfl)
theorem dL_law_470 : decode cL_law 470 = .ok (.aload_n 0, 1) := dk_42 (dk_at dksL_law_10 17 rfl rfl)
theorem dL_law_471 : decode cL_law 471 = .ok (.iload 5, 2) := dk_21 5 (dk_at dksL_law_10 18 rfl rfl)
theorem dL_law_473 : decode cL_law 473 = .ok (.iconst 1, 1) := dk_4 (dk_at dksL_law_10 20 rfl rfl)
theorem dL_law_474 : decode cL_law 474 = .ok (.iadd, 1) := dk_96 (dk_at dksL_law_10 21 rfl rfl)
theorem dL_law_475 : decode cL_law 475 = .ok (.iaload, 1) := dk_46 (dk_at dksL_law_10 22 rfl rfl)
theorem dL_law_476 : decode cL_law 476 = .ok (.invokevirtual 176, 3) := dk_182 0 176 (dk_at dksL_law_11 0 rfl rfl)
theorem dL_law_479 : decode cL_law 479 = .ok (.istore 7, 2) := dk_54 7 (dk_at dksL_law_11 3 rfl rfl)
theorem dL_law_481 : decode cL_law 481 = .ok (.aload_n 2, 1) := dk_44 (dk_at dksL_law_11 5 rfl rfl)
theorem dL_law_482 : decode cL_law 482 = .ok (.invokevirtual 165, 3) := dk_182 0 165 (dk_at dksL_law_11 6 rfl rfl)
theorem dL_law_485 : decode cL_law 485 = .ok (.iload 6, 2) := dk_21 6 (dk_at dksL_law_11 9 rfl rfl)
theorem dL_law_487 : decode cL_law 487 = .ok (.if_icmp .eq 5, 3) := dk_159 0 5 (dk_at dksL_law_11 11 rfl rfl)
theorem dL_law_490 : decode cL_law 490 = .ok (.iconst 0, 1) := dk_3 (dk_at dksL_law_11 14 rfl rfl)
theorem dL_law_491 : decode cL_law 491 = .ok (.ireturn, 1) := dk_172 (dk_at dksL_law_11 15 rfl rfl)
theorem dL_law_492 : decode cL_law 492 = .ok (.iload 6, 2) := dk_21 6 (dk_at dksL_law_11 16 rfl rfl)
theorem dL_law_494 : decode cL_law 494 = .ok (.ifCond .ne 15, 3) := dk_154 0 15 (dk_at dksL_law_11 18 rfl rfl)
theorem dL_law_497 : decode cL_law 497 = .ok (.aload_n 3, 1) := dk_45 (dk_at dksL_law_11 21 rfl rfl)
theorem dL_law_498 : decode cL_law 498 = .ok (.iconst 0, 1) := dk_3 (dk_at dksL_law_11 22 rfl rfl)
theorem dL_law_499 : decode cL_law 499 = .ok (.laload, 1) := dk_47 (dk_at dksL_law_11 23 rfl rfl)
theorem dL_law_500 : decode cL_law 500 = .ok (.iload 7, 2) := dk_21 7 (dk_at dksL_law_12 0 rfl rfl)
theorem dL_law_502 : decode cL_law 502 = .ok (.i2l, 1) := dk_133 (dk_at dksL_law_12 2 rfl rfl)
theorem dL_law_503 : decode cL_law 503 = .ok (.lcmp, 1) := dk_148 (dk_at dksL_law_12 3 rfl rfl)
theorem dL_law_504 : decode cL_law 504 = .ok (.ifCond .eq 5, 3) := dk_153 0 5 (dk_at dksL_law_12 4 rfl rfl)
theorem dL_law_507 : decode cL_law 507 = .ok (.iconst 0, 1) := dk_3 (dk_at dksL_law_12 7 rfl rfl)
theorem dL_law_508 : decode cL_law 508 = .ok (.ireturn, 1) := dk_172 (dk_at dksL_law_12 8 rfl rfl)
theorem dL_law_509 : decode cL_law 509 = .ok (.goto 2380, 3) := dk_167 9 76 (dk_at dksL_law_12 9 rfl rfl)
theorem dL_law_512 : decode cL_law 512 = .ok (.aload_n 1, 1) := dk_43 (dk_at dksL_law_12 12 rfl rfl)
theorem dL_law_513 : decode cL_law 513 = .ok (.aload_n 0, 1) := dk_42 (dk_at dksL_law_12 13 rfl rfl)
theorem dL_law_514 : decode cL_law 514 = .ok (.iload 5, 2) := dk_21 5 (dk_at dksL_law_12 14 rfl rfl)
theorem dL_law_516 : decode cL_law 516 = .ok (.iconst 1, 1) := dk_4 (dk_at dksL_law_12 16 rfl rfl)
theorem dL_law_517 : decode cL_law 517 = .ok (.iadd, 1) := dk_96 (dk_at dksL_law_12 17 rfl rfl)
theorem dL_law_518 : decode cL_law 518 = .ok (.iaload, 1) := dk_46 (dk_at dksL_law_12 18 rfl rfl)
theorem dL_law_519 : decode cL_law 519 = .ok (.aload_n 0, 1) := dk_42 (dk_at dksL_law_12 19 rfl rfl)
theorem dL_law_520 : decode cL_law 520 = .ok (.iload 5, 2) := dk_21 5 (dk_at dksL_law_12 20 rfl rfl)
theorem dL_law_522 : decode cL_law 522 = .ok (.iconst 2, 1) := dk_5 (dk_at dksL_law_12 22 rfl rfl)
theorem dL_law_523 : decode cL_law 523 = .ok (.iadd, 1) := dk_96 (dk_at dksL_law_12 23 rfl rfl)
theorem dL_law_524 : decode cL_law 524 = .ok (.iaload, 1) := dk_46 (dk_at dksL_law_13 0 rfl rfl)
theorem dL_law_525 : decode cL_law 525 = .ok (.aload_n 0, 1) := dk_42 (dk_at dksL_law_13 1 rfl rfl)
theorem dL_law_526 : decode cL_law 526 = .ok (.iload 5, 2) := dk_21 5 (dk_at dksL_law_13 2 rfl rfl)
theorem dL_law_528 : decode cL_law 528 = .ok (.iconst 3, 1) := dk_6 (dk_at dksL_law_13 4 rfl rfl)
theorem dL_law_529 : decode cL_law 529 = .ok (.iadd, 1) := dk_96 (dk_at dksL_law_13 5 rfl rfl)
theorem dL_law_530 : decode cL_law 530 = .ok (.iaload, 1) := dk_46 (dk_at dksL_law_13 6 rfl rfl)
theorem dL_law_531 : decode cL_law 531 = .ok (.aload_n 0, 1) := dk_42 (dk_at dksL_law_13 7 rfl rfl)
theorem dL_law_532 : decode cL_law 532 = .ok (.iload 5, 2) := dk_21 5 (dk_at dksL_law_13 8 rfl rfl)
theorem dL_law_534 : decode cL_law 534 = .ok (.iconst 4, 1) := dk_7 (dk_at dksL_law_13 10 rfl rfl)
theorem dL_law_535 : decode cL_law 535 = .ok (.iadd, 1) := dk_96 (dk_at dksL_law_13 11 rfl rfl)
theorem dL_law_536 : decode cL_law 536 = .ok (.iaload, 1) := dk_46 (dk_at dksL_law_13 12 rfl rfl)
theorem dL_law_537 : decode cL_law 537 = .ok (.aload_n 3, 1) := dk_45 (dk_at dksL_law_13 13 rfl rfl)
theorem dL_law_538 : decode cL_law 538 = .ok (.invokestatic 177, 3) := dk_184 0 177 (dk_at dksL_law_13 14 rfl rfl)
theorem dL_law_541 : decode cL_law 541 = .ok (.istore 6, 2) := dk_54 6 (dk_at dksL_law_13 17 rfl rfl)
theorem dL_law_543 : decode cL_law 543 = .ok (.aload_n 2, 1) := dk_44 (dk_at dksL_law_13 19 rfl rfl)
theorem dL_law_544 : decode cL_law 544 = .ok (.aload_n 0, 1) := dk_42 (dk_at dksL_law_13 20 rfl rfl)
theorem dL_law_545 : decode cL_law 545 = .ok (.iload 5, 2) := dk_21 5 (dk_at dksL_law_13 21 rfl rfl)
theorem dL_law_547 : decode cL_law 547 = .ok (.iconst 1, 1) := dk_4 (dk_at dksL_law_13 23 rfl rfl)
theorem dL_law_548 : decode cL_law 548 = .ok (.iadd, 1) := dk_96 (dk_at dksL_law_14 0 rfl rfl)
theorem dL_law_549 : decode cL_law 549 = .ok (.iaload, 1) := dk_46 (dk_at dksL_law_14 1 rfl rfl)
theorem dL_law_550 : decode cL_law 550 = .ok (.aload_n 0, 1) := dk_42 (dk_at dksL_law_14 2 rfl rfl)
theorem dL_law_551 : decode cL_law 551 = .ok (.iload 5, 2) := dk_21 5 (dk_at dksL_law_14 3 rfl rfl)
theorem dL_law_553 : decode cL_law 553 = .ok (.iconst 2, 1) := dk_5 (dk_at dksL_law_14 5 rfl rfl)
theorem dL_law_554 : decode cL_law 554 = .ok (.iadd, 1) := dk_96 (dk_at dksL_law_14 6 rfl rfl)
theorem dL_law_555 : decode cL_law 555 = .ok (.iaload, 1) := dk_46 (dk_at dksL_law_14 7 rfl rfl)
theorem dL_law_556 : decode cL_law 556 = .ok (.aload_n 0, 1) := dk_42 (dk_at dksL_law_14 8 rfl rfl)
theorem dL_law_557 : decode cL_law 557 = .ok (.iload 5, 2) := dk_21 5 (dk_at dksL_law_14 9 rfl rfl)
theorem dL_law_559 : decode cL_law 559 = .ok (.iconst 3, 1) := dk_6 (dk_at dksL_law_14 11 rfl rfl)
theorem dL_law_560 : decode cL_law 560 = .ok (.iadd, 1) := dk_96 (dk_at dksL_law_14 12 rfl rfl)
theorem dL_law_561 : decode cL_law 561 = .ok (.iaload, 1) := dk_46 (dk_at dksL_law_14 13 rfl rfl)
theorem dL_law_562 : decode cL_law 562 = .ok (.aload_n 0, 1) := dk_42 (dk_at dksL_law_14 14 rfl rfl)
theorem dL_law_563 : decode cL_law 563 = .ok (.iload 5, 2) := dk_21 5 (dk_at dksL_law_14 15 rfl rfl)
theorem dL_law_565 : decode cL_law 565 = .ok (.iconst 4, 1) := dk_7 (dk_at dksL_law_14 17 rfl rfl)
theorem dL_law_566 : decode cL_law 566 = .ok (.iadd, 1) := dk_96 (dk_at dksL_law_14 18 rfl rfl)
theorem dL_law_567 : decode cL_law 567 = .ok (.iaload, 1) := dk_46 (dk_at dksL_law_14 19 rfl rfl)
theorem dL_law_568 : decode cL_law 568 = .ok (.invokevirtual 180, 3) := dk_182 0 180 (dk_at dksL_law_14 20 rfl rfl)
theorem dL_law_571 : decode cL_law 571 = .ok (.istore 7, 2) := dk_54 7 (dk_at dksL_law_15 0 rfl rfl)
theorem dL_law_573 : decode cL_law 573 = .ok (.aload_n 2, 1) := dk_44 (dk_at dksL_law_15 2 rfl rfl)
theorem dL_law_574 : decode cL_law 574 = .ok (.invokevirtual 165, 3) := dk_182 0 165 (dk_at dksL_law_15 3 rfl rfl)
theorem dL_law_577 : decode cL_law 577 = .ok (.iload 6, 2) := dk_21 6 (dk_at dksL_law_15 6 rfl rfl)
theorem dL_law_579 : decode cL_law 579 = .ok (.if_icmp .eq 5, 3) := dk_159 0 5 (dk_at dksL_law_15 8 rfl rfl)
theorem dL_law_582 : decode cL_law 582 = .ok (.iconst 0, 1) := dk_3 (dk_at dksL_law_15 11 rfl rfl)
theorem dL_law_583 : decode cL_law 583 = .ok (.ireturn, 1) := dk_172 (dk_at dksL_law_15 12 rfl rfl)
theorem dL_law_584 : decode cL_law 584 = .ok (.iload 6, 2) := dk_21 6 (dk_at dksL_law_15 13 rfl rfl)
theorem dL_law_586 : decode cL_law 586 = .ok (.ifCond .ne 15, 3) := dk_154 0 15 (dk_at dksL_law_15 15 rfl rfl)
theorem dL_law_589 : decode cL_law 589 = .ok (.aload_n 3, 1) := dk_45 (dk_at dksL_law_15 18 rfl rfl)
theorem dL_law_590 : decode cL_law 590 = .ok (.iconst 0, 1) := dk_3 (dk_at dksL_law_15 19 rfl rfl)
theorem dL_law_591 : decode cL_law 591 = .ok (.laload, 1) := dk_47 (dk_at dksL_law_15 20 rfl rfl)
theorem dL_law_592 : decode cL_law 592 = .ok (.iload 7, 2) := dk_21 7 (dk_at dksL_law_15 21 rfl rfl)
theorem dL_law_594 : decode cL_law 594 = .ok (.i2l, 1) := dk_133 (dk_at dksL_law_15 23 rfl rfl)
theorem dL_law_595 : decode cL_law 595 = .ok (.lcmp, 1) := dk_148 (dk_at dksL_law_16 0 rfl rfl)
theorem dL_law_596 : decode cL_law 596 = .ok (.ifCond .eq 5, 3) := dk_153 0 5 (dk_at dksL_law_16 1 rfl rfl)
theorem dL_law_599 : decode cL_law 599 = .ok (.iconst 0, 1) := dk_3 (dk_at dksL_law_16 4 rfl rfl)
theorem dL_law_600 : decode cL_law 600 = .ok (.ireturn, 1) := dk_172 (dk_at dksL_law_16 5 rfl rfl)
theorem dL_law_601 : decode cL_law 601 = .ok (.goto 2288, 3) := dk_167 8 240 (dk_at dksL_law_16 6 rfl rfl)
theorem dL_law_604 : decode cL_law 604 = .ok (.aload_n 1, 1) := dk_43 (dk_at dksL_law_16 9 rfl rfl)
theorem dL_law_605 : decode cL_law 605 = .ok (.aload_n 0, 1) := dk_42 (dk_at dksL_law_16 10 rfl rfl)
theorem dL_law_606 : decode cL_law 606 = .ok (.iload 5, 2) := dk_21 5 (dk_at dksL_law_16 11 rfl rfl)
theorem dL_law_608 : decode cL_law 608 = .ok (.iconst 1, 1) := dk_4 (dk_at dksL_law_16 13 rfl rfl)
theorem dL_law_609 : decode cL_law 609 = .ok (.iadd, 1) := dk_96 (dk_at dksL_law_16 14 rfl rfl)
theorem dL_law_610 : decode cL_law 610 = .ok (.iaload, 1) := dk_46 (dk_at dksL_law_16 15 rfl rfl)
theorem dL_law_611 : decode cL_law 611 = .ok (.aload_n 3, 1) := dk_45 (dk_at dksL_law_16 16 rfl rfl)
theorem dL_law_612 : decode cL_law 612 = .ok (.invokestatic 181, 3) := dk_184 0 181 (dk_at dksL_law_16 17 rfl rfl)
theorem dL_law_615 : decode cL_law 615 = .ok (.istore 6, 2) := dk_54 6 (dk_at dksL_law_16 20 rfl rfl)
theorem dL_law_617 : decode cL_law 617 = .ok (.aload_n 2, 1) := dk_44 (dk_at dksL_law_16 22 rfl rfl)
theorem dL_law_618 : decode cL_law 618 = .ok (.aload_n 0, 1) := dk_42 (dk_at dksL_law_16 23 rfl rfl)
theorem dL_law_619 : decode cL_law 619 = .ok (.iload 5, 2) := dk_21 5 (dk_at dksL_law_17 0 rfl rfl)
theorem dL_law_621 : decode cL_law 621 = .ok (.iconst 1, 1) := dk_4 (dk_at dksL_law_17 2 rfl rfl)
theorem dL_law_622 : decode cL_law 622 = .ok (.iadd, 1) := dk_96 (dk_at dksL_law_17 3 rfl rfl)
theorem dL_law_623 : decode cL_law 623 = .ok (.iaload, 1) := dk_46 (dk_at dksL_law_17 4 rfl rfl)
theorem dL_law_624 : decode cL_law 624 = .ok (.invokevirtual 183, 3) := dk_182 0 183 (dk_at dksL_law_17 5 rfl rfl)
theorem dL_law_627 : decode cL_law 627 = .ok (.istore 7, 2) := dk_54 7 (dk_at dksL_law_17 8 rfl rfl)
theorem dL_law_629 : decode cL_law 629 = .ok (.aload_n 2, 1) := dk_44 (dk_at dksL_law_17 10 rfl rfl)
theorem dL_law_630 : decode cL_law 630 = .ok (.invokevirtual 165, 3) := dk_182 0 165 (dk_at dksL_law_17 11 rfl rfl)
theorem dL_law_633 : decode cL_law 633 = .ok (.iload 6, 2) := dk_21 6 (dk_at dksL_law_17 14 rfl rfl)
theorem dL_law_635 : decode cL_law 635 = .ok (.if_icmp .eq 5, 3) := dk_159 0 5 (dk_at dksL_law_17 16 rfl rfl)
theorem dL_law_638 : decode cL_law 638 = .ok (.iconst 0, 1) := dk_3 (dk_at dksL_law_17 19 rfl rfl)
theorem dL_law_639 : decode cL_law 639 = .ok (.ireturn, 1) := dk_172 (dk_at dksL_law_17 20 rfl rfl)
theorem dL_law_640 : decode cL_law 640 = .ok (.iload 6, 2) := dk_21 6 (dk_at dksL_law_17 21 rfl rfl)
theorem dL_law_642 : decode cL_law 642 = .ok (.ifCond .ne 15, 3) := dk_154 0 15 (dk_at dksL_law_18 0 rfl rfl)
theorem dL_law_645 : decode cL_law 645 = .ok (.aload_n 3, 1) := dk_45 (dk_at dksL_law_18 3 rfl rfl)
theorem dL_law_646 : decode cL_law 646 = .ok (.iconst 0, 1) := dk_3 (dk_at dksL_law_18 4 rfl rfl)
theorem dL_law_647 : decode cL_law 647 = .ok (.laload, 1) := dk_47 (dk_at dksL_law_18 5 rfl rfl)
theorem dL_law_648 : decode cL_law 648 = .ok (.iload 7, 2) := dk_21 7 (dk_at dksL_law_18 6 rfl rfl)
theorem dL_law_650 : decode cL_law 650 = .ok (.i2l, 1) := dk_133 (dk_at dksL_law_18 8 rfl rfl)
theorem dL_law_651 : decode cL_law 651 = .ok (.lcmp, 1) := dk_148 (dk_at dksL_law_18 9 rfl rfl)
theorem dL_law_652 : decode cL_law 652 = .ok (.ifCond .eq 5, 3) := dk_153 0 5 (dk_at dksL_law_18 10 rfl rfl)
theorem dL_law_655 : decode cL_law 655 = .ok (.iconst 0, 1) := dk_3 (dk_at dksL_law_18 13 rfl rfl)
theorem dL_law_656 : decode cL_law 656 = .ok (.ireturn, 1) := dk_172 (dk_at dksL_law_18 14 rfl rfl)
theorem dL_law_657 : decode cL_law 657 = .ok (.goto 2232, 3) := dk_167 8 184 (dk_at dksL_law_18 15 rfl rfl)
theorem dL_law_660 : decode cL_law 660 = .ok (.aload_n 1, 1) := dk_43 (dk_at dksL_law_18 18 rfl rfl)
theorem dL_law_661 : decode cL_law 661 = .ok (.aload_n 0, 1) := dk_42 (dk_at dksL_law_18 19 rfl rfl)
theorem dL_law_662 : decode cL_law 662 = .ok (.iload 5, 2) := dk_21 5 (dk_at dksL_law_18 20 rfl rfl)
theorem dL_law_664 : decode cL_law 664 = .ok (.iconst 1, 1) := dk_4 (dk_at dksL_law_18 22 rfl rfl)
theorem dL_law_665 : decode cL_law 665 = .ok (.iadd, 1) := dk_96 (dk_at dksL_law_18 23 rfl rfl)
theorem dL_law_666 : decode cL_law 666 = .ok (.iaload, 1) := dk_46 (dk_at dksL_law_19 0 rfl rfl)
theorem dL_law_667 : decode cL_law 667 = .ok (.aload_n 3, 1) := dk_45 (dk_at dksL_law_19 1 rfl rfl)
theorem dL_law_668 : decode cL_law 668 = .ok (.invokestatic 184, 3) := dk_184 0 184 (dk_at dksL_law_19 2 rfl rfl)
theorem dL_law_671 : decode cL_law 671 = .ok (.istore 6, 2) := dk_54 6 (dk_at dksL_law_19 5 rfl rfl)
theorem dL_law_673 : decode cL_law 673 = .ok (.aload_n 2, 1) := dk_44 (dk_at dksL_law_19 7 rfl rfl)
theorem dL_law_674 : decode cL_law 674 = .ok (.aload_n 0, 1) := dk_42 (dk_at dksL_law_19 8 rfl rfl)
theorem dL_law_675 : decode cL_law 675 = .ok (.iload 5, 2) := dk_21 5 (dk_at dksL_law_19 9 rfl rfl)
theorem dL_law_677 : decode cL_law 677 = .ok (.iconst 1, 1) := dk_4 (dk_at dksL_law_19 11 rfl rfl)
theorem dL_law_678 : decode cL_law 678 = .ok (.iadd, 1) := dk_96 (dk_at dksL_law_19 12 rfl rfl)
theorem dL_law_679 : decode cL_law 679 = .ok (.iaload, 1) := dk_46 (dk_at dksL_law_19 13 rfl rfl)
theorem dL_law_680 : decode cL_law 680 = .ok (.invokevirtual 186, 3) := dk_182 0 186 (dk_at dksL_law_19 14 rfl rfl)
theorem dL_law_683 : decode cL_law 683 = .ok (.istore 7, 2) := dk_54 7 (dk_at dksL_law_19 17 rfl rfl)
theorem dL_law_685 : decode cL_law 685 = .ok (.aload_n 2, 1) := dk_44 (dk_at dksL_law_19 19 rfl rfl)
theorem dL_law_686 : decode cL_law 686 = .ok (.invokevirtual 165, 3) := dk_182 0 165 (dk_at dksL_law_19 20 rfl rfl)
theorem dL_law_689 : decode cL_law 689 = .ok (.iload 6, 2) := dk_21 6 (dk_at dksL_law_20 0 rfl rfl)
theorem dL_law_691 : decode cL_law 691 = .ok (.if_icmp .eq 5, 3) := dk_159 0 5 (dk_at dksL_law_20 2 rfl rfl)
theorem dL_law_694 : decode cL_law 694 = .ok (.iconst 0, 1) := dk_3 (dk_at dksL_law_20 5 rfl rfl)
theorem dL_law_695 : decode cL_law 695 = .ok (.ireturn, 1) := dk_172 (dk_at dksL_law_20 6 rfl rfl)
theorem dL_law_696 : decode cL_law 696 = .ok (.iload 6, 2) := dk_21 6 (dk_at dksL_law_20 7 rfl rfl)
theorem dL_law_698 : decode cL_law 698 = .ok (.ifCond .ne 15, 3) := dk_154 0 15 (dk_at dksL_law_20 9 rfl rfl)
theorem dL_law_701 : decode cL_law 701 = .ok (.aload_n 3, 1) := dk_45 (dk_at dksL_law_20 12 rfl rfl)
theorem dL_law_702 : decode cL_law 702 = .ok (.iconst 0, 1) := dk_3 (dk_at dksL_law_20 13 rfl rfl)
theorem dL_law_703 : decode cL_law 703 = .ok (.laload, 1) := dk_47 (dk_at dksL_law_20 14 rfl rfl)
theorem dL_law_704 : decode cL_law 704 = .ok (.iload 7, 2) := dk_21 7 (dk_at dksL_law_20 15 rfl rfl)
theorem dL_law_706 : decode cL_law 706 = .ok (.i2l, 1) := dk_133 (dk_at dksL_law_20 17 rfl rfl)
theorem dL_law_707 : decode cL_law 707 = .ok (.lcmp, 1) := dk_148 (dk_at dksL_law_20 18 rfl rfl)
theorem dL_law_708 : decode cL_law 708 = .ok (.ifCond .eq 5, 3) := dk_153 0 5 (dk_at dksL_law_20 19 rfl rfl)
theorem dL_law_711 : decode cL_law 711 = .ok (.iconst 0, 1) := dk_3 (dk_at dksL_law_20 22 rfl rfl)
theorem dL_law_712 : decode cL_law 712 = .ok (.ireturn, 1) := dk_172 (dk_at dksL_law_20 23 rfl rfl)
theorem dL_law_713 : decode cL_law 713 = .ok (.goto 2176, 3) := dk_167 8 128 (dk_at dksL_law_21 0 rfl rfl)
theorem dL_law_716 : decode cL_law 716 = .ok (.aload_n 1, 1) := dk_43 (dk_at dksL_law_21 3 rfl rfl)
theorem dL_law_717 : decode cL_law 717 = .ok (.aload_n 0, 1) := dk_42 (dk_at dksL_law_21 4 rfl rfl)
theorem dL_law_718 : decode cL_law 718 = .ok (.iload 5, 2) := dk_21 5 (dk_at dksL_law_21 5 rfl rfl)
theorem dL_law_720 : decode cL_law 720 = .ok (.iconst 1, 1) := dk_4 (dk_at dksL_law_21 7 rfl rfl)
theorem dL_law_721 : decode cL_law 721 = .ok (.iadd, 1) := dk_96 (dk_at dksL_law_21 8 rfl rfl)
theorem dL_law_722 : decode cL_law 722 = .ok (.iaload, 1) := dk_46 (dk_at dksL_law_21 9 rfl rfl)
theorem dL_law_723 : decode cL_law 723 = .ok (.aload_n 3, 1) := dk_45 (dk_at dksL_law_21 10 rfl rfl)
theorem dL_law_724 : decode cL_law 724 = .ok (.invokestatic 187, 3) := dk_184 0 187 (dk_at dksL_law_21 11 rfl rfl)
theorem dL_law_727 : decode cL_law 727 = .ok (.istore 6, 2) := dk_54 6 (dk_at dksL_law_21 14 rfl rfl)
theorem dL_law_729 : decode cL_law 729 = .ok (.aload_n 2, 1) := dk_44 (dk_at dksL_law_21 16 rfl rfl)
theorem dL_law_730 : decode cL_law 730 = .ok (.aload_n 0, 1) := dk_42 (dk_at dksL_law_21 17 rfl rfl)
theorem dL_law_731 : decode cL_law 731 = .ok (.iload 5, 2) := dk_21 5 (dk_at dksL_law_21 18 rfl rfl)
theorem dL_law_733 : decode cL_law 733 = .ok (.iconst 1, 1) := dk_4 (dk_at dksL_law_21 20 rfl rfl)
theorem dL_law_734 : decode cL_law 734 = .ok (.iadd, 1) := dk_96 (dk_at dksL_law_21 21 rfl rfl)
theorem dL_law_735 : decode cL_law 735 = .ok (.iaload, 1) := dk_46 (dk_at dksL_law_21 22 rfl rfl)
theorem dL_law_736 : decode cL_law 736 = .ok (.invokevirtual 189, 3) := dk_182 0 189 (dk_at dksL_law_22 0 rfl rfl)
theorem dL_law_739 : decode cL_law 739 = .ok (.istore 7, 2) := dk_54 7 (dk_at dksL_law_22 3 rfl rfl)
theorem dL_law_741 : decode cL_law 741 = .ok (.aload_n 2, 1) := dk_44 (dk_at dksL_law_22 5 rfl rfl)
theorem dL_law_742 : decode cL_law 742 = .ok (.invokevirtual 165, 3) := dk_182 0 165 (dk_at dksL_law_22 6 rfl rfl)
theorem dL_law_745 : decode cL_law 745 = .ok (.iload 6, 2) := dk_21 6 (dk_at dksL_law_22 9 rfl rfl)
theorem dL_law_747 : decode cL_law 747 = .ok (.if_icmp .eq 5, 3) := dk_159 0 5 (dk_at dksL_law_22 11 rfl rfl)
theorem dL_law_750 : decode cL_law 750 = .ok (.iconst 0, 1) := dk_3 (dk_at dksL_law_22 14 rfl rfl)
theorem dL_law_751 : decode cL_law 751 = .ok (.ireturn, 1) := dk_172 (dk_at dksL_law_22 15 rfl rfl)
theorem dL_law_752 : decode cL_law 752 = .ok (.iload 6, 2) := dk_21 6 (dk_at dksL_law_22 16 rfl rfl)
theorem dL_law_754 : decode cL_law 754 = .ok (.ifCond .ne 15, 3) := dk_154 0 15 (dk_at dksL_law_22 18 rfl rfl)
theorem dL_law_757 : decode cL_law 757 = .ok (.aload_n 3, 1) := dk_45 (dk_at dksL_law_22 21 rfl rfl)
theorem dL_law_758 : decode cL_law 758 = .ok (.iconst 0, 1) := dk_3 (dk_at dksL_law_22 22 rfl rfl)
theorem dL_law_759 : decode cL_law 759 = .ok (.laload, 1) := dk_47 (dk_at dksL_law_22 23 rfl rfl)
theorem dL_law_760 : decode cL_law 760 = .ok (.iload 7, 2) := dk_21 7 (dk_at dksL_law_23 0 rfl rfl)
theorem dL_law_762 : decode cL_law 762 = .ok (.i2l, 1) := dk_133 (dk_at dksL_law_23 2 rfl rfl)
theorem dL_law_763 : decode cL_law 763 = .ok (.lcmp, 1) := dk_148 (dk_at dksL_law_23 3 rfl rfl)
theorem dL_law_764 : decode cL_law 764 = .ok (.ifCond .eq 5, 3) := dk_153 0 5 (dk_at dksL_law_23 4 rfl rfl)
theorem dL_law_767 : decode cL_law 767 = .ok (.iconst 0, 1) := dk_3 (dk_at dksL_law_23 7 rfl rfl)
theorem dL_law_768 : decode cL_law 768 = .ok (.ireturn, 1) := dk_172 (dk_at dksL_law_23 8 rfl rfl)
theorem dL_law_769 : decode cL_law 769 = .ok (.goto 2120, 3) := dk_167 8 72 (dk_at dksL_law_23 9 rfl rfl)
theorem dL_law_772 : decode cL_law 772 = .ok (.aload_n 1, 1) := dk_43 (dk_at dksL_law_23 12 rfl rfl)
theorem dL_law_773 : decode cL_law 773 = .ok (.aload_n 0, 1) := dk_42 (dk_at dksL_law_23 13 rfl rfl)
theorem dL_law_774 : decode cL_law 774 = .ok (.iload 5, 2) := dk_21 5 (dk_at dksL_law_23 14 rfl rfl)
theorem dL_law_776 : decode cL_law 776 = .ok (.iconst 1, 1) := dk_4 (dk_at dksL_law_23 16 rfl rfl)
theorem dL_law_777 : decode cL_law 777 = .ok (.iadd, 1) := dk_96 (dk_at dksL_law_23 17 rfl rfl)
theorem dL_law_778 : decode cL_law 778 = .ok (.iaload, 1) := dk_46 (dk_at dksL_law_23 18 rfl rfl)
theorem dL_law_779 : decode cL_law 779 = .ok (.aload_n 0, 1) := dk_42 (dk_at dksL_law_23 19 rfl rfl)
theorem dL_law_780 : decode cL_law 780 = .ok (.iload 5, 2) := dk_21 5 (dk_at dksL_law_23 20 rfl rfl)
theorem dL_law_782 : decode cL_law 782 = .ok (.iconst 2, 1) := dk_5 (dk_at dksL_law_23 22 rfl rfl)
theorem dL_law_783 : decode cL_law 783 = .ok (.iadd, 1) := dk_96 (dk_at dksL_law_23 23 rfl rfl)
theorem dL_law_784 : decode cL_law 784 = .ok (.iaload, 1) := dk_46 (dk_at dksL_law_24 0 rfl rfl)
theorem dL_law_785 : decode cL_law 785 = .ok (.aload_n 3, 1) := dk_45 (dk_at dksL_law_24 1 rfl rfl)
theorem dL_law_786 : decode cL_law 786 = .ok (.invokestatic 190, 3) := dk_184 0 190 (dk_at dksL_law_24 2 rfl rfl)
theorem dL_law_789 : decode cL_law 789 = .ok (.istore 6, 2) := dk_54 6 (dk_at dksL_law_24 5 rfl rfl)
theorem dL_law_791 : decode cL_law 791 = .ok (.aload_n 2, 1) := dk_44 (dk_at dksL_law_24 7 rfl rfl)
theorem dL_law_792 : decode cL_law 792 = .ok (.aload_n 0, 1) := dk_42 (dk_at dksL_law_24 8 rfl rfl)
theorem dL_law_793 : decode cL_law 793 = .ok (.iload 5, 2) := dk_21 5 (dk_at dksL_law_24 9 rfl rfl)
theorem dL_law_795 : decode cL_law 795 = .ok (.iconst 1, 1) := dk_4 (dk_at dksL_law_24 11 rfl rfl)
theorem dL_law_796 : decode cL_law 796 = .ok (.iadd, 1) := dk_96 (dk_at dksL_law_24 12 rfl rfl)
theorem dL_law_797 : decode cL_law 797 = .ok (.iaload, 1) := dk_46 (dk_at dksL_law_24 13 rfl rfl)
theorem dL_law_798 : decode cL_law 798 = .ok (.aload_n 0, 1) := dk_42 (dk_at dksL_law_24 14 rfl rfl)
theorem dL_law_799 : decode cL_law 799 = .ok (.iload 5, 2) := dk_21 5 (dk_at dksL_law_24 15 rfl rfl)
theorem dL_law_801 : decode cL_law 801 = .ok (.iconst 2, 1) := dk_5 (dk_at dksL_law_24 17 rfl rfl)
theorem dL_law_802 : decode cL_law 802 = .ok (.iadd, 1) := dk_96 (dk_at dksL_law_24 18 rfl rfl)
theorem dL_law_803 : decode cL_law 803 = .ok (.iaload, 1) := dk_46 (dk_at dksL_law_24 19 rfl rfl)
theorem dL_law_804 : decode cL_law 804 = .ok (.invokevirtual 193, 3) := dk_182 0 193 (dk_at dksL_law_24 20 rfl rfl)
theorem dL_law_807 : decode cL_law 807 = .ok (.istore 7, 2) := dk_54 7 (dk_at dksL_law_25 0 rfl rfl)
theorem dL_law_809 : decode cL_law 809 = .ok (.aload_n 2, 1) := dk_44 (dk_at dksL_law_25 2 rfl rfl)
theorem dL_law_810 : decode cL_law 810 = .ok (.invokevirtual 165, 3) := dk_182 0 165 (dk_at dksL_law_25 3 rfl rfl)
theorem dL_law_813 : decode cL_law 813 = .ok (.iload 6, 2) := dk_21 6 (dk_at dksL_law_25 6 rfl rfl)
theorem dL_law_815 : decode cL_law 815 = .ok (.if_icmp .eq 5, 3) := dk_159 0 5 (dk_at dksL_law_25 8 rfl rfl)
theorem dL_law_818 : decode cL_law 818 = .ok (.iconst 0, 1) := dk_3 (dk_at dksL_law_25 11 rfl rfl)
theorem dL_law_819 : decode cL_law 819 = .ok (.ireturn, 1) := dk_172 (dk_at dksL_law_25 12 rfl rfl)
theorem dL_law_820 : decode cL_law 820 = .ok (.iload 6, 2) := dk_21 6 (dk_at dksL_law_25 13 rfl rfl)
theorem dL_law_822 : decode cL_law 822 = .ok (.ifCond .ne 15, 3) := dk_154 0 15 (dk_at dksL_law_25 15 rfl rfl)
theorem dL_law_825 : decode cL_law 825 = .ok (.aload_n 3, 1) := dk_45 (dk_at dksL_law_25 18 rfl rfl)
theorem dL_law_826 : decode cL_law 826 = .ok (.iconst 0, 1) := dk_3 (dk_at dksL_law_25 19 rfl rfl)
theorem dL_law_827 : decode cL_law 827 = .ok (.laload, 1) := dk_47 (dk_at dksL_law_25 20 rfl rfl)
theorem dL_law_828 : decode cL_law 828 = .ok (.iload 7, 2) := dk_21 7 (dk_at dksL_law_25 21 rfl rfl)
theorem dL_law_830 : decode cL_law 830 = .ok (.i2l, 1) := dk_133 (dk_at dksL_law_25 23 rfl rfl)
theorem dL_law_831 : decode cL_law 831 = .ok (.lcmp, 1) := dk_148 (dk_at dksL_law_26 0 rfl rfl)
theorem dL_law_832 : decode cL_law 832 = .ok (.ifCond .eq 5, 3) := dk_153 0 5 (dk_at dksL_law_26 1 rfl rfl)
theorem dL_law_835 : decode cL_law 835 = .ok (.iconst 0, 1) := dk_3 (dk_at dksL_law_26 4 rfl rfl)
theorem dL_law_836 : decode cL_law 836 = .ok (.ireturn, 1) := dk_172 (dk_at dksL_law_26 5 rfl rfl)
theorem dL_law_837 : decode cL_law 837 = .ok (.goto 2052, 3) := dk_167 8 4 (dk_at dksL_law_26 6 rfl rfl)
theorem dL_law_840 : decode cL_law 840 = .ok (.aload_n 1, 1) := dk_43 (dk_at dksL_law_26 9 rfl rfl)
theorem dL_law_841 : decode cL_law 841 = .ok (.aload_n 0, 1) := dk_42 (dk_at dksL_law_26 10 rfl rfl)
theorem dL_law_842 : decode cL_law 842 = .ok (.iload 5, 2) := dk_21 5 (dk_at dksL_law_26 11 rfl rfl)
theorem dL_law_844 : decode cL_law 844 = .ok (.iconst 1, 1) := dk_4 (dk_at dksL_law_26 13 rfl rfl)
theorem dL_law_845 : decode cL_law 845 = .ok (.iadd, 1) := dk_96 (dk_at dksL_law_26 14 rfl rfl)
theorem dL_law_846 : decode cL_law 846 = .ok (.iaload, 1) := dk_46 (dk_at dksL_law_26 15 rfl rfl)
theorem dL_law_847 : decode cL_law 847 = .ok (.aload_n 3, 1) := dk_45 (dk_at dksL_law_26 16 rfl rfl)
theorem dL_law_848 : decode cL_law 848 = .ok (.invokestatic 194, 3) := dk_184 0 194 (dk_at dksL_law_26 17 rfl rfl)
theorem dL_law_851 : decode cL_law 851 = .ok (.istore 6, 2) := dk_54 6 (dk_at dksL_law_26 20 rfl rfl)
theorem dL_law_853 : decode cL_law 853 = .ok (.aload_n 2, 1) := dk_44 (dk_at dksL_law_26 22 rfl rfl)
theorem dL_law_854 : decode cL_law 854 = .ok (.aload_n 0, 1) := dk_42 (dk_at dksL_law_26 23 rfl rfl)
theorem dL_law_855 : decode cL_law 855 = .ok (.iload 5, 2) := dk_21 5 (dk_at dksL_law_27 0 rfl rfl)
theorem dL_law_857 : decode cL_law 857 = .ok (.iconst 1, 1) := dk_4 (dk_at dksL_law_27 2 rfl rfl)
theorem dL_law_858 : decode cL_law 858 = .ok (.iadd, 1) := dk_96 (dk_at dksL_law_27 3 rfl rfl)
theorem dL_law_859 : decode cL_law 859 = .ok (.iaload, 1) := dk_46 (dk_at dksL_law_27 4 rfl rfl)
theorem dL_law_860 : decode cL_law 860 = .ok (.invokevirtual 196, 3) := dk_182 0 196 (dk_at dksL_law_27 5 rfl rfl)
theorem dL_law_863 : decode cL_law 863 = .ok (.istore 7, 2) := dk_54 7 (dk_at dksL_law_27 8 rfl rfl)
theorem dL_law_865 : decode cL_law 865 = .ok (.aload_n 2, 1) := dk_44 (dk_at dksL_law_27 10 rfl rfl)
theorem dL_law_866 : decode cL_law 866 = .ok (.invokevirtual 165, 3) := dk_182 0 165 (dk_at dksL_law_27 11 rfl rfl)
theorem dL_law_869 : decode cL_law 869 = .ok (.iload 6, 2) := dk_21 6 (dk_at dksL_law_27 14 rfl rfl)
theorem dL_law_871 : decode cL_law 871 = .ok (.if_icmp .eq 5, 3) := dk_159 0 5 (dk_at dksL_law_27 16 rfl rfl)
theorem dL_law_874 : decode cL_law 874 = .ok (.iconst 0, 1) := dk_3 (dk_at dksL_law_27 19 rfl rfl)
theorem dL_law_875 : decode cL_law 875 = .ok (.ireturn, 1) := dk_172 (dk_at dksL_law_27 20 rfl rfl)
theorem dL_law_876 : decode cL_law 876 = .ok (.iload 6, 2) := dk_21 6 (dk_at dksL_law_27 21 rfl rfl)
theorem dL_law_878 : decode cL_law 878 = .ok (.ifCond .ne 15, 3) := dk_154 0 15 (dk_at dksL_law_28 0 rfl rfl)
theorem dL_law_881 : decode cL_law 881 = .ok (.aload_n 3, 1) := dk_45 (dk_at dksL_law_28 3 rfl rfl)
theorem dL_law_882 : decode cL_law 882 = .ok (.iconst 0, 1) := dk_3 (dk_at dksL_law_28 4 rfl rfl)
theorem dL_law_883 : decode cL_law 883 = .ok (.laload, 1) := dk_47 (dk_at dksL_law_28 5 rfl rfl)
theorem dL_law_884 : decode cL_law 884 = .ok (.iload 7, 2) := dk_21 7 (dk_at dksL_law_28 6 rfl rfl)
theorem dL_law_886 : decode cL_law 886 = .ok (.i2l, 1) := dk_133 (dk_at dksL_law_28 8 rfl rfl)
theorem dL_law_887 : decode cL_law 887 = .ok (.lcmp, 1) := dk_148 (dk_at dksL_law_28 9 rfl rfl)
theorem dL_law_888 : decode cL_law 888 = .ok (.ifCond .eq 5, 3) := dk_153 0 5 (dk_at dksL_law_28 10 rfl rfl)
theorem dL_law_891 : decode cL_law 891 = .ok (.iconst 0, 1) := dk_3 (dk_at dksL_law_28 13 rfl rfl)
theorem dL_law_892 : decode cL_law 892 = .ok (.ireturn, 1) := dk_172 (dk_at dksL_law_28 14 rfl rfl)
theorem dL_law_893 : decode cL_law 893 = .ok (.goto 1996, 3) := dk_167 7 204 (dk_at dksL_law_28 15 rfl rfl)
theorem dL_law_896 : decode cL_law 896 = .ok (.aload_n 1, 1) := dk_43 (dk_at dksL_law_28 18 rfl rfl)
theorem dL_law_897 : decode cL_law 897 = .ok (.aload_n 0, 1) := dk_42 (dk_at dksL_law_28 19 rfl rfl)
theorem dL_law_898 : decode cL_law 898 = .ok (.iload 5, 2) := dk_21 5 (dk_at dksL_law_28 20 rfl rfl)
theorem dL_law_900 : decode cL_law 900 = .ok (.iconst 1, 1) := dk_4 (dk_at dksL_law_28 22 rfl rfl)
theorem dL_law_901 : decode cL_law 901 = .ok (.iadd, 1) := dk_96 (dk_at dksL_law_28 23 rfl rfl)
theorem dL_law_902 : decode cL_law 902 = .ok (.iaload, 1) := dk_46 (dk_at dksL_law_29 0 rfl rfl)
theorem dL_law_903 : decode cL_law 903 = .ok (.aload_n 3, 1) := dk_45 (dk_at dksL_law_29 1 rfl rfl)
theorem dL_law_904 : decode cL_law 904 = .ok (.invokestatic 197, 3) := dk_184 0 197 (dk_at dksL_law_29 2 rfl rfl)
theorem dL_law_907 : decode cL_law 907 = .ok (.istore 6, 2) := dk_54 6 (dk_at dksL_law_29 5 rfl rfl)
theorem dL_law_909 : decode cL_law 909 = .ok (.aload_n 2, 1) := dk_44 (dk_at dksL_law_29 7 rfl rfl)
theorem dL_law_910 : decode cL_law 910 = .ok (.aload_n 0, 1) := dk_42 (dk_at dksL_law_29 8 rfl rfl)
theorem dL_law_911 : decode cL_law 911 = .ok (.iload 5, 2) := dk_21 5 (dk_at dksL_law_29 9 rfl rfl)
theorem dL_law_913 : decode cL_law 913 = .ok (.iconst 1, 1) := dk_4 (dk_at dksL_law_29 11 rfl rfl)
theorem dL_law_914 : decode cL_law 914 = .ok (.iadd, 1) := dk_96 (dk_at dksL_law_29 12 rfl rfl)
theorem dL_law_915 : decode cL_law 915 = .ok (.iaload, 1) := dk_46 (dk_at dksL_law_29 13 rfl rfl)
theorem dL_law_916 : decode cL_law 916 = .ok (.invokevirtual 199, 3) := dk_182 0 199 (dk_at dksL_law_29 14 rfl rfl)
theorem dL_law_919 : decode cL_law 919 = .ok (.istore 7, 2) := dk_54 7 (dk_at dksL_law_29 17 rfl rfl)
theorem dL_law_921 : decode cL_law 921 = .ok (.aload_n 2, 1) := dk_44 (dk_at dksL_law_29 19 rfl rfl)
theorem dL_law_922 : decode cL_law 922 = .ok (.invokevirtual 165, 3) := dk_182 0 165 (dk_at dksL_law_29 20 rfl rfl)
theorem dL_law_925 : decode cL_law 925 = .ok (.iload 6, 2) := dk_21 6 (dk_at dksL_law_30 0 rfl rfl)
theorem dL_law_927 : decode cL_law 927 = .ok (.if_icmp .eq 5, 3) := dk_159 0 5 (dk_at dksL_law_30 2 rfl rfl)
theorem dL_law_930 : decode cL_law 930 = .ok (.iconst 0, 1) := dk_3 (dk_at dksL_law_30 5 rfl rfl)
theorem dL_law_931 : decode cL_law 931 = .ok (.ireturn, 1) := dk_172 (dk_at dksL_law_30 6 rfl rfl)
theorem dL_law_932 : decode cL_law 932 = .ok (.iload 6, 2) := dk_21 6 (dk_at dksL_law_30 7 rfl rfl)
theorem dL_law_934 : decode cL_law 934 = .ok (.ifCond .ne 15, 3) := dk_154 0 15 (dk_at dksL_law_30 9 rfl rfl)
theorem dL_law_937 : decode cL_law 937 = .ok (.aload_n 3, 1) := dk_45 (dk_at dksL_law_30 12 rfl rfl)
theorem dL_law_938 : decode cL_law 938 = .ok (.iconst 0, 1) := dk_3 (dk_at dksL_law_30 13 rfl rfl)
theorem dL_law_939 : decode cL_law 939 = .ok (.laload, 1) := dk_47 (dk_at dksL_law_30 14 rfl rfl)
theorem dL_law_940 : decode cL_law 940 = .ok (.iload 7, 2) := dk_21 7 (dk_at dksL_law_30 15 rfl rfl)
theorem dL_law_942 : decode cL_law 942 = .ok (.i2l, 1) := dk_133 (dk_at dksL_law_30 17 rfl rfl)
theorem dL_law_943 : decode cL_law 943 = .ok (.lcmp, 1) := dk_148 (dk_at dksL_law_30 18 rfl rfl)
theorem dL_law_944 : decode cL_law 944 = .ok (.ifCond .eq 5, 3) := dk_153 0 5 (dk_at dksL_law_30 19 rfl rfl)
theorem dL_law_947 : decode cL_law 947 = .ok (.iconst 0, 1) := dk_3 (dk_at dksL_law_30 22 rfl rfl)
theorem dL_law_948 : decode cL_law 948 = .ok (.ireturn, 1) := dk_172 (dk_at dksL_law_30 23 rfl rfl)
theorem dL_law_949 : decode cL_law 949 = .ok (.goto 1940, 3) := dk_167 7 148 (dk_at dksL_law_31 0 rfl rfl)
theorem dL_law_952 : decode cL_law 952 = .ok (.aload_n 1, 1) := dk_43 (dk_at dksL_law_31 3 rfl rfl)
theorem dL_law_953 : decode cL_law 953 = .ok (.aload_n 0, 1) := dk_42 (dk_at dksL_law_31 4 rfl rfl)
theorem dL_law_954 : decode cL_law 954 = .ok (.iload 5, 2) := dk_21 5 (dk_at dksL_law_31 5 rfl rfl)
theorem dL_law_956 : decode cL_law 956 = .ok (.iconst 1, 1) := dk_4 (dk_at dksL_law_31 7 rfl rfl)
theorem dL_law_957 : decode cL_law 957 = .ok (.iadd, 1) := dk_96 (dk_at dksL_law_31 8 rfl rfl)
theorem dL_law_958 : decode cL_law 958 = .ok (.iaload, 1) := dk_46 (dk_at dksL_law_31 9 rfl rfl)
theorem dL_law_959 : decode cL_law 959 = .ok (.aload_n 3, 1) := dk_45 (dk_at dksL_law_31 10 rfl rfl)
theorem dL_law_960 : decode cL_law 960 = .ok (.invokestatic 200, 3) := dk_184 0 200 (dk_at dksL_law_31 11 rfl rfl)
theorem dL_law_963 : decode cL_law 963 = .ok (.istore 6, 2) := dk_54 6 (dk_at dksL_law_31 14 rfl rfl)
theorem dL_law_965 : decode cL_law 965 = .ok (.aload_n 2, 1) := dk_44 (dk_at dksL_law_31 16 rfl rfl)
theorem dL_law_966 : decode cL_law 966 = .ok (.aload_n 0, 1) := dk_42 (dk_at dksL_law_31 17 rfl rfl)
theorem dL_law_967 : decode cL_law 967 = .ok (.iload 5, 2) := dk_21 5 (dk_at dksL_law_31 18 rfl rfl)
theorem dL_law_969 : decode cL_law 969 = .ok (.iconst 1, 1) := dk_4 (dk_at dksL_law_31 20 rfl rfl)
theorem dL_law_970 : decode cL_law 970 = .ok (.iadd, 1) := dk_96 (dk_at dksL_law_31 21 rfl rfl)
theorem dL_law_971 : decode cL_law 971 = .ok (.iaload, 1) := dk_46 (dk_at dksL_law_31 22 rfl rfl)
theorem dL_law_972 : decode cL_law 972 = .ok (.invokevirtual 202, 3) := dk_182 0 202 (dk_at dksL_law_32 0 rfl rfl)
theorem dL_law_975 : decode cL_law 975 = .ok (.istore 7, 2) := dk_54 7 (dk_at dksL_law_32 3 rfl rfl)
theorem dL_law_977 : decode cL_law 977 = .ok (.aload_n 2, 1) := dk_44 (dk_at dksL_law_32 5 rfl rfl)
theorem dL_law_978 : decode cL_law 978 = .ok (.invokevirtual 165, 3) := dk_182 0 165 (dk_at dksL_law_32 6 rfl rfl)
theorem dL_law_981 : decode cL_law 981 = .ok (.iload 6, 2) := dk_21 6 (dk_at dksL_law_32 9 rfl rfl)
theorem dL_law_983 : decode cL_law 983 = .ok (.if_icmp .eq 5, 3) := dk_159 0 5 (dk_at dksL_law_32 11 rfl rfl)
theorem dL_law_986 : decode cL_law 986 = .ok (.iconst 0, 1) := dk_3 (dk_at dksL_law_32 14 rfl rfl)
theorem dL_law_987 : decode cL_law 987 = .ok (.ireturn, 1) := dk_172 (dk_at dksL_law_32 15 rfl rfl)
theorem dL_law_988 : decode cL_law 988 = .ok (.iload 6, 2) := dk_21 6 (dk_at dksL_law_32 16 rfl rfl)
theorem dL_law_990 : decode cL_law 990 = .ok (.ifCond .ne 15, 3) := dk_154 0 15 (dk_at dksL_law_32 18 rfl rfl)
theorem dL_law_993 : decode cL_law 993 = .ok (.aload_n 3, 1) := dk_45 (dk_at dksL_law_32 21 rfl rfl)
theorem dL_law_994 : decode cL_law 994 = .ok (.iconst 0, 1) := dk_3 (dk_at dksL_law_32 22 rfl rfl)
theorem dL_law_995 : decode cL_law 995 = .ok (.laload, 1) := dk_47 (dk_at dksL_law_32 23 rfl rfl)
theorem dL_law_996 : decode cL_law 996 = .ok (.iload 7, 2) := dk_21 7 (dk_at dksL_law_33 0 rfl rfl)
theorem dL_law_998 : decode cL_law 998 = .ok (.i2l, 1) := dk_133 (dk_at dksL_law_33 2 rfl rfl)
theorem dL_law_999 : decode cL_law 999 = .ok (.lcmp, 1) := dk_148 (dk_at dksL_law_33 3 rfl rfl)
theorem dL_law_1000 : decode cL_law 1000 = .ok (.ifCond .eq 5, 3) := dk_153 0 5 (dk_at dksL_law_33 4 rfl rfl)
theorem dL_law_1003 : decode cL_law 1003 = .ok (.iconst 0, 1) := dk_3 (dk_at dksL_law_33 7 rfl rfl)
theorem dL_law_1004 : decode cL_law 1004 = .ok (.ireturn, 1) := dk_172 (dk_at dksL_law_33 8 rfl rfl)
theorem dL_law_1005 : decode cL_law 1005 = .ok (.goto 1884, 3) := dk_167 7 92 (dk_at dksL_law_33 9 rfl rfl)
theorem dL_law_1008 : decode cL_law 1008 = .ok (.aload_n 1, 1) := dk_43 (dk_at dksL_law_33 12 rfl rfl)
theorem dL_law_1009 : decode cL_law 1009 = .ok (.aload_n 0, 1) := dk_42 (dk_at dksL_law_33 13 rfl rfl)
theorem dL_law_1010 : decode cL_law 1010 = .ok (.iload 5, 2) := dk_21 5 (dk_at dksL_law_33 14 rfl rfl)
theorem dL_law_1012 : decode cL_law 1012 = .ok (.iconst 1, 1) := dk_4 (dk_at dksL_law_33 16 rfl rfl)
theorem dL_law_1013 : decode cL_law 1013 = .ok (.iadd, 1) := dk_96 (dk_at dksL_law_33 17 rfl rfl)
theorem dL_law_1014 : decode cL_law 1014 = .ok (.iaload, 1) := dk_46 (dk_at dksL_law_33 18 rfl rfl)
theorem dL_law_1015 : decode cL_law 1015 = .ok (.aload_n 3, 1) := dk_45 (dk_at dksL_law_33 19 rfl rfl)
theorem dL_law_1016 : decode cL_law 1016 = .ok (.invokestatic 203, 3) := dk_184 0 203 (dk_at dksL_law_33 20 rfl rfl)
theorem dL_law_1019 : decode cL_law 1019 = .ok (.istore 6, 2) := dk_54 6 (dk_at dksL_law_34 0 rfl rfl)
theorem dL_law_1021 : decode cL_law 1021 = .ok (.aload_n 2, 1) := dk_44 (dk_at dksL_law_34 2 rfl rfl)
theorem dL_law_1022 : decode cL_law 1022 = .ok (.aload_n 0, 1) := dk_42 (dk_at dksL_law_34 3 rfl rfl)
theorem dL_law_1023 : decode cL_law 1023 = .ok (.iload 5, 2) := dk_21 5 (dk_at dksL_law_34 4 rfl rfl)
theorem dL_law_1025 : decode cL_law 1025 = .ok (.iconst 1, 1) := dk_4 (dk_at dksL_law_34 6 rfl rfl)
theorem dL_law_1026 : decode cL_law 1026 = .ok (.iadd, 1) := dk_96 (dk_at dksL_law_34 7 rfl rfl)
theorem dL_law_1027 : decode cL_law 1027 = .ok (.iaload, 1) := dk_46 (dk_at dksL_law_34 8 rfl rfl)
theorem dL_law_1028 : decode cL_law 1028 = .ok (.invokevirtual 205, 3) := dk_182 0 205 (dk_at dksL_law_34 9 rfl rfl)
theorem dL_law_1031 : decode cL_law 1031 = .ok (.istore 7, 2) := dk_54 7 (dk_at dksL_law_34 12 rfl rfl)
theorem dL_law_1033 : decode cL_law 1033 = .ok (.aload_n 2, 1) := dk_44 (dk_at dksL_law_34 14 rfl rfl)
theorem dL_law_1034 : decode cL_law 1034 = .ok (.invokevirtual 165, 3) := dk_182 0 165 (dk_at dksL_law_34 15 rfl rfl)
theorem dL_law_1037 : decode cL_law 1037 = .ok (.iload 6, 2) := dk_21 6 (dk_at dksL_law_34 18 rfl rfl)
theorem dL_law_1039 : decode cL_law 1039 = .ok (.if_icmp .eq 5, 3) := dk_159 0 5 (dk_at dksL_law_34 20 rfl rfl)
theorem dL_law_1042 : decode cL_law 1042 = .ok (.iconst 0, 1) := dk_3 (dk_at dksL_law_34 23 rfl rfl)
theorem dL_law_1043 : decode cL_law 1043 = .ok (.ireturn, 1) := dk_172 (dk_at dksL_law_35 0 rfl rfl)
theorem dL_law_1044 : decode cL_law 1044 = .ok (.iload 6, 2) := dk_21 6 (dk_at dksL_law_35 1 rfl rfl)
theorem dL_law_1046 : decode cL_law 1046 = .ok (.ifCond .ne 15, 3) := dk_154 0 15 (dk_at dksL_law_35 3 rfl rfl)
theorem dL_law_1049 : decode cL_law 1049 = .ok (.aload_n 3, 1) := dk_45 (dk_at dksL_law_35 6 rfl rfl)
theorem dL_law_1050 : decode cL_law 1050 = .ok (.iconst 0, 1) := dk_3 (dk_at dksL_law_35 7 rfl rfl)
theorem dL_law_1051 : decode cL_law 1051 = .ok (.laload, 1) := dk_47 (dk_at dksL_law_35 8 rfl rfl)
theorem dL_law_1052 : decode cL_law 1052 = .ok (.iload 7, 2) := dk_21 7 (dk_at dksL_law_35 9 rfl rfl)
theorem dL_law_1054 : decode cL_law 1054 = .ok (.i2l, 1) := dk_133 (dk_at dksL_law_35 11 rfl rfl)
theorem dL_law_1055 : decode cL_law 1055 = .ok (.lcmp, 1) := dk_148 (dk_at dksL_law_35 12 rfl rfl)
theorem dL_law_1056 : decode cL_law 1056 = .ok (.ifCond .eq 5, 3) := dk_153 0 5 (dk_at dksL_law_35 13 rfl rfl)
theorem dL_law_1059 : decode cL_law 1059 = .ok (.iconst 0, 1) := dk_3 (dk_at dksL_law_35 16 rfl rfl)
theorem dL_law_1060 : decode cL_law 1060 = .ok (.ireturn, 1) := dk_172 (dk_at dksL_law_35 17 rfl rfl)
theorem dL_law_1061 : decode cL_law 1061 = .ok (.goto 1828, 3) := dk_167 7 36 (dk_at dksL_law_35 18 rfl rfl)
theorem dL_law_1064 : decode cL_law 1064 = .ok (.aload_n 1, 1) := dk_43 (dk_at dksL_law_35 21 rfl rfl)
theorem dL_law_1065 : decode cL_law 1065 = .ok (.aload_n 0, 1) := dk_42 (dk_at dksL_law_35 22 rfl rfl)
theorem dL_law_1066 : decode cL_law 1066 = .ok (.iload 5, 2) := dk_21 5 (dk_at dksL_law_36 0 rfl rfl)
theorem dL_law_1068 : decode cL_law 1068 = .ok (.iconst 1, 1) := dk_4 (dk_at dksL_law_36 2 rfl rfl)
theorem dL_law_1069 : decode cL_law 1069 = .ok (.iadd, 1) := dk_96 (dk_at dksL_law_36 3 rfl rfl)
theorem dL_law_1070 : decode cL_law 1070 = .ok (.iaload, 1) := dk_46 (dk_at dksL_law_36 4 rfl rfl)
theorem dL_law_1071 : decode cL_law 1071 = .ok (.aload_n 3, 1) := dk_45 (dk_at dksL_law_36 5 rfl rfl)
theorem dL_law_1072 : decode cL_law 1072 = .ok (.invokestatic 206, 3) := dk_184 0 206 (dk_at dksL_law_36 6 rfl rfl)
theorem dL_law_1075 : decode cL_law 1075 = .ok (.istore 6, 2) := dk_54 6 (dk_at dksL_law_36 9 rfl rfl)
theorem dL_law_1077 : decode cL_law 1077 = .ok (.aload_n 2, 1) := dk_44 (dk_at dksL_law_36 11 rfl rfl)
theorem dL_law_1078 : decode cL_law 1078 = .ok (.aload_n 0, 1) := dk_42 (dk_at dksL_law_36 12 rfl rfl)
theorem dL_law_1079 : decode cL_law 1079 = .ok (.iload 5, 2) := dk_21 5 (dk_at dksL_law_36 13 rfl rfl)
theorem dL_law_1081 : decode cL_law 1081 = .ok (.iconst 1, 1) := dk_4 (dk_at dksL_law_36 15 rfl rfl)
theorem dL_law_1082 : decode cL_law 1082 = .ok (.iadd, 1) := dk_96 (dk_at dksL_law_36 16 rfl rfl)
theorem dL_law_1083 : decode cL_law 1083 = .ok (.iaload, 1) := dk_46 (dk_at dksL_law_36 17 rfl rfl)
theorem dL_law_1084 : decode cL_law 1084 = .ok (.invokevirtual 208, 3) := dk_182 0 208 (dk_at dksL_law_36 18 rfl rfl)
theorem dL_law_1087 : decode cL_law 1087 = .ok (.istore 7, 2) := dk_54 7 (dk_at dksL_law_36 21 rfl rfl)
theorem dL_law_1089 : decode cL_law 1089 = .ok (.aload_n 2, 1) := dk_44 (dk_at dksL_law_36 23 rfl rfl)
theorem dL_law_1090 : decode cL_law 1090 = .ok (.invokevirtual 165, 3) := dk_182 0 165 (dk_at dksL_law_37 0 rfl rfl)
theorem dL_law_1093 : decode cL_law 1093 = .ok (.iload 6, 2) := dk_21 6 (dk_at dksL_law_37 3 rfl rfl)
theorem dL_law_1095 : decode cL_law 1095 = .ok (.if_icmp .eq 5, 3) := dk_159 0 5 (dk_at dksL_law_37 5 rfl rfl)
theorem dL_law_1098 : decode cL_law 1098 = .ok (.iconst 0, 1) := dk_3 (dk_at dksL_law_37 8 rfl rfl)
theorem dL_law_1099 : decode cL_law 1099 = .ok (.ireturn, 1) := dk_172 (dk_at dksL_law_37 9 rfl rfl)
theorem dL_law_1100 : decode cL_law 1100 = .ok (.iload 6, 2) := dk_21 6 (dk_at dksL_law_37 10 rfl rfl)
theorem dL_law_1102 : decode cL_law 1102 = .ok (.ifCond .ne 15, 3) := dk_154 0 15 (dk_at dksL_law_37 12 rfl rfl)
theorem dL_law_1105 : decode cL_law 1105 = .ok (.aload_n 3, 1) := dk_45 (dk_at dksL_law_37 15 rfl rfl)
theorem dL_law_1106 : decode cL_law 1106 = .ok (.iconst 0, 1) := dk_3 (dk_at dksL_law_37 16 rfl rfl)
theorem dL_law_1107 : decode cL_law 1107 = .ok (.laload, 1) := dk_47 (dk_at dksL_law_37 17 rfl rfl)
theorem dL_law_1108 : decode cL_law 1108 = .ok (.iload 7, 2) := dk_21 7 (dk_at dksL_law_37 18 rfl rfl)
theorem dL_law_1110 : decode cL_law 1110 = .ok (.i2l, 1) := dk_133 (dk_at dksL_law_37 20 rfl rfl)
theorem dL_law_1111 : decode cL_law 1111 = .ok (.lcmp, 1) := dk_148 (dk_at dksL_law_37 21 rfl rfl)
theorem dL_law_1112 : decode cL_law 1112 = .ok (.ifCond .eq 5, 3) := dk_153 0 5 (dk_at dksL_law_38 0 rfl rfl)
theorem dL_law_1115 : decode cL_law 1115 = .ok (.iconst 0, 1) := dk_3 (dk_at dksL_law_38 3 rfl rfl)
theorem dL_law_1116 : decode cL_law 1116 = .ok (.ireturn, 1) := dk_172 (dk_at dksL_law_38 4 rfl rfl)
theorem dL_law_1117 : decode cL_law 1117 = .ok (.goto 1772, 3) := dk_167 6 236 (dk_at dksL_law_38 5 rfl rfl)
theorem dL_law_1120 : decode cL_law 1120 = .ok (.aload_n 1, 1) := dk_43 (dk_at dksL_law_38 8 rfl rfl)
theorem dL_law_1121 : decode cL_law 1121 = .ok (.invokevirtual 209, 3) := dk_182 0 209 (dk_at dksL_law_38 9 rfl rfl)
theorem dL_law_1124 : decode cL_law 1124 = .ok (.aload_n 2, 1) := dk_44 (dk_at dksL_law_38 12 rfl rfl)
theorem dL_law_1125 : decode cL_law 1125 = .ok (.invokevirtual 212, 3) := dk_182 0 212 (dk_at dksL_law_38 13 rfl rfl)
theorem dL_law_1128 : decode cL_law 1128 = .ok (.if_icmp .eq 1761, 3) := dk_159 6 225 (dk_at dksL_law_38 16 rfl rfl)
theorem dL_law_1131 : decode cL_law 1131 = .ok (.iconst 0, 1) := dk_3 (dk_at dksL_law_38 19 rfl rfl)
theorem dL_law_1132 : decode cL_law 1132 = .ok (.ireturn, 1) := dk_172 (dk_at dksL_law_38 20 rfl rfl)
theorem dL_law_1133 : decode cL_law 1133 = .ok (.aload_n 1, 1) := dk_43 (dk_at dksL_law_38 21 rfl rfl)
theorem dL_law_1134 : decode cL_law 1134 = .ok (.aload_n 0, 1) := dk_42 (dk_at dksL_law_38 22 rfl rfl)
theorem dL_law_1135 : decode cL_law 1135 = .ok (.iload 5, 2) := dk_21 5 (dk_at dksL_law_39 0 rfl rfl)
theorem dL_law_1137 : decode cL_law 1137 = .ok (.iconst 1, 1) := dk_4 (dk_at dksL_law_39 2 rfl rfl)
theorem dL_law_1138 : decode cL_law 1138 = .ok (.iadd, 1) := dk_96 (dk_at dksL_law_39 3 rfl rfl)
theorem dL_law_1139 : decode cL_law 1139 = .ok (.iaload, 1) := dk_46 (dk_at dksL_law_39 4 rfl rfl)
theorem dL_law_1140 : decode cL_law 1140 = .ok (.aload_n 3, 1) := dk_45 (dk_at dksL_law_39 5 rfl rfl)
theorem dL_law_1141 : decode cL_law 1141 = .ok (.invokestatic 213, 3) := dk_184 0 213 (dk_at dksL_law_39 6 rfl rfl)
theorem dL_law_1144 : decode cL_law 1144 = .ok (.istore 6, 2) := dk_54 6 (dk_at dksL_law_39 9 rfl rfl)
theorem dL_law_1146 : decode cL_law 1146 = .ok (.aload_n 2, 1) := dk_44 (dk_at dksL_law_39 11 rfl rfl)
theorem dL_law_1147 : decode cL_law 1147 = .ok (.aload_n 0, 1) := dk_42 (dk_at dksL_law_39 12 rfl rfl)
theorem dL_law_1148 : decode cL_law 1148 = .ok (.iload 5, 2) := dk_21 5 (dk_at dksL_law_39 13 rfl rfl)
theorem dL_law_1150 : decode cL_law 1150 = .ok (.iconst 1, 1) := dk_4 (dk_at dksL_law_39 15 rfl rfl)
theorem dL_law_1151 : decode cL_law 1151 = .ok (.iadd, 1) := dk_96 (dk_at dksL_law_39 16 rfl rfl)
theorem dL_law_1152 : decode cL_law 1152 = .ok (.iaload, 1) := dk_46 (dk_at dksL_law_39 17 rfl rfl)
theorem dL_law_1153 : decode cL_law 1153 = .ok (.invokevirtual 215, 3) := dk_182 0 215 (dk_at dksL_law_39 18 rfl rfl)
theorem dL_law_1156 : decode cL_law 1156 = .ok (.istore 7, 2) := dk_54 7 (dk_at dksL_law_39 21 rfl rfl)
theorem dL_law_1158 : decode cL_law 1158 = .ok (.aload_n 2, 1) := dk_44 (dk_at dksL_law_39 23 rfl rfl)
theorem dL_law_1159 : decode cL_law 1159 = .ok (.invokevirtual 165, 3) := dk_182 0 165 (dk_at dksL_law_40 0 rfl rfl)
theorem dL_law_1162 : decode cL_law 1162 = .ok (.iload 6, 2) := dk_21 6 (dk_at dksL_law_40 3 rfl rfl)
theorem dL_law_1164 : decode cL_law 1164 = .ok (.if_icmp .eq 5, 3) := dk_159 0 5 (dk_at dksL_law_40 5 rfl rfl)
theorem dL_law_1167 : decode cL_law 1167 = .ok (.iconst 0, 1) := dk_3 (dk_at dksL_law_40 8 rfl rfl)
theorem dL_law_1168 : decode cL_law 1168 = .ok (.ireturn, 1) := dk_172 (dk_at dksL_law_40 9 rfl rfl)
theorem dL_law_1169 : decode cL_law 1169 = .ok (.iload 6, 2) := dk_21 6 (dk_at dksL_law_40 10 rfl rfl)
theorem dL_law_1171 : decode cL_law 1171 = .ok (.ifCond .ne 15, 3) := dk_154 0 15 (dk_at dksL_law_40 12 rfl rfl)
theorem dL_law_1174 : decode cL_law 1174 = .ok (.aload_n 3, 1) := dk_45 (dk_at dksL_law_40 15 rfl rfl)
theorem dL_law_1175 : decode cL_law 1175 = .ok (.iconst 0, 1) := dk_3 (dk_at dksL_law_40 16 rfl rfl)
theorem dL_law_1176 : decode cL_law 1176 = .ok (.laload, 1) := dk_47 (dk_at dksL_law_40 17 rfl rfl)
theorem dL_law_1177 : decode cL_law 1177 = .ok (.iload 7, 2) := dk_21 7 (dk_at dksL_law_40 18 rfl rfl)
theorem dL_law_1179 : decode cL_law 1179 = .ok (.i2l, 1) := dk_133 (dk_at dksL_law_40 20 rfl rfl)
theorem dL_law_1180 : decode cL_law 1180 = .ok (.lcmp, 1) := dk_148 (dk_at dksL_law_40 21 rfl rfl)
theorem dL_law_1181 : decode cL_law 1181 = .ok (.ifCond .eq 5, 3) := dk_153 0 5 (dk_at dksL_law_41 0 rfl rfl)
theorem dL_law_1184 : decode cL_law 1184 = .ok (.iconst 0, 1) := dk_3 (dk_at dksL_law_41 3 rfl rfl)
theorem dL_law_1185 : decode cL_law 1185 = .ok (.ireturn, 1) := dk_172 (dk_at dksL_law_41 4 rfl rfl)
theorem dL_law_1186 : decode cL_law 1186 = .ok (.goto 1703, 3) := dk_167 6 167 (dk_at dksL_law_41 5 rfl rfl)
theorem dL_law_1189 : decode cL_law 1189 = .ok (.aload_n 1, 1) := dk_43 (dk_at dksL_law_41 8 rfl rfl)
theorem dL_law_1190 : decode cL_law 1190 = .ok (.aload_n 0, 1) := dk_42 (dk_at dksL_law_41 9 rfl rfl)
theorem dL_law_1191 : decode cL_law 1191 = .ok (.iload 5, 2) := dk_21 5 (dk_at dksL_law_41 10 rfl rfl)
theorem dL_law_1193 : decode cL_law 1193 = .ok (.iconst 1, 1) := dk_4 (dk_at dksL_law_41 12 rfl rfl)
theorem dL_law_1194 : decode cL_law 1194 = .ok (.iadd, 1) := dk_96 (dk_at dksL_law_41 13 rfl rfl)
theorem dL_law_1195 : decode cL_law 1195 = .ok (.iaload, 1) := dk_46 (dk_at dksL_law_41 14 rfl rfl)
theorem dL_law_1196 : decode cL_law 1196 = .ok (.aload_n 3, 1) := dk_45 (dk_at dksL_law_41 15 rfl rfl)
theorem dL_law_1197 : decode cL_law 1197 = .ok (.invokestatic 216, 3) := dk_184 0 216 (dk_at dksL_law_41 16 rfl rfl)
theorem dL_law_1200 : decode cL_law 1200 = .ok (.istore 6, 2) := dk_54 6 (dk_at dksL_law_41 19 rfl rfl)
theorem dL_law_1202 : decode cL_law 1202 = .ok (.aload_n 2, 1) := dk_44 (dk_at dksL_law_41 21 rfl rfl)
theorem dL_law_1203 : decode cL_law 1203 = .ok (.aload_n 0, 1) := dk_42 (dk_at dksL_law_41 22 rfl rfl)
theorem dL_law_1204 : decode cL_law 1204 = .ok (.iload 5, 2) := dk_21 5 (dk_at dksL_law_42 0 rfl rfl)
theorem dL_law_1206 : decode cL_law 1206 = .ok (.iconst 1, 1) := dk_4 (dk_at dksL_law_42 2 rfl rfl)
theorem dL_law_1207 : decode cL_law 1207 = .ok (.iadd, 1) := dk_96 (dk_at dksL_law_42 3 rfl rfl)
theorem dL_law_1208 : decode cL_law 1208 = .ok (.iaload, 1) := dk_46 (dk_at dksL_law_42 4 rfl rfl)
theorem dL_law_1209 : decode cL_law 1209 = .ok (.invokevirtual 218, 3) := dk_182 0 218 (dk_at dksL_law_42 5 rfl rfl)
theorem dL_law_1212 : decode cL_law 1212 = .ok (.istore 7, 2) := dk_54 7 (dk_at dksL_law_42 8 rfl rfl)
theorem dL_law_1214 : decode cL_law 1214 = .ok (.aload_n 2, 1) := dk_44 (dk_at dksL_law_42 10 rfl rfl)
theorem dL_law_1215 : decode cL_law 1215 = .ok (.invokevirtual 165, 3) := dk_182 0 165 (dk_at dksL_law_42 11 rfl rfl)
theorem dL_law_1218 : decode cL_law 1218 = .ok (.iload 6, 2) := dk_21 6 (dk_at dksL_law_42 14 rfl rfl)
theorem dL_law_1220 : decode cL_law 1220 = .ok (.if_icmp .eq 5, 3) := dk_159 0 5 (dk_at dksL_law_42 16 rfl rfl)
theorem dL_law_1223 : decode cL_law 1223 = .ok (.iconst 0, 1) := dk_3 (dk_at dksL_law_42 19 rfl rfl)
theorem dL_law_1224 : decode cL_law 1224 = .ok (.ireturn, 1) := dk_172 (dk_at dksL_law_42 20 rfl rfl)
theorem dL_law_1225 : decode cL_law 1225 = .ok (.iload 6, 2) := dk_21 6 (dk_at dksL_law_42 21 rfl rfl)
theorem dL_law_1227 : decode cL_law 1227 = .ok (.ifCond .ne 22, 3) := dk_154 0 22 (dk_at dksL_law_43 0 rfl rfl)
theorem dL_law_1230 : decode cL_law 1230 = .ok (.aload_n 3, 1) := dk_45 (dk_at dksL_law_43 3 rfl rfl)
theorem dL_law_1231 : decode cL_law 1231 = .ok (.iconst 0, 1) := dk_3 (dk_at dksL_law_43 4 rfl rfl)
theorem dL_law_1232 : decode cL_law 1232 = .ok (.laload, 1) := dk_47 (dk_at dksL_law_43 5 rfl rfl)
theorem dL_law_1233 : decode cL_law 1233 = .ok (.iload 7, 2) := dk_21 7 (dk_at dksL_law_43 6 rfl rfl)
theorem dL_law_1235 : decode cL_law 1235 = .ok (.ifCond .eq 7, 3) := dk_153 0 7 (dk_at dksL_law_43 8 rfl rfl)
theorem dL_law_1238 : decode cL_law 1238 = .ok (.lconst 1, 1) := dk_10 (dk_at dksL_law_43 11 rfl rfl)
theorem dL_law_1239 : decode cL_law 1239 = .ok (.goto 4, 3) := dk_167 0 4 (dk_at dksL_law_43 12 rfl rfl)
theorem dL_law_1242 : decode cL_law 1242 = .ok (.lconst 0, 1) := dk_9 (dk_at dksL_law_43 15 rfl rfl)
theorem dL_law_1243 : decode cL_law 1243 = .ok (.lcmp, 1) := dk_148 (dk_at dksL_law_43 16 rfl rfl)
theorem dL_law_1244 : decode cL_law 1244 = .ok (.ifCond .eq 5, 3) := dk_153 0 5 (dk_at dksL_law_43 17 rfl rfl)
theorem dL_law_1247 : decode cL_law 1247 = .ok (.iconst 0, 1) := dk_3 (dk_at dksL_law_43 20 rfl rfl)
theorem dL_law_1248 : decode cL_law 1248 = .ok (.ireturn, 1) := dk_172 (dk_at dksL_law_43 21 rfl rfl)
theorem dL_law_1249 : decode cL_law 1249 = .ok (.goto 1640, 3) := dk_167 6 104 (dk_at dksL_law_44 0 rfl rfl)
theorem dL_law_1252 : decode cL_law 1252 = .ok (.aload_n 1, 1) := dk_43 (dk_at dksL_law_44 3 rfl rfl)
theorem dL_law_1253 : decode cL_law 1253 = .ok (.invokevirtual 219, 3) := dk_182 0 219 (dk_at dksL_law_44 4 rfl rfl)
theorem dL_law_1256 : decode cL_law 1256 = .ok (.aload_n 2, 1) := dk_44 (dk_at dksL_law_44 7 rfl rfl)
theorem dL_law_1257 : decode cL_law 1257 = .ok (.invokevirtual 222, 3) := dk_182 0 222 (dk_at dksL_law_44 8 rfl rfl)
theorem dL_law_1260 : decode cL_law 1260 = .ok (.if_icmp .eq 1629, 3) := dk_159 6 93 (dk_at dksL_law_44 11 rfl rfl)
theorem dL_law_1263 : decode cL_law 1263 = .ok (.iconst 0, 1) := dk_3 (dk_at dksL_law_44 14 rfl rfl)
theorem dL_law_1264 : decode cL_law 1264 = .ok (.ireturn, 1) := dk_172 (dk_at dksL_law_44 15 rfl rfl)
theorem dL_law_1265 : decode cL_law 1265 = .ok (.aload_n 1, 1) := dk_43 (dk_at dksL_law_44 16 rfl rfl)
theorem dL_law_1266 : decode cL_law 1266 = .ok (.aload_n 0, 1) := dk_42 (dk_at dksL_law_44 17 rfl rfl)
theorem dL_law_1267 : decode cL_law 1267 = .ok (.iload 5, 2) := dk_21 5 (dk_at dksL_law_44 18 rfl rfl)
theorem dL_law_1269 : decode cL_law 1269 = .ok (.iconst 1, 1) := dk_4 (dk_at dksL_law_44 20 rfl rfl)
theorem dL_law_1270 : decode cL_law 1270 = .ok (.iadd, 1) := dk_96 (dk_at dksL_law_44 21 rfl rfl)
theorem dL_law_1271 : decode cL_law 1271 = .ok (.iaload, 1) := dk_46 (dk_at dksL_law_44 22 rfl rfl)
theorem dL_law_1272 : decode cL_law 1272 = .ok (.aload_n 3, 1) := dk_45 (dk_at dksL_law_44 23 rfl rfl)
theorem dL_law_1273 : decode cL_law 1273 = .ok (.invokestatic 223, 3) := dk_184 0 223 (dk_at dksL_law_45 0 rfl rfl)
theorem dL_law_1276 : decode cL_law 1276 = .ok (.istore 6, 2) := dk_54 6 (dk_at dksL_law_45 3 rfl rfl)
theorem dL_law_1278 : decode cL_law 1278 = .ok (.aload_n 2, 1) := dk_44 (dk_at dksL_law_45 5 rfl rfl)
theorem dL_law_1279 : decode cL_law 1279 = .ok (.aload_n 0, 1) := dk_42 (dk_at dksL_law_45 6 rfl rfl)
theorem dL_law_1280 : decode cL_law 1280 = .ok (.iload 5, 2) := dk_21 5 (dk_at dksL_law_45 7 rfl rfl)
theorem dL_law_1282 : decode cL_law 1282 = .ok (.iconst 1, 1) := dk_4 (dk_at dksL_law_45 9 rfl rfl)
theorem dL_law_1283 : decode cL_law 1283 = .ok (.iadd, 1) := dk_96 (dk_at dksL_law_45 10 rfl rfl)
theorem dL_law_1284 : decode cL_law 1284 = .ok (.iaload, 1) := dk_46 (dk_at dksL_law_45 11 rfl rfl)
theorem dL_law_1285 : decode cL_law 1285 = .ok (.invokevirtual 225, 3) := dk_182 0 225 (dk_at dksL_law_45 12 rfl rfl)
theorem dL_law_1288 : decode cL_law 1288 = .ok (.istore 7, 2) := dk_54 7 (dk_at dksL_law_45 15 rfl rfl)
theorem dL_law_1290 : decode cL_law 1290 = .ok (.aload_n 2, 1) := dk_44 (dk_at dksL_law_45 17 rfl rfl)
theorem dL_law_1291 : decode cL_law 1291 = .ok (.invokevirtual 165, 3) := dk_182 0 165 (dk_at dksL_law_45 18 rfl rfl)
theorem dL_law_1294 : decode cL_law 1294 = .ok (.iload 6, 2) := dk_21 6 (dk_at dksL_law_45 21 rfl rfl)
theorem dL_law_1296 : decode cL_law 1296 = .ok (.if_icmp .eq 5, 3) := dk_159 0 5 (dk_at dksL_law_46 0 rfl rfl)
theorem dL_law_1299 : decode cL_law 1299 = .ok (.iconst 0, 1) := dk_3 (dk_at dksL_law_46 3 rfl rfl)
theorem dL_law_1300 : decode cL_law 1300 = .ok (.ireturn, 1) := dk_172 (dk_at dksL_law_46 4 rfl rfl)
theorem dL_law_1301 : decode cL_law 1301 = .ok (.iload 6, 2) := dk_21 6 (dk_at dksL_law_46 5 rfl rfl)
theorem dL_law_1303 : decode cL_law 1303 = .ok (.ifCond .ne 15, 3) := dk_154 0 15 (dk_at dksL_law_46 7 rfl rfl)
theorem dL_law_1306 : decode cL_law 1306 = .ok (.aload_n 3, 1) := dk_45 (dk_at dksL_law_46 10 rfl rfl)
theorem dL_law_1307 : decode cL_law 1307 = .ok (.iconst 0, 1) := dk_3 (dk_at dksL_law_46 11 rfl rfl)
theorem dL_law_1308 : decode cL_law 1308 = .ok (.laload, 1) := dk_47 (dk_at dksL_law_46 12 rfl rfl)
theorem dL_law_1309 : decode cL_law 1309 = .ok (.iload 7, 2) := dk_21 7 (dk_at dksL_law_46 13 rfl rfl)
theorem dL_law_1311 : decode cL_law 1311 = .ok (.i2l, 1) := dk_133 (dk_at dksL_law_46 15 rfl rfl)
theorem dL_law_1312 : decode cL_law 1312 = .ok (.lcmp, 1) := dk_148 (dk_at dksL_law_46 16 rfl rfl)
theorem dL_law_1313 : decode cL_law 1313 = .ok (.ifCond .eq 5, 3) := dk_153 0 5 (dk_at dksL_law_46 17 rfl rfl)
theorem dL_law_1316 : decode cL_law 1316 = .ok (.iconst 0, 1) := dk_3 (dk_at dksL_law_46 20 rfl rfl)
theorem dL_law_1317 : decode cL_law 1317 = .ok (.ireturn, 1) := dk_172 (dk_at dksL_law_46 21 rfl rfl)
theorem dL_law_1318 : decode cL_law 1318 = .ok (.goto 1571, 3) := dk_167 6 35 (dk_at dksL_law_47 0 rfl rfl)
theorem dL_law_1321 : decode cL_law 1321 = .ok (.aload_n 1, 1) := dk_43 (dk_at dksL_law_47 3 rfl rfl)
theorem dL_law_1322 : decode cL_law 1322 = .ok (.aload_n 0, 1) := dk_42 (dk_at dksL_law_47 4 rfl rfl)
theorem dL_law_1323 : decode cL_law 1323 = .ok (.iload 5, 2) := dk_21 5 (dk_at dksL_law_47 5 rfl rfl)
theorem dL_law_1325 : decode cL_law 1325 = .ok (.iconst 1, 1) := dk_4 (dk_at dksL_law_47 7 rfl rfl)
theorem dL_law_1326 : decode cL_law 1326 = .ok (.iadd, 1) := dk_96 (dk_at dksL_law_47 8 rfl rfl)
theorem dL_law_1327 : decode cL_law 1327 = .ok (.iaload, 1) := dk_46 (dk_at dksL_law_47 9 rfl rfl)
theorem dL_law_1328 : decode cL_law 1328 = .ok (.aload_n 3, 1) := dk_45 (dk_at dksL_law_47 10 rfl rfl)
theorem dL_law_1329 : decode cL_law 1329 = .ok (.invokestatic 226, 3) := dk_184 0 226 (dk_at dksL_law_47 11 rfl rfl)
theorem dL_law_1332 : decode cL_law 1332 = .ok (.istore 6, 2) := dk_54 6 (dk_at dksL_law_47 14 rfl rfl)
theorem dL_law_1334 : decode cL_law 1334 = .ok (.aload_n 2, 1) := dk_44 (dk_at dksL_law_47 16 rfl rfl)
theorem dL_law_1335 : decode cL_law 1335 = .ok (.aload_n 0, 1) := dk_42 (dk_at dksL_law_47 17 rfl rfl)
theorem dL_law_1336 : decode cL_law 1336 = .ok (.iload 5, 2) := dk_21 5 (dk_at dksL_law_47 18 rfl rfl)
theorem dL_law_1338 : decode cL_law 1338 = .ok (.iconst 1, 1) := dk_4 (dk_at dksL_law_47 20 rfl rfl)
theorem dL_law_1339 : decode cL_law 1339 = .ok (.iadd, 1) := dk_96 (dk_at dksL_law_47 21 rfl rfl)
theorem dL_law_1340 : decode cL_law 1340 = .ok (.iaload, 1) := dk_46 (dk_at dksL_law_47 22 rfl rfl)
theorem dL_law_1341 : decode cL_law 1341 = .ok (.invokevirtual 228, 3) := dk_182 0 228 (dk_at dksL_law_48 0 rfl rfl)
theorem dL_law_1344 : decode cL_law 1344 = .ok (.istore 7, 2) := dk_54 7 (dk_at dksL_law_48 3 rfl rfl)
theorem dL_law_1346 : decode cL_law 1346 = .ok (.aload_n 2, 1) := dk_44 (dk_at dksL_law_48 5 rfl rfl)
theorem dL_law_1347 : decode cL_law 1347 = .ok (.invokevirtual 165, 3) := dk_182 0 165 (dk_at dksL_law_48 6 rfl rfl)
theorem dL_law_1350 : decode cL_law 1350 = .ok (.iload 6, 2) := dk_21 6 (dk_at dksL_law_48 9 rfl rfl)
theorem dL_law_1352 : decode cL_law 1352 = .ok (.if_icmp .eq 5, 3) := dk_159 0 5 (dk_at dksL_law_48 11 rfl rfl)
theorem dL_law_1355 : decode cL_law 1355 = .ok (.iconst 0, 1) := dk_3 (dk_at dksL_law_48 14 rfl rfl)
theorem dL_law_1356 : decode cL_law 1356 = .ok (.ireturn, 1) := dk_172 (dk_at dksL_law_48 15 rfl rfl)
theorem dL_law_1357 : decode cL_law 1357 = .ok (.iload 6, 2) := dk_21 6 (dk_at dksL_law_48 16 rfl rfl)
theorem dL_law_1359 : decode cL_law 1359 = .ok (.ifCond .ne 15, 3) := dk_154 0 15 (dk_at dksL_law_48 18 rfl rfl)
theorem dL_law_1362 : decode cL_law 1362 = .ok (.aload_n 3, 1) := dk_45 (dk_at dksL_law_48 21 rfl rfl)
theorem dL_law_1363 : decode cL_law 1363 = .ok (.iconst 0, 1) := dk_3 (dk_at dksL_law_48 22 rfl rfl)
theorem dL_law_1364 : decode cL_law 1364 = .ok (.laload, 1) := dk_47 (dk_at dksL_law_48 23 rfl rfl)
theorem dL_law_1365 : decode cL_law 1365 = .ok (.iload 7, 2) := dk_21 7 (dk_at dksL_law_49 0 rfl rfl)
theorem dL_law_1367 : decode cL_law 1367 = .ok (.i2l, 1) := dk_133 (dk_at dksL_law_49 2 rfl rfl)
theorem dL_law_1368 : decode cL_law 1368 = .ok (.lcmp, 1) := dk_148 (dk_at dksL_law_49 3 rfl rfl)
theorem dL_law_1369 : decode cL_law 1369 = .ok (.ifCond .eq 5, 3) := dk_153 0 5 (dk_at dksL_law_49 4 rfl rfl)
theorem dL_law_1372 : decode cL_law 1372 = .ok (.iconst 0, 1) := dk_3 (dk_at dksL_law_49 7 rfl rfl)
theorem dL_law_1373 : decode cL_law 1373 = .ok (.ireturn, 1) := dk_172 (dk_at dksL_law_49 8 rfl rfl)
theorem dL_law_1374 : decode cL_law 1374 = .ok (.goto 1515, 3) := dk_167 5 235 (dk_at dksL_law_49 9 rfl rfl)
theorem dL_law_1377 : decode cL_law 1377 = .ok (.aload_n 1, 1) := dk_43 (dk_at dksL_law_49 12 rfl rfl)
theorem dL_law_1378 : decode cL_law 1378 = .ok (.aload_n 0, 1) := dk_42 (dk_at dksL_law_49 13 rfl rfl)
theorem dL_law_1379 : decode cL_law 1379 = .ok (.iload 5, 2) := dk_21 5 (dk_at dksL_law_49 14 rfl rfl)
theorem dL_law_1381 : decode cL_law 1381 = .ok (.iconst 1, 1) := dk_4 (dk_at dksL_law_49 16 rfl rfl)
theorem dL_law_1382 : decode cL_law 1382 = .ok (.iadd, 1) := dk_96 (dk_at dksL_law_49 17 rfl rfl)
theorem dL_law_1383 : decode cL_law 1383 = .ok (.iaload, 1) := dk_46 (dk_at dksL_law_49 18 rfl rfl)
theorem dL_law_1384 : decode cL_law 1384 = .ok (.aload_n 3, 1) := dk_45 (dk_at dksL_law_49 19 rfl rfl)
theorem dL_law_1385 : decode cL_law 1385 = .ok (.invokestatic 229, 3) := dk_184 0 229 (dk_at dksL_law_49 20 rfl rfl)
theorem dL_law_1388 : decode cL_law 1388 = .ok (.istore 6, 2) := dk_54 6 (dk_at dksL_law_50 0 rfl rfl)
theorem dL_law_1390 : decode cL_law 1390 = .ok (.aload_n 2, 1) := dk_44 (dk_at dksL_law_50 2 rfl rfl)
theorem dL_law_1391 : decode cL_law 1391 = .ok (.aload_n 0, 1) := dk_42 (dk_at dksL_law_50 3 rfl rfl)
theorem dL_law_1392 : decode cL_law 1392 = .ok (.iload 5, 2) := dk_21 5 (dk_at dksL_law_50 4 rfl rfl)
theorem dL_law_1394 : decode cL_law 1394 = .ok (.iconst 1, 1) := dk_4 (dk_at dksL_law_50 6 rfl rfl)
theorem dL_law_1395 : decode cL_law 1395 = .ok (.iadd, 1) := dk_96 (dk_at dksL_law_50 7 rfl rfl)
theorem dL_law_1396 : decode cL_law 1396 = .ok (.iaload, 1) := dk_46 (dk_at dksL_law_50 8 rfl rfl)
theorem dL_law_1397 : decode cL_law 1397 = .ok (.invokevirtual 231, 3) := dk_182 0 231 (dk_at dksL_law_50 9 rfl rfl)
theorem dL_law_1400 : decode cL_law 1400 = .ok (.istore 7, 2) := dk_54 7 (dk_at dksL_law_50 12 rfl rfl)
theorem dL_law_1402 : decode cL_law 1402 = .ok (.aload_n 2, 1) := dk_44 (dk_at dksL_law_50 14 rfl rfl)
theorem dL_law_1403 : decode cL_law 1403 = .ok (.invokevirtual 165, 3) := dk_182 0 165 (dk_at dksL_law_50 15 rfl rfl)
theorem dL_law_1406 : decode cL_law 1406 = .ok (.iload 6, 2) := dk_21 6 (dk_at dksL_law_50 18 rfl rfl)
theorem dL_law_1408 : decode cL_law 1408 = .ok (.if_icmp .eq 5, 3) := dk_159 0 5 (dk_at dksL_law_50 20 rfl rfl)
theorem dL_law_1411 : decode cL_law 1411 = .ok (.iconst 0, 1) := dk_3 (dk_at dksL_law_50 23 rfl rfl)
theorem dL_law_1412 : decode cL_law 1412 = .ok (.ireturn, 1) := dk_172 (dk_at dksL_law_51 0 rfl rfl)
theorem dL_law_1413 : decode cL_law 1413 = .ok (.iload 6, 2) := dk_21 6 (dk_at dksL_law_51 1 rfl rfl)
theorem dL_law_1415 : decode cL_law 1415 = .ok (.ifCond .ne 15, 3) := dk_154 0 15 (dk_at dksL_law_51 3 rfl rfl)
theorem dL_law_1418 : decode cL_law 1418 = .ok (.aload_n 3, 1) := dk_45 (dk_at dksL_law_51 6 rfl rfl)
theorem dL_law_1419 : decode cL_law 1419 = .ok (.iconst 0, 1) := dk_3 (dk_at dksL_law_51 7 rfl rfl)
theorem dL_law_1420 : decode cL_law 1420 = .ok (.laload, 1) := dk_47 (dk_at dksL_law_51 8 rfl rfl)
theorem dL_law_1421 : decode cL_law 1421 = .ok (.iload 7, 2) := dk_21 7 (dk_at dksL_law_51 9 rfl rfl)
theorem dL_law_1423 : decode cL_law 1423 = .ok (.i2l, 1) := dk_133 (dk_at dksL_law_51 11 rfl rfl)
theorem dL_law_1424 : decode cL_law 1424 = .ok (.lcmp, 1) := dk_148 (dk_at dksL_law_51 12 rfl rfl)
theorem dL_law_1425 : decode cL_law 1425 = .ok (.ifCond .eq 5, 3) := dk_153 0 5 (dk_at dksL_law_51 13 rfl rfl)
theorem dL_law_1428 : decode cL_law 1428 = .ok (.iconst 0, 1) := dk_3 (dk_at dksL_law_51 16 rfl rfl)
theorem dL_law_1429 : decode cL_law 1429 = .ok (.ireturn, 1) := dk_172 (dk_at dksL_law_51 17 rfl rfl)
theorem dL_law_1430 : decode cL_law 1430 = .ok (.goto 1459, 3) := dk_167 5 179 (dk_at dksL_law_51 18 rfl rfl)
theorem dL_law_1433 : decode cL_law 1433 = .ok (.aload_n 1, 1) := dk_43 (dk_at dksL_law_51 21 rfl rfl)
theorem dL_law_1434 : decode cL_law 1434 = .ok (.aload_n 0, 1) := dk_42 (dk_at dksL_law_51 22 rfl rfl)
theorem dL_law_1435 : decode cL_law 1435 = .ok (.iload 5, 2) := dk_21 5 (dk_at dksL_law_52 0 rfl rfl)
theorem dL_law_1437 : decode cL_law 1437 = .ok (.iconst 1, 1) := dk_4 (dk_at dksL_law_52 2 rfl rfl)
theorem dL_law_1438 : decode cL_law 1438 = .ok (.iadd, 1) := dk_96 (dk_at dksL_law_52 3 rfl rfl)
theorem dL_law_1439 : decode cL_law 1439 = .ok (.iaload, 1) := dk_46 (dk_at dksL_law_52 4 rfl rfl)
theorem dL_law_1440 : decode cL_law 1440 = .ok (.aload_n 3, 1) := dk_45 (dk_at dksL_law_52 5 rfl rfl)
theorem dL_law_1441 : decode cL_law 1441 = .ok (.invokestatic 232, 3) := dk_184 0 232 (dk_at dksL_law_52 6 rfl rfl)
theorem dL_law_1444 : decode cL_law 1444 = .ok (.istore 6, 2) := dk_54 6 (dk_at dksL_law_52 9 rfl rfl)
theorem dL_law_1446 : decode cL_law 1446 = .ok (.aload_n 2, 1) := dk_44 (dk_at dksL_law_52 11 rfl rfl)
theorem dL_law_1447 : decode cL_law 1447 = .ok (.aload_n 0, 1) := dk_42 (dk_at dksL_law_52 12 rfl rfl)
theorem dL_law_1448 : decode cL_law 1448 = .ok (.iload 5, 2) := dk_21 5 (dk_at dksL_law_52 13 rfl rfl)
theorem dL_law_1450 : decode cL_law 1450 = .ok (.iconst 1, 1) := dk_4 (dk_at dksL_law_52 15 rfl rfl)
theorem dL_law_1451 : decode cL_law 1451 = .ok (.iadd, 1) := dk_96 (dk_at dksL_law_52 16 rfl rfl)
theorem dL_law_1452 : decode cL_law 1452 = .ok (.iaload, 1) := dk_46 (dk_at dksL_law_52 17 rfl rfl)
theorem dL_law_1453 : decode cL_law 1453 = .ok (.invokevirtual 234, 3) := dk_182 0 234 (dk_at dksL_law_52 18 rfl rfl)
theorem dL_law_1456 : decode cL_law 1456 = .ok (.istore 7, 2) := dk_54 7 (dk_at dksL_law_52 21 rfl rfl)
theorem dL_law_1458 : decode cL_law 1458 = .ok (.aload_n 2, 1) := dk_44 (dk_at dksL_law_52 23 rfl rfl)
theorem dL_law_1459 : decode cL_law 1459 = .ok (.invokevirtual 165, 3) := dk_182 0 165 (dk_at dksL_law_53 0 rfl rfl)
theorem dL_law_1462 : decode cL_law 1462 = .ok (.iload 6, 2) := dk_21 6 (dk_at dksL_law_53 3 rfl rfl)
theorem dL_law_1464 : decode cL_law 1464 = .ok (.if_icmp .eq 5, 3) := dk_159 0 5 (dk_at dksL_law_53 5 rfl rfl)
theorem dL_law_1467 : decode cL_law 1467 = .ok (.iconst 0, 1) := dk_3 (dk_at dksL_law_53 8 rfl rfl)
theorem dL_law_1468 : decode cL_law 1468 = .ok (.ireturn, 1) := dk_172 (dk_at dksL_law_53 9 rfl rfl)
theorem dL_law_1469 : decode cL_law 1469 = .ok (.iload 6, 2) := dk_21 6 (dk_at dksL_law_53 10 rfl rfl)
theorem dL_law_1471 : decode cL_law 1471 = .ok (.ifCond .ne 15, 3) := dk_154 0 15 (dk_at dksL_law_53 12 rfl rfl)
theorem dL_law_1474 : decode cL_law 1474 = .ok (.aload_n 3, 1) := dk_45 (dk_at dksL_law_53 15 rfl rfl)
theorem dL_law_1475 : decode cL_law 1475 = .ok (.iconst 0, 1) := dk_3 (dk_at dksL_law_53 16 rfl rfl)
theorem dL_law_1476 : decode cL_law 1476 = .ok (.laload, 1) := dk_47 (dk_at dksL_law_53 17 rfl rfl)
theorem dL_law_1477 : decode cL_law 1477 = .ok (.iload 7, 2) := dk_21 7 (dk_at dksL_law_53 18 rfl rfl)
theorem dL_law_1479 : decode cL_law 1479 = .ok (.i2l, 1) := dk_133 (dk_at dksL_law_53 20 rfl rfl)
theorem dL_law_1480 : decode cL_law 1480 = .ok (.lcmp, 1) := dk_148 (dk_at dksL_law_53 21 rfl rfl)
theorem dL_law_1481 : decode cL_law 1481 = .ok (.ifCond .eq 5, 3) := dk_153 0 5 (dk_at dksL_law_54 0 rfl rfl)
theorem dL_law_1484 : decode cL_law 1484 = .ok (.iconst 0, 1) := dk_3 (dk_at dksL_law_54 3 rfl rfl)
theorem dL_law_1485 : decode cL_law 1485 = .ok (.ireturn, 1) := dk_172 (dk_at dksL_law_54 4 rfl rfl)
theorem dL_law_1486 : decode cL_law 1486 = .ok (.goto 1403, 3) := dk_167 5 123 (dk_at dksL_law_54 5 rfl rfl)
theorem dL_law_1489 : decode cL_law 1489 = .ok (.aload_n 1, 1) := dk_43 (dk_at dksL_law_54 8 rfl rfl)
theorem dL_law_1490 : decode cL_law 1490 = .ok (.aload_n 0, 1) := dk_42 (dk_at dksL_law_54 9 rfl rfl)
theorem dL_law_1491 : decode cL_law 1491 = .ok (.iload 5, 2) := dk_21 5 (dk_at dksL_law_54 10 rfl rfl)
theorem dL_law_1493 : decode cL_law 1493 = .ok (.iconst 1, 1) := dk_4 (dk_at dksL_law_54 12 rfl rfl)
theorem dL_law_1494 : decode cL_law 1494 = .ok (.iadd, 1) := dk_96 (dk_at dksL_law_54 13 rfl rfl)
theorem dL_law_1495 : decode cL_law 1495 = .ok (.iaload, 1) := dk_46 (dk_at dksL_law_54 14 rfl rfl)
theorem dL_law_1496 : decode cL_law 1496 = .ok (.aload_n 3, 1) := dk_45 (dk_at dksL_law_54 15 rfl rfl)
theorem dL_law_1497 : decode cL_law 1497 = .ok (.invokestatic 235, 3) := dk_184 0 235 (dk_at dksL_law_54 16 rfl rfl)
theorem dL_law_1500 : decode cL_law 1500 = .ok (.istore 6, 2) := dk_54 6 (dk_at dksL_law_54 19 rfl rfl)
theorem dL_law_1502 : decode cL_law 1502 = .ok (.aload_n 2, 1) := dk_44 (dk_at dksL_law_54 21 rfl rfl)
theorem dL_law_1503 : decode cL_law 1503 = .ok (.aload_n 0, 1) := dk_42 (dk_at dksL_law_54 22 rfl rfl)
theorem dL_law_1504 : decode cL_law 1504 = .ok (.iload 5, 2) := dk_21 5 (dk_at dksL_law_55 0 rfl rfl)
theorem dL_law_1506 : decode cL_law 1506 = .ok (.iconst 1, 1) := dk_4 (dk_at dksL_law_55 2 rfl rfl)
theorem dL_law_1507 : decode cL_law 1507 = .ok (.iadd, 1) := dk_96 (dk_at dksL_law_55 3 rfl rfl)
theorem dL_law_1508 : decode cL_law 1508 = .ok (.iaload, 1) := dk_46 (dk_at dksL_law_55 4 rfl rfl)
theorem dL_law_1509 : decode cL_law 1509 = .ok (.invokevirtual 237, 3) := dk_182 0 237 (dk_at dksL_law_55 5 rfl rfl)
theorem dL_law_1512 : decode cL_law 1512 = .ok (.istore 7, 2) := dk_54 7 (dk_at dksL_law_55 8 rfl rfl)
theorem dL_law_1514 : decode cL_law 1514 = .ok (.aload_n 2, 1) := dk_44 (dk_at dksL_law_55 10 rfl rfl)
theorem dL_law_1515 : decode cL_law 1515 = .ok (.invokevirtual 165, 3) := dk_182 0 165 (dk_at dksL_law_55 11 rfl rfl)
theorem dL_law_1518 : decode cL_law 1518 = .ok (.iload 6, 2) := dk_21 6 (dk_at dksL_law_55 14 rfl rfl)
theorem dL_law_1520 : decode cL_law 1520 = .ok (.if_icmp .eq 5, 3) := dk_159 0 5 (dk_at dksL_law_55 16 rfl rfl)
theorem dL_law_1523 : decode cL_law 1523 = .ok (.iconst 0, 1) := dk_3 (dk_at dksL_law_55 19 rfl rfl)
theorem dL_law_1524 : decode cL_law 1524 = .ok (.ireturn, 1) := dk_172 (dk_at dksL_law_55 20 rfl rfl)
theorem dL_law_1525 : decode cL_law 1525 = .ok (.iload 6, 2) := dk_21 6 (dk_at dksL_law_55 21 rfl rfl)
theorem dL_law_1527 : decode cL_law 1527 = .ok (.ifCond .ne 22, 3) := dk_154 0 22 (dk_at dksL_law_56 0 rfl rfl)
theorem dL_law_1530 : decode cL_law 1530 = .ok (.aload_n 3, 1) := dk_45 (dk_at dksL_law_56 3 rfl rfl)
theorem dL_law_1531 : decode cL_law 1531 = .ok (.iconst 0, 1) := dk_3 (dk_at dksL_law_56 4 rfl rfl)
theorem dL_law_1532 : decode cL_law 1532 = .ok (.laload, 1) := dk_47 (dk_at dksL_law_56 5 rfl rfl)
theorem dL_law_1533 : decode cL_law 1533 = .ok (.iload 7, 2) := dk_21 7 (dk_at dksL_law_56 6 rfl rfl)
theorem dL_law_1535 : decode cL_law 1535 = .ok (.ifCond .eq 7, 3) := dk_153 0 7 (dk_at dksL_law_56 8 rfl rfl)
theorem dL_law_1538 : decode cL_law 1538 = .ok (.lconst 1, 1) := dk_10 (dk_at dksL_law_56 11 rfl rfl)
theorem dL_law_1539 : decode cL_law 1539 = .ok (.goto 4, 3) := dk_167 0 4 (dk_at dksL_law_56 12 rfl rfl)
theorem dL_law_1542 : decode cL_law 1542 = .ok (.lconst 0, 1) := dk_9 (dk_at dksL_law_56 15 rfl rfl)
theorem dL_law_1543 : decode cL_law 1543 = .ok (.lcmp, 1) := dk_148 (dk_at dksL_law_56 16 rfl rfl)
theorem dL_law_1544 : decode cL_law 1544 = .ok (.ifCond .eq 5, 3) := dk_153 0 5 (dk_at dksL_law_56 17 rfl rfl)
theorem dL_law_1547 : decode cL_law 1547 = .ok (.iconst 0, 1) := dk_3 (dk_at dksL_law_56 20 rfl rfl)
theorem dL_law_1548 : decode cL_law 1548 = .ok (.ireturn, 1) := dk_172 (dk_at dksL_law_56 21 rfl rfl)
theorem dL_law_1549 : decode cL_law 1549 = .ok (.goto 1340, 3) := dk_167 5 60 (dk_at dksL_law_57 0 rfl rfl)
theorem dL_law_1552 : decode cL_law 1552 = .ok (.aload_n 1, 1) := dk_43 (dk_at dksL_law_57 3 rfl rfl)
theorem dL_law_1553 : decode cL_law 1553 = .ok (.aload_n 0, 1) := dk_42 (dk_at dksL_law_57 4 rfl rfl)
theorem dL_law_1554 : decode cL_law 1554 = .ok (.iload 5, 2) := dk_21 5 (dk_at dksL_law_57 5 rfl rfl)
theorem dL_law_1556 : decode cL_law 1556 = .ok (.iconst 1, 1) := dk_4 (dk_at dksL_law_57 7 rfl rfl)
theorem dL_law_1557 : decode cL_law 1557 = .ok (.iadd, 1) := dk_96 (dk_at dksL_law_57 8 rfl rfl)
theorem dL_law_1558 : decode cL_law 1558 = .ok (.iaload, 1) := dk_46 (dk_at dksL_law_57 9 rfl rfl)
theorem dL_law_1559 : decode cL_law 1559 = .ok (.aload_n 3, 1) := dk_45 (dk_at dksL_law_57 10 rfl rfl)
theorem dL_law_1560 : decode cL_law 1560 = .ok (.invokestatic 238, 3) := dk_184 0 238 (dk_at dksL_law_57 11 rfl rfl)
theorem dL_law_1563 : decode cL_law 1563 = .ok (.istore 6, 2) := dk_54 6 (dk_at dksL_law_57 14 rfl rfl)
theorem dL_law_1565 : decode cL_law 1565 = .ok (.aload_n 2, 1) := dk_44 (dk_at dksL_law_57 16 rfl rfl)
theorem dL_law_1566 : decode cL_law 1566 = .ok (.aload_n 0, 1) := dk_42 (dk_at dksL_law_57 17 rfl rfl)
theorem dL_law_1567 : decode cL_law 1567 = .ok (.iload 5, 2) := dk_21 5 (dk_at dksL_law_57 18 rfl rfl)
theorem dL_law_1569 : decode cL_law 1569 = .ok (.iconst 1, 1) := dk_4 (dk_at dksL_law_57 20 rfl rfl)
theorem dL_law_1570 : decode cL_law 1570 = .ok (.iadd, 1) := dk_96 (dk_at dksL_law_57 21 rfl rfl)
theorem dL_law_1571 : decode cL_law 1571 = .ok (.iaload, 1) := dk_46 (dk_at dksL_law_57 22 rfl rfl)
theorem dL_law_1572 : decode cL_law 1572 = .ok (.invokevirtual 240, 3) := dk_182 0 240 (dk_at dksL_law_58 0 rfl rfl)
theorem dL_law_1575 : decode cL_law 1575 = .ok (.istore 7, 2) := dk_54 7 (dk_at dksL_law_58 3 rfl rfl)
theorem dL_law_1577 : decode cL_law 1577 = .ok (.aload_n 2, 1) := dk_44 (dk_at dksL_law_58 5 rfl rfl)
theorem dL_law_1578 : decode cL_law 1578 = .ok (.invokevirtual 165, 3) := dk_182 0 165 (dk_at dksL_law_58 6 rfl rfl)
theorem dL_law_1581 : decode cL_law 1581 = .ok (.iload 6, 2) := dk_21 6 (dk_at dksL_law_58 9 rfl rfl)
theorem dL_law_1583 : decode cL_law 1583 = .ok (.if_icmp .eq 5, 3) := dk_159 0 5 (dk_at dksL_law_58 11 rfl rfl)
theorem dL_law_1586 : decode cL_law 1586 = .ok (.iconst 0, 1) := dk_3 (dk_at dksL_law_58 14 rfl rfl)
theorem dL_law_1587 : decode cL_law 1587 = .ok (.ireturn, 1) := dk_172 (dk_at dksL_law_58 15 rfl rfl)
theorem dL_law_1588 : decode cL_law 1588 = .ok (.iload 6, 2) := dk_21 6 (dk_at dksL_law_58 16 rfl rfl)
theorem dL_law_1590 : decode cL_law 1590 = .ok (.ifCond .ne 15, 3) := dk_154 0 15 (dk_at dksL_law_58 18 rfl rfl)
theorem dL_law_1593 : decode cL_law 1593 = .ok (.aload_n 3, 1) := dk_45 (dk_at dksL_law_58 21 rfl rfl)
theorem dL_law_1594 : decode cL_law 1594 = .ok (.iconst 0, 1) := dk_3 (dk_at dksL_law_58 22 rfl rfl)
theorem dL_law_1595 : decode cL_law 1595 = .ok (.laload, 1) := dk_47 (dk_at dksL_law_58 23 rfl rfl)
theorem dL_law_1596 : decode cL_law 1596 = .ok (.iload 7, 2) := dk_21 7 (dk_at dksL_law_59 0 rfl rfl)
theorem dL_law_1598 : decode cL_law 1598 = .ok (.i2l, 1) := dk_133 (dk_at dksL_law_59 2 rfl rfl)
theorem dL_law_1599 : decode cL_law 1599 = .ok (.lcmp, 1) := dk_148 (dk_at dksL_law_59 3 rfl rfl)
theorem dL_law_1600 : decode cL_law 1600 = .ok (.ifCond .eq 5, 3) := dk_153 0 5 (dk_at dksL_law_59 4 rfl rfl)
theorem dL_law_1603 : decode cL_law 1603 = .ok (.iconst 0, 1) := dk_3 (dk_at dksL_law_59 7 rfl rfl)
theorem dL_law_1604 : decode cL_law 1604 = .ok (.ireturn, 1) := dk_172 (dk_at dksL_law_59 8 rfl rfl)
theorem dL_law_1605 : decode cL_law 1605 = .ok (.goto 1284, 3) := dk_167 5 4 (dk_at dksL_law_59 9 rfl rfl)
theorem dL_law_1608 : decode cL_law 1608 = .ok (.aload_n 1, 1) := dk_43 (dk_at dksL_law_59 12 rfl rfl)
theorem dL_law_1609 : decode cL_law 1609 = .ok (.aload_n 0, 1) := dk_42 (dk_at dksL_law_59 13 rfl rfl)
theorem dL_law_1610 : decode cL_law 1610 = .ok (.iload 5, 2) := dk_21 5 (dk_at dksL_law_59 14 rfl rfl)
theorem dL_law_1612 : decode cL_law 1612 = .ok (.iconst 1, 1) := dk_4 (dk_at dksL_law_59 16 rfl rfl)
theorem dL_law_1613 : decode cL_law 1613 = .ok (.iadd, 1) := dk_96 (dk_at dksL_law_59 17 rfl rfl)
theorem dL_law_1614 : decode cL_law 1614 = .ok (.iaload, 1) := dk_46 (dk_at dksL_law_59 18 rfl rfl)
theorem dL_law_1615 : decode cL_law 1615 = .ok (.aload_n 3, 1) := dk_45 (dk_at dksL_law_59 19 rfl rfl)
theorem dL_law_1616 : decode cL_law 1616 = .ok (.invokestatic 241, 3) := dk_184 0 241 (dk_at dksL_law_59 20 rfl rfl)
theorem dL_law_1619 : decode cL_law 1619 = .ok (.istore 6, 2) := dk_54 6 (dk_at dksL_law_60 0 rfl rfl)
theorem dL_law_1621 : decode cL_law 1621 = .ok (.aload_n 2, 1) := dk_44 (dk_at dksL_law_60 2 rfl rfl)
theorem dL_law_1622 : decode cL_law 1622 = .ok (.aload_n 0, 1) := dk_42 (dk_at dksL_law_60 3 rfl rfl)
theorem dL_law_1623 : decode cL_law 1623 = .ok (.iload 5, 2) := dk_21 5 (dk_at dksL_law_60 4 rfl rfl)
theorem dL_law_1625 : decode cL_law 1625 = .ok (.iconst 1, 1) := dk_4 (dk_at dksL_law_60 6 rfl rfl)
theorem dL_law_1626 : decode cL_law 1626 = .ok (.iadd, 1) := dk_96 (dk_at dksL_law_60 7 rfl rfl)
theorem dL_law_1627 : decode cL_law 1627 = .ok (.iaload, 1) := dk_46 (dk_at dksL_law_60 8 rfl rfl)
theorem dL_law_1628 : decode cL_law 1628 = .ok (.invokevirtual 243, 3) := dk_182 0 243 (dk_at dksL_law_60 9 rfl rfl)
theorem dL_law_1631 : decode cL_law 1631 = .ok (.istore 7, 2) := dk_54 7 (dk_at dksL_law_60 12 rfl rfl)
theorem dL_law_1633 : decode cL_law 1633 = .ok (.aload_n 2, 1) := dk_44 (dk_at dksL_law_60 14 rfl rfl)
theorem dL_law_1634 : decode cL_law 1634 = .ok (.invokevirtual 165, 3) := dk_182 0 165 (dk_at dksL_law_60 15 rfl rfl)
theorem dL_law_1637 : decode cL_law 1637 = .ok (.iload 6, 2) := dk_21 6 (dk_at dksL_law_60 18 rfl rfl)
theorem dL_law_1639 : decode cL_law 1639 = .ok (.if_icmp .eq 5, 3) := dk_159 0 5 (dk_at dksL_law_60 20 rfl rfl)
theorem dL_law_1642 : decode cL_law 1642 = .ok (.iconst 0, 1) := dk_3 (dk_at dksL_law_60 23 rfl rfl)
theorem dL_law_1643 : decode cL_law 1643 = .ok (.ireturn, 1) := dk_172 (dk_at dksL_law_61 0 rfl rfl)
theorem dL_law_1644 : decode cL_law 1644 = .ok (.iload 6, 2) := dk_21 6 (dk_at dksL_law_61 1 rfl rfl)
theorem dL_law_1646 : decode cL_law 1646 = .ok (.ifCond .ne 15, 3) := dk_154 0 15 (dk_at dksL_law_61 3 rfl rfl)
theorem dL_law_1649 : decode cL_law 1649 = .ok (.aload_n 3, 1) := dk_45 (dk_at dksL_law_61 6 rfl rfl)
theorem dL_law_1650 : decode cL_law 1650 = .ok (.iconst 0, 1) := dk_3 (dk_at dksL_law_61 7 rfl rfl)
theorem dL_law_1651 : decode cL_law 1651 = .ok (.laload, 1) := dk_47 (dk_at dksL_law_61 8 rfl rfl)
theorem dL_law_1652 : decode cL_law 1652 = .ok (.iload 7, 2) := dk_21 7 (dk_at dksL_law_61 9 rfl rfl)
theorem dL_law_1654 : decode cL_law 1654 = .ok (.i2l, 1) := dk_133 (dk_at dksL_law_61 11 rfl rfl)
theorem dL_law_1655 : decode cL_law 1655 = .ok (.lcmp, 1) := dk_148 (dk_at dksL_law_61 12 rfl rfl)
theorem dL_law_1656 : decode cL_law 1656 = .ok (.ifCond .eq 5, 3) := dk_153 0 5 (dk_at dksL_law_61 13 rfl rfl)
theorem dL_law_1659 : decode cL_law 1659 = .ok (.iconst 0, 1) := dk_3 (dk_at dksL_law_61 16 rfl rfl)
theorem dL_law_1660 : decode cL_law 1660 = .ok (.ireturn, 1) := dk_172 (dk_at dksL_law_61 17 rfl rfl)
theorem dL_law_1661 : decode cL_law 1661 = .ok (.goto 1228, 3) := dk_167 4 204 (dk_at dksL_law_61 18 rfl rfl)
theorem dL_law_1664 : decode cL_law 1664 = .ok (.aload_n 1, 1) := dk_43 (dk_at dksL_law_61 21 rfl rfl)
theorem dL_law_1665 : decode cL_law 1665 = .ok (.aload_n 0, 1) := dk_42 (dk_at dksL_law_61 22 rfl rfl)
theorem dL_law_1666 : decode cL_law 1666 = .ok (.iload 5, 2) := dk_21 5 (dk_at dksL_law_62 0 rfl rfl)
theorem dL_law_1668 : decode cL_law 1668 = .ok (.iconst 1, 1) := dk_4 (dk_at dksL_law_62 2 rfl rfl)
theorem dL_law_1669 : decode cL_law 1669 = .ok (.iadd, 1) := dk_96 (dk_at dksL_law_62 3 rfl rfl)
theorem dL_law_1670 : decode cL_law 1670 = .ok (.iaload, 1) := dk_46 (dk_at dksL_law_62 4 rfl rfl)
theorem dL_law_1671 : decode cL_law 1671 = .ok (.aload_n 3, 1) := dk_45 (dk_at dksL_law_62 5 rfl rfl)
theorem dL_law_1672 : decode cL_law 1672 = .ok (.invokestatic 244, 3) := dk_184 0 244 (dk_at dksL_law_62 6 rfl rfl)
theorem dL_law_1675 : decode cL_law 1675 = .ok (.istore 6, 2) := dk_54 6 (dk_at dksL_law_62 9 rfl rfl)
theorem dL_law_1677 : decode cL_law 1677 = .ok (.aload_n 2, 1) := dk_44 (dk_at dksL_law_62 11 rfl rfl)
theorem dL_law_1678 : decode cL_law 1678 = .ok (.aload_n 0, 1) := dk_42 (dk_at dksL_law_62 12 rfl rfl)
theorem dL_law_1679 : decode cL_law 1679 = .ok (.iload 5, 2) := dk_21 5 (dk_at dksL_law_62 13 rfl rfl)
theorem dL_law_1681 : decode cL_law 1681 = .ok (.iconst 1, 1) := dk_4 (dk_at dksL_law_62 15 rfl rfl)
theorem dL_law_1682 : decode cL_law 1682 = .ok (.iadd, 1) := dk_96 (dk_at dksL_law_62 16 rfl rfl)
theorem dL_law_1683 : decode cL_law 1683 = .ok (.iaload, 1) := dk_46 (dk_at dksL_law_62 17 rfl rfl)
theorem dL_law_1684 : decode cL_law 1684 = .ok (.invokevirtual 246, 3) := dk_182 0 246 (dk_at dksL_law_62 18 rfl rfl)
theorem dL_law_1687 : decode cL_law 1687 = .ok (.istore 7, 2) := dk_54 7 (dk_at dksL_law_62 21 rfl rfl)
theorem dL_law_1689 : decode cL_law 1689 = .ok (.aload_n 2, 1) := dk_44 (dk_at dksL_law_62 23 rfl rfl)
theorem dL_law_1690 : decode cL_law 1690 = .ok (.invokevirtual 165, 3) := dk_182 0 165 (dk_at dksL_law_63 0 rfl rfl)
theorem dL_law_1693 : decode cL_law 1693 = .ok (.iload 6, 2) := dk_21 6 (dk_at dksL_law_63 3 rfl rfl)
theorem dL_law_1695 : decode cL_law 1695 = .ok (.if_icmp .eq 5, 3) := dk_159 0 5 (dk_at dksL_law_63 5 rfl rfl)
theorem dL_law_1698 : decode cL_law 1698 = .ok (.iconst 0, 1) := dk_3 (dk_at dksL_law_63 8 rfl rfl)
theorem dL_law_1699 : decode cL_law 1699 = .ok (.ireturn, 1) := dk_172 (dk_at dksL_law_63 9 rfl rfl)
theorem dL_law_1700 : decode cL_law 1700 = .ok (.iload 6, 2) := dk_21 6 (dk_at dksL_law_63 10 rfl rfl)
theorem dL_law_1702 : decode cL_law 1702 = .ok (.ifCond .ne 15, 3) := dk_154 0 15 (dk_at dksL_law_63 12 rfl rfl)
theorem dL_law_1705 : decode cL_law 1705 = .ok (.aload_n 3, 1) := dk_45 (dk_at dksL_law_63 15 rfl rfl)
theorem dL_law_1706 : decode cL_law 1706 = .ok (.iconst 0, 1) := dk_3 (dk_at dksL_law_63 16 rfl rfl)
theorem dL_law_1707 : decode cL_law 1707 = .ok (.laload, 1) := dk_47 (dk_at dksL_law_63 17 rfl rfl)
theorem dL_law_1708 : decode cL_law 1708 = .ok (.iload 7, 2) := dk_21 7 (dk_at dksL_law_63 18 rfl rfl)
theorem dL_law_1710 : decode cL_law 1710 = .ok (.i2l, 1) := dk_133 (dk_at dksL_law_63 20 rfl rfl)
theorem dL_law_1711 : decode cL_law 1711 = .ok (.lcmp, 1) := dk_148 (dk_at dksL_law_63 21 rfl rfl)
theorem dL_law_1712 : decode cL_law 1712 = .ok (.ifCond .eq 5, 3) := dk_153 0 5 (dk_at dksL_law_64 0 rfl rfl)
theorem dL_law_1715 : decode cL_law 1715 = .ok (.iconst 0, 1) := dk_3 (dk_at dksL_law_64 3 rfl rfl)
theorem dL_law_1716 : decode cL_law 1716 = .ok (.ireturn, 1) := dk_172 (dk_at dksL_law_64 4 rfl rfl)
theorem dL_law_1717 : decode cL_law 1717 = .ok (.goto 1172, 3) := dk_167 4 148 (dk_at dksL_law_64 5 rfl rfl)
theorem dL_law_1720 : decode cL_law 1720 = .ok (.aload_n 1, 1) := dk_43 (dk_at dksL_law_64 8 rfl rfl)
theorem dL_law_1721 : decode cL_law 1721 = .ok (.aload_n 0, 1) := dk_42 (dk_at dksL_law_64 9 rfl rfl)
theorem dL_law_1722 : decode cL_law 1722 = .ok (.iload 5, 2) := dk_21 5 (dk_at dksL_law_64 10 rfl rfl)
theorem dL_law_1724 : decode cL_law 1724 = .ok (.iconst 1, 1) := dk_4 (dk_at dksL_law_64 12 rfl rfl)
theorem dL_law_1725 : decode cL_law 1725 = .ok (.iadd, 1) := dk_96 (dk_at dksL_law_64 13 rfl rfl)
theorem dL_law_1726 : decode cL_law 1726 = .ok (.iaload, 1) := dk_46 (dk_at dksL_law_64 14 rfl rfl)
theorem dL_law_1727 : decode cL_law 1727 = .ok (.aload_n 3, 1) := dk_45 (dk_at dksL_law_64 15 rfl rfl)
theorem dL_law_1728 : decode cL_law 1728 = .ok (.invokestatic 247, 3) := dk_184 0 247 (dk_at dksL_law_64 16 rfl rfl)
theorem dL_law_1731 : decode cL_law 1731 = .ok (.istore 6, 2) := dk_54 6 (dk_at dksL_law_64 19 rfl rfl)
theorem dL_law_1733 : decode cL_law 1733 = .ok (.aload_n 2, 1) := dk_44 (dk_at dksL_law_64 21 rfl rfl)
theorem dL_law_1734 : decode cL_law 1734 = .ok (.aload_n 0, 1) := dk_42 (dk_at dksL_law_64 22 rfl rfl)
theorem dL_law_1735 : decode cL_law 1735 = .ok (.iload 5, 2) := dk_21 5 (dk_at dksL_law_65 0 rfl rfl)
theorem dL_law_1737 : decode cL_law 1737 = .ok (.iconst 1, 1) := dk_4 (dk_at dksL_law_65 2 rfl rfl)
theorem dL_law_1738 : decode cL_law 1738 = .ok (.iadd, 1) := dk_96 (dk_at dksL_law_65 3 rfl rfl)
theorem dL_law_1739 : decode cL_law 1739 = .ok (.iaload, 1) := dk_46 (dk_at dksL_law_65 4 rfl rfl)
theorem dL_law_1740 : decode cL_law 1740 = .ok (.invokevirtual 249, 3) := dk_182 0 249 (dk_at dksL_law_65 5 rfl rfl)
theorem dL_law_1743 : decode cL_law 1743 = .ok (.istore 7, 2) := dk_54 7 (dk_at dksL_law_65 8 rfl rfl)
theorem dL_law_1745 : decode cL_law 1745 = .ok (.aload_n 2, 1) := dk_44 (dk_at dksL_law_65 10 rfl rfl)
theorem dL_law_1746 : decode cL_law 1746 = .ok (.invokevirtual 165, 3) := dk_182 0 165 (dk_at dksL_law_65 11 rfl rfl)
theorem dL_law_1749 : decode cL_law 1749 = .ok (.iload 6, 2) := dk_21 6 (dk_at dksL_law_65 14 rfl rfl)
theorem dL_law_1751 : decode cL_law 1751 = .ok (.if_icmp .eq 5, 3) := dk_159 0 5 (dk_at dksL_law_65 16 rfl rfl)
theorem dL_law_1754 : decode cL_law 1754 = .ok (.iconst 0, 1) := dk_3 (dk_at dksL_law_65 19 rfl rfl)
theorem dL_law_1755 : decode cL_law 1755 = .ok (.ireturn, 1) := dk_172 (dk_at dksL_law_65 20 rfl rfl)
theorem dL_law_1756 : decode cL_law 1756 = .ok (.iload 6, 2) := dk_21 6 (dk_at dksL_law_65 21 rfl rfl)
theorem dL_law_1758 : decode cL_law 1758 = .ok (.ifCond .ne 15, 3) := dk_154 0 15 (dk_at dksL_law_66 0 rfl rfl)
theorem dL_law_1761 : decode cL_law 1761 = .ok (.aload_n 3, 1) := dk_45 (dk_at dksL_law_66 3 rfl rfl)
theorem dL_law_1762 : decode cL_law 1762 = .ok (.iconst 0, 1) := dk_3 (dk_at dksL_law_66 4 rfl rfl)
theorem dL_law_1763 : decode cL_law 1763 = .ok (.laload, 1) := dk_47 (dk_at dksL_law_66 5 rfl rfl)
theorem dL_law_1764 : decode cL_law 1764 = .ok (.iload 7, 2) := dk_21 7 (dk_at dksL_law_66 6 rfl rfl)
theorem dL_law_1766 : decode cL_law 1766 = .ok (.i2l, 1) := dk_133 (dk_at dksL_law_66 8 rfl rfl)
theorem dL_law_1767 : decode cL_law 1767 = .ok (.lcmp, 1) := dk_148 (dk_at dksL_law_66 9 rfl rfl)
theorem dL_law_1768 : decode cL_law 1768 = .ok (.ifCond .eq 5, 3) := dk_153 0 5 (dk_at dksL_law_66 10 rfl rfl)
theorem dL_law_1771 : decode cL_law 1771 = .ok (.iconst 0, 1) := dk_3 (dk_at dksL_law_66 13 rfl rfl)
theorem dL_law_1772 : decode cL_law 1772 = .ok (.ireturn, 1) := dk_172 (dk_at dksL_law_66 14 rfl rfl)
theorem dL_law_1773 : decode cL_law 1773 = .ok (.goto 1116, 3) := dk_167 4 92 (dk_at dksL_law_66 15 rfl rfl)
theorem dL_law_1776 : decode cL_law 1776 = .ok (.aload_n 1, 1) := dk_43 (dk_at dksL_law_66 18 rfl rfl)
theorem dL_law_1777 : decode cL_law 1777 = .ok (.invokevirtual 250, 3) := dk_182 0 250 (dk_at dksL_law_66 19 rfl rfl)
theorem dL_law_1780 : decode cL_law 1780 = .ok (.aload_n 2, 1) := dk_44 (dk_at dksL_law_66 22 rfl rfl)
theorem dL_law_1781 : decode cL_law 1781 = .ok (.invokevirtual 253, 3) := dk_182 0 253 (dk_at dksL_law_67 0 rfl rfl)
theorem dL_law_1784 : decode cL_law 1784 = .ok (.if_icmp .eq 1105, 3) := dk_159 4 81 (dk_at dksL_law_67 3 rfl rfl)
theorem dL_law_1787 : decode cL_law 1787 = .ok (.iconst 0, 1) := dk_3 (dk_at dksL_law_67 6 rfl rfl)
theorem dL_law_1788 : decode cL_law 1788 = .ok (.ireturn, 1) := dk_172 (dk_at dksL_law_67 7 rfl rfl)
theorem dL_law_1789 : decode cL_law 1789 = .ok (.aload_n 1, 1) := dk_43 (dk_at dksL_law_67 8 rfl rfl)
theorem dL_law_1790 : decode cL_law 1790 = .ok (.aload_n 0, 1) := dk_42 (dk_at dksL_law_67 9 rfl rfl)
theorem dL_law_1791 : decode cL_law 1791 = .ok (.iload 5, 2) := dk_21 5 (dk_at dksL_law_67 10 rfl rfl)
theorem dL_law_1793 : decode cL_law 1793 = .ok (.iconst 1, 1) := dk_4 (dk_at dksL_law_67 12 rfl rfl)
theorem dL_law_1794 : decode cL_law 1794 = .ok (.iadd, 1) := dk_96 (dk_at dksL_law_67 13 rfl rfl)
theorem dL_law_1795 : decode cL_law 1795 = .ok (.iaload, 1) := dk_46 (dk_at dksL_law_67 14 rfl rfl)
theorem dL_law_1796 : decode cL_law 1796 = .ok (.aload_n 3, 1) := dk_45 (dk_at dksL_law_67 15 rfl rfl)
theorem dL_law_1797 : decode cL_law 1797 = .ok (.invokestatic 254, 3) := dk_184 0 254 (dk_at dksL_law_67 16 rfl rfl)
theorem dL_law_1800 : decode cL_law 1800 = .ok (.istore 6, 2) := dk_54 6 (dk_at dksL_law_67 19 rfl rfl)
theorem dL_law_1802 : decode cL_law 1802 = .ok (.aload_n 2, 1) := dk_44 (dk_at dksL_law_67 21 rfl rfl)
theorem dL_law_1803 : decode cL_law 1803 = .ok (.aload_n 0, 1) := dk_42 (dk_at dksL_law_67 22 rfl rfl)
theorem dL_law_1804 : decode cL_law 1804 = .ok (.iload 5, 2) := dk_21 5 (dk_at dksL_law_68 0 rfl rfl)
theorem dL_law_1806 : decode cL_law 1806 = .ok (.iconst 1, 1) := dk_4 (dk_at dksL_law_68 2 rfl rfl)
theorem dL_law_1807 : decode cL_law 1807 = .ok (.iadd, 1) := dk_96 (dk_at dksL_law_68 3 rfl rfl)
theorem dL_law_1808 : decode cL_law 1808 = .ok (.iaload, 1) := dk_46 (dk_at dksL_law_68 4 rfl rfl)
theorem dL_law_1809 : decode cL_law 1809 = .ok (.invokevirtual 256, 3) := dk_182 1 0 (dk_at dksL_law_68 5 rfl rfl)
theorem dL_law_1812 : decode cL_law 1812 = .ok (.istore 7, 2) := dk_54 7 (dk_at dksL_law_68 8 rfl rfl)
theorem dL_law_1814 : decode cL_law 1814 = .ok (.aload_n 2, 1) := dk_44 (dk_at dksL_law_68 10 rfl rfl)
theorem dL_law_1815 : decode cL_law 1815 = .ok (.invokevirtual 165, 3) := dk_182 0 165 (dk_at dksL_law_68 11 rfl rfl)
theorem dL_law_1818 : decode cL_law 1818 = .ok (.iload 6, 2) := dk_21 6 (dk_at dksL_law_68 14 rfl rfl)
theorem dL_law_1820 : decode cL_law 1820 = .ok (.if_icmp .eq 5, 3) := dk_159 0 5 (dk_at dksL_law_68 16 rfl rfl)
theorem dL_law_1823 : decode cL_law 1823 = .ok (.iconst 0, 1) := dk_3 (dk_at dksL_law_68 19 rfl rfl)
theorem dL_law_1824 : decode cL_law 1824 = .ok (.ireturn, 1) := dk_172 (dk_at dksL_law_68 20 rfl rfl)
theorem dL_law_1825 : decode cL_law 1825 = .ok (.iload 6, 2) := dk_21 6 (dk_at dksL_law_68 21 rfl rfl)
theorem dL_law_1827 : decode cL_law 1827 = .ok (.ifCond .ne 15, 3) := dk_154 0 15 (dk_at dksL_law_69 0 rfl rfl)
theorem dL_law_1830 : decode cL_law 1830 = .ok (.aload_n 3, 1) := dk_45 (dk_at dksL_law_69 3 rfl rfl)
theorem dL_law_1831 : decode cL_law 1831 = .ok (.iconst 0, 1) := dk_3 (dk_at dksL_law_69 4 rfl rfl)
theorem dL_law_1832 : decode cL_law 1832 = .ok (.laload, 1) := dk_47 (dk_at dksL_law_69 5 rfl rfl)
theorem dL_law_1833 : decode cL_law 1833 = .ok (.iload 7, 2) := dk_21 7 (dk_at dksL_law_69 6 rfl rfl)
theorem dL_law_1835 : decode cL_law 1835 = .ok (.i2l, 1) := dk_133 (dk_at dksL_law_69 8 rfl rfl)
theorem dL_law_1836 : decode cL_law 1836 = .ok (.lcmp, 1) := dk_148 (dk_at dksL_law_69 9 rfl rfl)
theorem dL_law_1837 : decode cL_law 1837 = .ok (.ifCond .eq 5, 3) := dk_153 0 5 (dk_at dksL_law_69 10 rfl rfl)
theorem dL_law_1840 : decode cL_law 1840 = .ok (.iconst 0, 1) := dk_3 (dk_at dksL_law_69 13 rfl rfl)
theorem dL_law_1841 : decode cL_law 1841 = .ok (.ireturn, 1) := dk_172 (dk_at dksL_law_69 14 rfl rfl)
theorem dL_law_1842 : decode cL_law 1842 = .ok (.goto 1047, 3) := dk_167 4 23 (dk_at dksL_law_69 15 rfl rfl)
theorem dL_law_1845 : decode cL_law 1845 = .ok (.aload_n 1, 1) := dk_43 (dk_at dksL_law_69 18 rfl rfl)
theorem dL_law_1846 : decode cL_law 1846 = .ok (.aload_n 0, 1) := dk_42 (dk_at dksL_law_69 19 rfl rfl)
theorem dL_law_1847 : decode cL_law 1847 = .ok (.iload 5, 2) := dk_21 5 (dk_at dksL_law_69 20 rfl rfl)
theorem dL_law_1849 : decode cL_law 1849 = .ok (.iconst 1, 1) := dk_4 (dk_at dksL_law_69 22 rfl rfl)
theorem dL_law_1850 : decode cL_law 1850 = .ok (.iadd, 1) := dk_96 (dk_at dksL_law_69 23 rfl rfl)
theorem dL_law_1851 : decode cL_law 1851 = .ok (.iaload, 1) := dk_46 (dk_at dksL_law_70 0 rfl rfl)
theorem dL_law_1852 : decode cL_law 1852 = .ok (.aload_n 3, 1) := dk_45 (dk_at dksL_law_70 1 rfl rfl)
theorem dL_law_1853 : decode cL_law 1853 = .ok (.invokestatic 257, 3) := dk_184 1 1 (dk_at dksL_law_70 2 rfl rfl)
theorem dL_law_1856 : decode cL_law 1856 = .ok (.istore 6, 2) := dk_54 6 (dk_at dksL_law_70 5 rfl rfl)
theorem dL_law_1858 : decode cL_law 1858 = .ok (.aload_n 2, 1) := dk_44 (dk_at dksL_law_70 7 rfl rfl)
theorem dL_law_1859 : decode cL_law 1859 = .ok (.aload_n 0, 1) := dk_42 (dk_at dksL_law_70 8 rfl rfl)
theorem dL_law_1860 : decode cL_law 1860 = .ok (.iload 5, 2) := dk_21 5 (dk_at dksL_law_70 9 rfl rfl)
theorem dL_law_1862 : decode cL_law 1862 = .ok (.iconst 1, 1) := dk_4 (dk_at dksL_law_70 11 rfl rfl)
theorem dL_law_1863 : decode cL_law 1863 = .ok (.iadd, 1) := dk_96 (dk_at dksL_law_70 12 rfl rfl)
theorem dL_law_1864 : decode cL_law 1864 = .ok (.iaload, 1) := dk_46 (dk_at dksL_law_70 13 rfl rfl)
theorem dL_law_1865 : decode cL_law 1865 = .ok (.invokevirtual 259, 3) := dk_182 1 3 (dk_at dksL_law_70 14 rfl rfl)
theorem dL_law_1868 : decode cL_law 1868 = .ok (.istore 7, 2) := dk_54 7 (dk_at dksL_law_70 17 rfl rfl)
theorem dL_law_1870 : decode cL_law 1870 = .ok (.aload_n 2, 1) := dk_44 (dk_at dksL_law_70 19 rfl rfl)
theorem dL_law_1871 : decode cL_law 1871 = .ok (.invokevirtual 165, 3) := dk_182 0 165 (dk_at dksL_law_70 20 rfl rfl)
theorem dL_law_1874 : decode cL_law 1874 = .ok (.iload 6, 2) := dk_21 6 (dk_at dksL_law_71 0 rfl rfl)
theorem dL_law_1876 : decode cL_law 1876 = .ok (.if_icmp .eq 5, 3) := dk_159 0 5 (dk_at dksL_law_71 2 rfl rfl)
theorem dL_law_1879 : decode cL_law 1879 = .ok (.iconst 0, 1) := dk_3 (dk_at dksL_law_71 5 rfl rfl)
theorem dL_law_1880 : decode cL_law 1880 = .ok (.ireturn, 1) := dk_172 (dk_at dksL_law_71 6 rfl rfl)
theorem dL_law_1881 : decode cL_law 1881 = .ok (.iload 6, 2) := dk_21 6 (dk_at dksL_law_71 7 rfl rfl)
theorem dL_law_1883 : decode cL_law 1883 = .ok (.ifCond .ne 15, 3) := dk_154 0 15 (dk_at dksL_law_71 9 rfl rfl)
theorem dL_law_1886 : decode cL_law 1886 = .ok (.aload_n 3, 1) := dk_45 (dk_at dksL_law_71 12 rfl rfl)
theorem dL_law_1887 : decode cL_law 1887 = .ok (.iconst 0, 1) := dk_3 (dk_at dksL_law_71 13 rfl rfl)
theorem dL_law_1888 : decode cL_law 1888 = .ok (.laload, 1) := dk_47 (dk_at dksL_law_71 14 rfl rfl)
theorem dL_law_1889 : decode cL_law 1889 = .ok (.iload 7, 2) := dk_21 7 (dk_at dksL_law_71 15 rfl rfl)
theorem dL_law_1891 : decode cL_law 1891 = .ok (.i2l, 1) := dk_133 (dk_at dksL_law_71 17 rfl rfl)
theorem dL_law_1892 : decode cL_law 1892 = .ok (.lcmp, 1) := dk_148 (dk_at dksL_law_71 18 rfl rfl)
theorem dL_law_1893 : decode cL_law 1893 = .ok (.ifCond .eq 5, 3) := dk_153 0 5 (dk_at dksL_law_71 19 rfl rfl)
theorem dL_law_1896 : decode cL_law 1896 = .ok (.iconst 0, 1) := dk_3 (dk_at dksL_law_71 22 rfl rfl)
theorem dL_law_1897 : decode cL_law 1897 = .ok (.ireturn, 1) := dk_172 (dk_at dksL_law_71 23 rfl rfl)
theorem dL_law_1898 : decode cL_law 1898 = .ok (.goto 991, 3) := dk_167 3 223 (dk_at dksL_law_72 0 rfl rfl)
theorem dL_law_1901 : decode cL_law 1901 = .ok (.aload_n 1, 1) := dk_43 (dk_at dksL_law_72 3 rfl rfl)
theorem dL_law_1902 : decode cL_law 1902 = .ok (.aload_n 0, 1) := dk_42 (dk_at dksL_law_72 4 rfl rfl)
theorem dL_law_1903 : decode cL_law 1903 = .ok (.iload 5, 2) := dk_21 5 (dk_at dksL_law_72 5 rfl rfl)
theorem dL_law_1905 : decode cL_law 1905 = .ok (.iconst 1, 1) := dk_4 (dk_at dksL_law_72 7 rfl rfl)
theorem dL_law_1906 : decode cL_law 1906 = .ok (.iadd, 1) := dk_96 (dk_at dksL_law_72 8 rfl rfl)
theorem dL_law_1907 : decode cL_law 1907 = .ok (.iaload, 1) := dk_46 (dk_at dksL_law_72 9 rfl rfl)
theorem dL_law_1908 : decode cL_law 1908 = .ok (.aload_n 3, 1) := dk_45 (dk_at dksL_law_72 10 rfl rfl)
theorem dL_law_1909 : decode cL_law 1909 = .ok (.invokestatic 260, 3) := dk_184 1 4 (dk_at dksL_law_72 11 rfl rfl)
theorem dL_law_1912 : decode cL_law 1912 = .ok (.istore 6, 2) := dk_54 6 (dk_at dksL_law_72 14 rfl rfl)
theorem dL_law_1914 : decode cL_law 1914 = .ok (.aload_n 2, 1) := dk_44 (dk_at dksL_law_72 16 rfl rfl)
theorem dL_law_1915 : decode cL_law 1915 = .ok (.aload_n 0, 1) := dk_42 (dk_at dksL_law_72 17 rfl rfl)
theorem dL_law_1916 : decode cL_law 1916 = .ok (.iload 5, 2) := dk_21 5 (dk_at dksL_law_72 18 rfl rfl)
theorem dL_law_1918 : decode cL_law 1918 = .ok (.iconst 1, 1) := dk_4 (dk_at dksL_law_72 20 rfl rfl)
theorem dL_law_1919 : decode cL_law 1919 = .ok (.iadd, 1) := dk_96 (dk_at dksL_law_72 21 rfl rfl)
theorem dL_law_1920 : decode cL_law 1920 = .ok (.iaload, 1) := dk_46 (dk_at dksL_law_72 22 rfl rfl)
theorem dL_law_1921 : decode cL_law 1921 = .ok (.invokevirtual 262, 3) := dk_182 1 6 (dk_at dksL_law_73 0 rfl rfl)
theorem dL_law_1924 : decode cL_law 1924 = .ok (.istore 7, 2) := dk_54 7 (dk_at dksL_law_73 3 rfl rfl)
theorem dL_law_1926 : decode cL_law 1926 = .ok (.aload_n 2, 1) := dk_44 (dk_at dksL_law_73 5 rfl rfl)
theorem dL_law_1927 : decode cL_law 1927 = .ok (.invokevirtual 165, 3) := dk_182 0 165 (dk_at dksL_law_73 6 rfl rfl)
theorem dL_law_1930 : decode cL_law 1930 = .ok (.iload 6, 2) := dk_21 6 (dk_at dksL_law_73 9 rfl rfl)
theorem dL_law_1932 : decode cL_law 1932 = .ok (.if_icmp .eq 5, 3) := dk_159 0 5 (dk_at dksL_law_73 11 rfl rfl)
theorem dL_law_1935 : decode cL_law 1935 = .ok (.iconst 0, 1) := dk_3 (dk_at dksL_law_73 14 rfl rfl)
theorem dL_law_1936 : decode cL_law 1936 = .ok (.ireturn, 1) := dk_172 (dk_at dksL_law_73 15 rfl rfl)
theorem dL_law_1937 : decode cL_law 1937 = .ok (.iload 6, 2) := dk_21 6 (dk_at dksL_law_73 16 rfl rfl)
theorem dL_law_1939 : decode cL_law 1939 = .ok (.ifCond .ne 15, 3) := dk_154 0 15 (dk_at dksL_law_73 18 rfl rfl)
theorem dL_law_1942 : decode cL_law 1942 = .ok (.aload_n 3, 1) := dk_45 (dk_at dksL_law_73 21 rfl rfl)
theorem dL_law_1943 : decode cL_law 1943 = .ok (.iconst 0, 1) := dk_3 (dk_at dksL_law_73 22 rfl rfl)
theorem dL_law_1944 : decode cL_law 1944 = .ok (.laload, 1) := dk_47 (dk_at dksL_law_73 23 rfl rfl)
theorem dL_law_1945 : decode cL_law 1945 = .ok (.iload 7, 2) := dk_21 7 (dk_at dksL_law_74 0 rfl rfl)
theorem dL_law_1947 : decode cL_law 1947 = .ok (.i2l, 1) := dk_133 (dk_at dksL_law_74 2 rfl rfl)
theorem dL_law_1948 : decode cL_law 1948 = .ok (.lcmp, 1) := dk_148 (dk_at dksL_law_74 3 rfl rfl)
theorem dL_law_1949 : decode cL_law 1949 = .ok (.ifCond .eq 5, 3) := dk_153 0 5 (dk_at dksL_law_74 4 rfl rfl)
theorem dL_law_1952 : decode cL_law 1952 = .ok (.iconst 0, 1) := dk_3 (dk_at dksL_law_74 7 rfl rfl)
theorem dL_law_1953 : decode cL_law 1953 = .ok (.ireturn, 1) := dk_172 (dk_at dksL_law_74 8 rfl rfl)
theorem dL_law_1954 : decode cL_law 1954 = .ok (.goto 935, 3) := dk_167 3 167 (dk_at dksL_law_74 9 rfl rfl)
theorem dL_law_1957 : decode cL_law 1957 = .ok (.aload_n 1, 1) := dk_43 (dk_at dksL_law_74 12 rfl rfl)
theorem dL_law_1958 : decode cL_law 1958 = .ok (.aload_n 0, 1) := dk_42 (dk_at dksL_law_74 13 rfl rfl)
theorem dL_law_1959 : decode cL_law 1959 = .ok (.iload 5, 2) := dk_21 5 (dk_at dksL_law_74 14 rfl rfl)
theorem dL_law_1961 : decode cL_law 1961 = .ok (.iconst 1, 1) := dk_4 (dk_at dksL_law_74 16 rfl rfl)
theorem dL_law_1962 : decode cL_law 1962 = .ok (.iadd, 1) := dk_96 (dk_at dksL_law_74 17 rfl rfl)
theorem dL_law_1963 : decode cL_law 1963 = .ok (.iaload, 1) := dk_46 (dk_at dksL_law_74 18 rfl rfl)
theorem dL_law_1964 : decode cL_law 1964 = .ok (.aload_n 3, 1) := dk_45 (dk_at dksL_law_74 19 rfl rfl)
theorem dL_law_1965 : decode cL_law 1965 = .ok (.invokestatic 263, 3) := dk_184 1 7 (dk_at dksL_law_74 20 rfl rfl)
theorem dL_law_1968 : decode cL_law 1968 = .ok (.istore 6, 2) := dk_54 6 (dk_at dksL_law_75 0 rfl rfl)
theorem dL_law_1970 : decode cL_law 1970 = .ok (.aload_n 2, 1) := dk_44 (dk_at dksL_law_75 2 rfl rfl)
theorem dL_law_1971 : decode cL_law 1971 = .ok (.aload_n 0, 1) := dk_42 (dk_at dksL_law_75 3 rfl rfl)
theorem dL_law_1972 : decode cL_law 1972 = .ok (.iload 5, 2) := dk_21 5 (dk_at dksL_law_75 4 rfl rfl)
theorem dL_law_1974 : decode cL_law 1974 = .ok (.iconst 1, 1) := dk_4 (dk_at dksL_law_75 6 rfl rfl)
theorem dL_law_1975 : decode cL_law 1975 = .ok (.iadd, 1) := dk_96 (dk_at dksL_law_75 7 rfl rfl)
theorem dL_law_1976 : decode cL_law 1976 = .ok (.iaload, 1) := dk_46 (dk_at dksL_law_75 8 rfl rfl)
theorem dL_law_1977 : decode cL_law 1977 = .ok (.invokevirtual 265, 3) := dk_182 1 9 (dk_at dksL_law_75 9 rfl rfl)
theorem dL_law_1980 : decode cL_law 1980 = .ok (.istore 7, 2) := dk_54 7 (dk_at dksL_law_75 12 rfl rfl)
theorem dL_law_1982 : decode cL_law 1982 = .ok (.aload_n 2, 1) := dk_44 (dk_at dksL_law_75 14 rfl rfl)
theorem dL_law_1983 : decode cL_law 1983 = .ok (.invokevirtual 165, 3) := dk_182 0 165 (dk_at dksL_law_75 15 rfl rfl)
theorem dL_law_1986 : decode cL_law 1986 = .ok (.iload 6, 2) := dk_21 6 (dk_at dksL_law_75 18 rfl rfl)
theorem dL_law_1988 : decode cL_law 1988 = .ok (.if_icmp .eq 5, 3) := dk_159 0 5 (dk_at dksL_law_75 20 rfl rfl)
theorem dL_law_1991 : decode cL_law 1991 = .ok (.iconst 0, 1) := dk_3 (dk_at dksL_law_75 23 rfl rfl)
theorem dL_law_1992 : decode cL_law 1992 = .ok (.ireturn, 1) := dk_172 (dk_at dksL_law_76 0 rfl rfl)
theorem dL_law_1993 : decode cL_law 1993 = .ok (.iload 6, 2) := dk_21 6 (dk_at dksL_law_76 1 rfl rfl)
theorem dL_law_1995 : decode cL_law 1995 = .ok (.ifCond .ne 15, 3) := dk_154 0 15 (dk_at dksL_law_76 3 rfl rfl)
theorem dL_law_1998 : decode cL_law 1998 = .ok (.aload_n 3, 1) := dk_45 (dk_at dksL_law_76 6 rfl rfl)
theorem dL_law_1999 : decode cL_law 1999 = .ok (.iconst 0, 1) := dk_3 (dk_at dksL_law_76 7 rfl rfl)
theorem dL_law_2000 : decode cL_law 2000 = .ok (.laload, 1) := dk_47 (dk_at dksL_law_76 8 rfl rfl)
theorem dL_law_2001 : decode cL_law 2001 = .ok (.iload 7, 2) := dk_21 7 (dk_at dksL_law_76 9 rfl rfl)
theorem dL_law_2003 : decode cL_law 2003 = .ok (.i2l, 1) := dk_133 (dk_at dksL_law_76 11 rfl rfl)
theorem dL_law_2004 : decode cL_law 2004 = .ok (.lcmp, 1) := dk_148 (dk_at dksL_law_76 12 rfl rfl)
theorem dL_law_2005 : decode cL_law 2005 = .ok (.ifCond .eq 5, 3) := dk_153 0 5 (dk_at dksL_law_76 13 rfl rfl)
theorem dL_law_2008 : decode cL_law 2008 = .ok (.iconst 0, 1) := dk_3 (dk_at dksL_law_76 16 rfl rfl)
theorem dL_law_2009 : decode cL_law 2009 = .ok (.ireturn, 1) := dk_172 (dk_at dksL_law_76 17 rfl rfl)
theorem dL_law_2010 : decode cL_law 2010 = .ok (.goto 879, 3) := dk_167 3 111 (dk_at dksL_law_76 18 rfl rfl)
theorem dL_law_2013 : decode cL_law 2013 = .ok (.aload_n 1, 1) := dk_43 (dk_at dksL_law_76 21 rfl rfl)
theorem dL_law_2014 : decode cL_law 2014 = .ok (.aload_n 0, 1) := dk_42 (dk_at dksL_law_76 22 rfl rfl)
theorem dL_law_2015 : decode cL_law 2015 = .ok (.iload 5, 2) := dk_21 5 (dk_at dksL_law_77 0 rfl rfl)
theorem dL_law_2017 : decode cL_law 2017 = .ok (.iconst 1, 1) := dk_4 (dk_at dksL_law_77 2 rfl rfl)
theorem dL_law_2018 : decode cL_law 2018 = .ok (.iadd, 1) := dk_96 (dk_at dksL_law_77 3 rfl rfl)
theorem dL_law_2019 : decode cL_law 2019 = .ok (.iaload, 1) := dk_46 (dk_at dksL_law_77 4 rfl rfl)
theorem dL_law_2020 : decode cL_law 2020 = .ok (.aload_n 3, 1) := dk_45 (dk_at dksL_law_77 5 rfl rfl)
theorem dL_law_2021 : decode cL_law 2021 = .ok (.invokestatic 266, 3) := dk_184 1 10 (dk_at dksL_law_77 6 rfl rfl)
theorem dL_law_2024 : decode cL_law 2024 = .ok (.istore 6, 2) := dk_54 6 (dk_at dksL_law_77 9 rfl rfl)
theorem dL_law_2026 : decode cL_law 2026 = .ok (.aload_n 2, 1) := dk_44 (dk_at dksL_law_77 11 rfl rfl)
theorem dL_law_2027 : decode cL_law 2027 = .ok (.aload_n 0, 1) := dk_42 (dk_at dksL_law_77 12 rfl rfl)
theorem dL_law_2028 : decode cL_law 2028 = .ok (.iload 5, 2) := dk_21 5 (dk_at dksL_law_77 13 rfl rfl)
theorem dL_law_2030 : decode cL_law 2030 = .ok (.iconst 1, 1) := dk_4 (dk_at dksL_law_77 15 rfl rfl)
theorem dL_law_2031 : decode cL_law 2031 = .ok (.iadd, 1) := dk_96 (dk_at dksL_law_77 16 rfl rfl)
theorem dL_law_2032 : decode cL_law 2032 = .ok (.iaload, 1) := dk_46 (dk_at dksL_law_77 17 rfl rfl)
theorem dL_law_2033 : decode cL_law 2033 = .ok (.invokevirtual 268, 3) := dk_182 1 12 (dk_at dksL_law_77 18 rfl rfl)
theorem dL_law_2036 : decode cL_law 2036 = .ok (.istore 7, 2) := dk_54 7 (dk_at dksL_law_77 21 rfl rfl)
theorem dL_law_2038 : decode cL_law 2038 = .ok (.aload_n 2, 1) := dk_44 (dk_at dksL_law_77 23 rfl rfl)
theorem dL_law_2039 : decode cL_law 2039 = .ok (.invokevirtual 165, 3) := dk_182 0 165 (dk_at dksL_law_78 0 rfl rfl)
theorem dL_law_2042 : decode cL_law 2042 = .ok (.iload 6, 2) := dk_21 6 (dk_at dksL_law_78 3 rfl rfl)
theorem dL_law_2044 : decode cL_law 2044 = .ok (.if_icmp .eq 5, 3) := dk_159 0 5 (dk_at dksL_law_78 5 rfl rfl)
theorem dL_law_2047 : decode cL_law 2047 = .ok (.iconst 0, 1) := dk_3 (dk_at dksL_law_78 8 rfl rfl)
theorem dL_law_2048 : decode cL_law 2048 = .ok (.ireturn, 1) := dk_172 (dk_at dksL_law_78 9 rfl rfl)
theorem dL_law_2049 : decode cL_law 2049 = .ok (.iload 6, 2) := dk_21 6 (dk_at dksL_law_78 10 rfl rfl)
theorem dL_law_2051 : decode cL_law 2051 = .ok (.ifCond .ne 15, 3) := dk_154 0 15 (dk_at dksL_law_78 12 rfl rfl)
theorem dL_law_2054 : decode cL_law 2054 = .ok (.aload_n 3, 1) := dk_45 (dk_at dksL_law_78 15 rfl rfl)
theorem dL_law_2055 : decode cL_law 2055 = .ok (.iconst 0, 1) := dk_3 (dk_at dksL_law_78 16 rfl rfl)
theorem dL_law_2056 : decode cL_law 2056 = .ok (.laload, 1) := dk_47 (dk_at dksL_law_78 17 rfl rfl)
theorem dL_law_2057 : decode cL_law 2057 = .ok (.iload 7, 2) := dk_21 7 (dk_at dksL_law_78 18 rfl rfl)
theorem dL_law_2059 : decode cL_law 2059 = .ok (.i2l, 1) := dk_133 (dk_at dksL_law_78 20 rfl rfl)
theorem dL_law_2060 : decode cL_law 2060 = .ok (.lcmp, 1) := dk_148 (dk_at dksL_law_78 21 rfl rfl)
theorem dL_law_2061 : decode cL_law 2061 = .ok (.ifCond .eq 5, 3) := dk_153 0 5 (dk_at dksL_law_79 0 rfl rfl)
theorem dL_law_2064 : decode cL_law 2064 = .ok (.iconst 0, 1) := dk_3 (dk_at dksL_law_79 3 rfl rfl)
theorem dL_law_2065 : decode cL_law 2065 = .ok (.ireturn, 1) := dk_172 (dk_at dksL_law_79 4 rfl rfl)
theorem dL_law_2066 : decode cL_law 2066 = .ok (.goto 823, 3) := dk_167 3 55 (dk_at dksL_law_79 5 rfl rfl)
theorem dL_law_2069 : decode cL_law 2069 = .ok (.aload_n 1, 1) := dk_43 (dk_at dksL_law_79 8 rfl rfl)
theorem dL_law_2070 : decode cL_law 2070 = .ok (.aload_n 0, 1) := dk_42 (dk_at dksL_law_79 9 rfl rfl)
theorem dL_law_2071 : decode cL_law 2071 = .ok (.iload 5, 2) := dk_21 5 (dk_at dksL_law_79 10 rfl rfl)
theorem dL_law_2073 : decode cL_law 2073 = .ok (.iconst 1, 1) := dk_4 (dk_at dksL_law_79 12 rfl rfl)
theorem dL_law_2074 : decode cL_law 2074 = .ok (.iadd, 1) := dk_96 (dk_at dksL_law_79 13 rfl rfl)
theorem dL_law_2075 : decode cL_law 2075 = .ok (.iaload, 1) := dk_46 (dk_at dksL_law_79 14 rfl rfl)
theorem dL_law_2076 : decode cL_law 2076 = .ok (.aload_n 3, 1) := dk_45 (dk_at dksL_law_79 15 rfl rfl)
theorem dL_law_2077 : decode cL_law 2077 = .ok (.invokestatic 269, 3) := dk_184 1 13 (dk_at dksL_law_79 16 rfl rfl)
theorem dL_law_2080 : decode cL_law 2080 = .ok (.istore 6, 2) := dk_54 6 (dk_at dksL_law_79 19 rfl rfl)
theorem dL_law_2082 : decode cL_law 2082 = .ok (.aload_n 2, 1) := dk_44 (dk_at dksL_law_79 21 rfl rfl)
theorem dL_law_2083 : decode cL_law 2083 = .ok (.aload_n 0, 1) := dk_42 (dk_at dksL_law_79 22 rfl rfl)
theorem dL_law_2084 : decode cL_law 2084 = .ok (.iload 5, 2) := dk_21 5 (dk_at dksL_law_80 0 rfl rfl)
theorem dL_law_2086 : decode cL_law 2086 = .ok (.iconst 1, 1) := dk_4 (dk_at dksL_law_80 2 rfl rfl)
theorem dL_law_2087 : decode cL_law 2087 = .ok (.iadd, 1) := dk_96 (dk_at dksL_law_80 3 rfl rfl)
theorem dL_law_2088 : decode cL_law 2088 = .ok (.iaload, 1) := dk_46 (dk_at dksL_law_80 4 rfl rfl)
theorem dL_law_2089 : decode cL_law 2089 = .ok (.invokevirtual 271, 3) := dk_182 1 15 (dk_at dksL_law_80 5 rfl rfl)
theorem dL_law_2092 : decode cL_law 2092 = .ok (.istore 7, 2) := dk_54 7 (dk_at dksL_law_80 8 rfl rfl)
theorem dL_law_2094 : decode cL_law 2094 = .ok (.aload_n 2, 1) := dk_44 (dk_at dksL_law_80 10 rfl rfl)
theorem dL_law_2095 : decode cL_law 2095 = .ok (.invokevirtual 165, 3) := dk_182 0 165 (dk_at dksL_law_80 11 rfl rfl)
theorem dL_law_2098 : decode cL_law 2098 = .ok (.iload 6, 2) := dk_21 6 (dk_at dksL_law_80 14 rfl rfl)
theorem dL_law_2100 : decode cL_law 2100 = .ok (.if_icmp .eq 5, 3) := dk_159 0 5 (dk_at dksL_law_80 16 rfl rfl)
theorem dL_law_2103 : decode cL_law 2103 = .ok (.iconst 0, 1) := dk_3 (dk_at dksL_law_80 19 rfl rfl)
theorem dL_law_2104 : decode cL_law 2104 = .ok (.ireturn, 1) := dk_172 (dk_at dksL_law_80 20 rfl rfl)
theorem dL_law_2105 : decode cL_law 2105 = .ok (.iload 6, 2) := dk_21 6 (dk_at dksL_law_80 21 rfl rfl)
theorem dL_law_2107 : decode cL_law 2107 = .ok (.ifCond .ne 15, 3) := dk_154 0 15 (dk_at dksL_law_81 0 rfl rfl)
theorem dL_law_2110 : decode cL_law 2110 = .ok (.aload_n 3, 1) := dk_45 (dk_at dksL_law_81 3 rfl rfl)
theorem dL_law_2111 : decode cL_law 2111 = .ok (.iconst 0, 1) := dk_3 (dk_at dksL_law_81 4 rfl rfl)
theorem dL_law_2112 : decode cL_law 2112 = .ok (.laload, 1) := dk_47 (dk_at dksL_law_81 5 rfl rfl)
theorem dL_law_2113 : decode cL_law 2113 = .ok (.iload 7, 2) := dk_21 7 (dk_at dksL_law_81 6 rfl rfl)
theorem dL_law_2115 : decode cL_law 2115 = .ok (.i2l, 1) := dk_133 (dk_at dksL_law_81 8 rfl rfl)
theorem dL_law_2116 : decode cL_law 2116 = .ok (.lcmp, 1) := dk_148 (dk_at dksL_law_81 9 rfl rfl)
theorem dL_law_2117 : decode cL_law 2117 = .ok (.ifCond .eq 5, 3) := dk_153 0 5 (dk_at dksL_law_81 10 rfl rfl)
theorem dL_law_2120 : decode cL_law 2120 = .ok (.iconst 0, 1) := dk_3 (dk_at dksL_law_81 13 rfl rfl)
theorem dL_law_2121 : decode cL_law 2121 = .ok (.ireturn, 1) := dk_172 (dk_at dksL_law_81 14 rfl rfl)
theorem dL_law_2122 : decode cL_law 2122 = .ok (.goto 767, 3) := dk_167 2 255 (dk_at dksL_law_81 15 rfl rfl)
theorem dL_law_2125 : decode cL_law 2125 = .ok (.aload_n 1, 1) := dk_43 (dk_at dksL_law_81 18 rfl rfl)
theorem dL_law_2126 : decode cL_law 2126 = .ok (.aload_n 0, 1) := dk_42 (dk_at dksL_law_81 19 rfl rfl)
theorem dL_law_2127 : decode cL_law 2127 = .ok (.iload 5, 2) := dk_21 5 (dk_at dksL_law_81 20 rfl rfl)
theorem dL_law_2129 : decode cL_law 2129 = .ok (.iconst 1, 1) := dk_4 (dk_at dksL_law_81 22 rfl rfl)
theorem dL_law_2130 : decode cL_law 2130 = .ok (.iadd, 1) := dk_96 (dk_at dksL_law_81 23 rfl rfl)
theorem dL_law_2131 : decode cL_law 2131 = .ok (.iaload, 1) := dk_46 (dk_at dksL_law_82 0 rfl rfl)
theorem dL_law_2132 : decode cL_law 2132 = .ok (.aload_n 3, 1) := dk_45 (dk_at dksL_law_82 1 rfl rfl)
theorem dL_law_2133 : decode cL_law 2133 = .ok (.invokestatic 272, 3) := dk_184 1 16 (dk_at dksL_law_82 2 rfl rfl)
theorem dL_law_2136 : decode cL_law 2136 = .ok (.istore 6, 2) := dk_54 6 (dk_at dksL_law_82 5 rfl rfl)
theorem dL_law_2138 : decode cL_law 2138 = .ok (.aload_n 2, 1) := dk_44 (dk_at dksL_law_82 7 rfl rfl)
theorem dL_law_2139 : decode cL_law 2139 = .ok (.aload_n 0, 1) := dk_42 (dk_at dksL_law_82 8 rfl rfl)
theorem dL_law_2140 : decode cL_law 2140 = .ok (.iload 5, 2) := dk_21 5 (dk_at dksL_law_82 9 rfl rfl)
theorem dL_law_2142 : decode cL_law 2142 = .ok (.iconst 1, 1) := dk_4 (dk_at dksL_law_82 11 rfl rfl)
theorem dL_law_2143 : decode cL_law 2143 = .ok (.iadd, 1) := dk_96 (dk_at dksL_law_82 12 rfl rfl)
theorem dL_law_2144 : decode cL_law 2144 = .ok (.iaload, 1) := dk_46 (dk_at dksL_law_82 13 rfl rfl)
theorem dL_law_2145 : decode cL_law 2145 = .ok (.invokevirtual 274, 3) := dk_182 1 18 (dk_at dksL_law_82 14 rfl rfl)
theorem dL_law_2148 : decode cL_law 2148 = .ok (.istore 7, 2) := dk_54 7 (dk_at dksL_law_82 17 rfl rfl)
theorem dL_law_2150 : decode cL_law 2150 = .ok (.aload_n 2, 1) := dk_44 (dk_at dksL_law_82 19 rfl rfl)
theorem dL_law_2151 : decode cL_law 2151 = .ok (.invokevirtual 165, 3) := dk_182 0 165 (dk_at dksL_law_82 20 rfl rfl)
theorem dL_law_2154 : decode cL_law 2154 = .ok (.iload 6, 2) := dk_21 6 (dk_at dksL_law_83 0 rfl rfl)
theorem dL_law_2156 : decode cL_law 2156 = .ok (.if_icmp .eq 5, 3) := dk_159 0 5 (dk_at dksL_law_83 2 rfl rfl)
theorem dL_law_2159 : decode cL_law 2159 = .ok (.iconst 0, 1) := dk_3 (dk_at dksL_law_83 5 rfl rfl)
theorem dL_law_2160 : decode cL_law 2160 = .ok (.ireturn, 1) := dk_172 (dk_at dksL_law_83 6 rfl rfl)
theorem dL_law_2161 : decode cL_law 2161 = .ok (.iload 6, 2) := dk_21 6 (dk_at dksL_law_83 7 rfl rfl)
theorem dL_law_2163 : decode cL_law 2163 = .ok (.ifCond .ne 15, 3) := dk_154 0 15 (dk_at dksL_law_83 9 rfl rfl)
theorem dL_law_2166 : decode cL_law 2166 = .ok (.aload_n 3, 1) := dk_45 (dk_at dksL_law_83 12 rfl rfl)
theorem dL_law_2167 : decode cL_law 2167 = .ok (.iconst 0, 1) := dk_3 (dk_at dksL_law_83 13 rfl rfl)
theorem dL_law_2168 : decode cL_law 2168 = .ok (.laload, 1) := dk_47 (dk_at dksL_law_83 14 rfl rfl)
theorem dL_law_2169 : decode cL_law 2169 = .ok (.iload 7, 2) := dk_21 7 (dk_at dksL_law_83 15 rfl rfl)
theorem dL_law_2171 : decode cL_law 2171 = .ok (.i2l, 1) := dk_133 (dk_at dksL_law_83 17 rfl rfl)
theorem dL_law_2172 : decode cL_law 2172 = .ok (.lcmp, 1) := dk_148 (dk_at dksL_law_83 18 rfl rfl)
theorem dL_law_2173 : decode cL_law 2173 = .ok (.ifCond .eq 5, 3) := dk_153 0 5 (dk_at dksL_law_83 19 rfl rfl)
theorem dL_law_2176 : decode cL_law 2176 = .ok (.iconst 0, 1) := dk_3 (dk_at dksL_law_83 22 rfl rfl)
theorem dL_law_2177 : decode cL_law 2177 = .ok (.ireturn, 1) := dk_172 (dk_at dksL_law_83 23 rfl rfl)
theorem dL_law_2178 : decode cL_law 2178 = .ok (.goto 711, 3) := dk_167 2 199 (dk_at dksL_law_84 0 rfl rfl)
theorem dL_law_2181 : decode cL_law 2181 = .ok (.aload_n 1, 1) := dk_43 (dk_at dksL_law_84 3 rfl rfl)
theorem dL_law_2182 : decode cL_law 2182 = .ok (.aload_n 0, 1) := dk_42 (dk_at dksL_law_84 4 rfl rfl)
theorem dL_law_2183 : decode cL_law 2183 = .ok (.iload 5, 2) := dk_21 5 (dk_at dksL_law_84 5 rfl rfl)
theorem dL_law_2185 : decode cL_law 2185 = .ok (.iconst 1, 1) := dk_4 (dk_at dksL_law_84 7 rfl rfl)
theorem dL_law_2186 : decode cL_law 2186 = .ok (.iadd, 1) := dk_96 (dk_at dksL_law_84 8 rfl rfl)
theorem dL_law_2187 : decode cL_law 2187 = .ok (.iaload, 1) := dk_46 (dk_at dksL_law_84 9 rfl rfl)
theorem dL_law_2188 : decode cL_law 2188 = .ok (.aload_n 0, 1) := dk_42 (dk_at dksL_law_84 10 rfl rfl)
theorem dL_law_2189 : decode cL_law 2189 = .ok (.iload 5, 2) := dk_21 5 (dk_at dksL_law_84 11 rfl rfl)
theorem dL_law_2191 : decode cL_law 2191 = .ok (.iconst 2, 1) := dk_5 (dk_at dksL_law_84 13 rfl rfl)
theorem dL_law_2192 : decode cL_law 2192 = .ok (.iadd, 1) := dk_96 (dk_at dksL_law_84 14 rfl rfl)
theorem dL_law_2193 : decode cL_law 2193 = .ok (.iaload, 1) := dk_46 (dk_at dksL_law_84 15 rfl rfl)
theorem dL_law_2194 : decode cL_law 2194 = .ok (.aload_n 3, 1) := dk_45 (dk_at dksL_law_84 16 rfl rfl)
theorem dL_law_2195 : decode cL_law 2195 = .ok (.invokestatic 275, 3) := dk_184 1 19 (dk_at dksL_law_84 17 rfl rfl)
theorem dL_law_2198 : decode cL_law 2198 = .ok (.istore 6, 2) := dk_54 6 (dk_at dksL_law_84 20 rfl rfl)
theorem dL_law_2200 : decode cL_law 2200 = .ok (.aload_n 2, 1) := dk_44 (dk_at dksL_law_84 22 rfl rfl)
theorem dL_law_2201 : decode cL_law 2201 = .ok (.aload_n 0, 1) := dk_42 (dk_at dksL_law_84 23 rfl rfl)
theorem dL_law_2202 : decode cL_law 2202 = .ok (.iload 5, 2) := dk_21 5 (dk_at dksL_law_85 0 rfl rfl)
theorem dL_law_2204 : decode cL_law 2204 = .ok (.iconst 1, 1) := dk_4 (dk_at dksL_law_85 2 rfl rfl)
theorem dL_law_2205 : decode cL_law 2205 = .ok (.iadd, 1) := dk_96 (dk_at dksL_law_85 3 rfl rfl)
theorem dL_law_2206 : decode cL_law 2206 = .ok (.iaload, 1) := dk_46 (dk_at dksL_law_85 4 rfl rfl)
theorem dL_law_2207 : decode cL_law 2207 = .ok (.aload_n 0, 1) := dk_42 (dk_at dksL_law_85 5 rfl rfl)
theorem dL_law_2208 : decode cL_law 2208 = .ok (.iload 5, 2) := dk_21 5 (dk_at dksL_law_85 6 rfl rfl)
theorem dL_law_2210 : decode cL_law 2210 = .ok (.iconst 2, 1) := dk_5 (dk_at dksL_law_85 8 rfl rfl)
theorem dL_law_2211 : decode cL_law 2211 = .ok (.iadd, 1) := dk_96 (dk_at dksL_law_85 9 rfl rfl)
theorem dL_law_2212 : decode cL_law 2212 = .ok (.iaload, 1) := dk_46 (dk_at dksL_law_85 10 rfl rfl)
theorem dL_law_2213 : decode cL_law 2213 = .ok (.invokevirtual 277, 3) := dk_182 1 21 (dk_at dksL_law_85 11 rfl rfl)
theorem dL_law_2216 : decode cL_law 2216 = .ok (.istore 7, 2) := dk_54 7 (dk_at dksL_law_85 14 rfl rfl)
theorem dL_law_2218 : decode cL_law 2218 = .ok (.aload_n 2, 1) := dk_44 (dk_at dksL_law_85 16 rfl rfl)
theorem dL_law_2219 : decode cL_law 2219 = .ok (.invokevirtual 165, 3) := dk_182 0 165 (dk_at dksL_law_85 17 rfl rfl)
theorem dL_law_2222 : decode cL_law 2222 = .ok (.iload 6, 2) := dk_21 6 (dk_at dksL_law_85 20 rfl rfl)
theorem dL_law_2224 : decode cL_law 2224 = .ok (.if_icmp .eq 5, 3) := dk_159 0 5 (dk_at dksL_law_86 0 rfl rfl)
theorem dL_law_2227 : decode cL_law 2227 = .ok (.iconst 0, 1) := dk_3 (dk_at dksL_law_86 3 rfl rfl)
theorem dL_law_2228 : decode cL_law 2228 = .ok (.ireturn, 1) := dk_172 (dk_at dksL_law_86 4 rfl rfl)
theorem dL_law_2229 : decode cL_law 2229 = .ok (.iload 6, 2) := dk_21 6 (dk_at dksL_law_86 5 rfl rfl)
theorem dL_law_2231 : decode cL_law 2231 = .ok (.ifCond .ne 15, 3) := dk_154 0 15 (dk_at dksL_law_86 7 rfl rfl)
theorem dL_law_2234 : decode cL_law 2234 = .ok (.aload_n 3, 1) := dk_45 (dk_at dksL_law_86 10 rfl rfl)
theorem dL_law_2235 : decode cL_law 2235 = .ok (.iconst 0, 1) := dk_3 (dk_at dksL_law_86 11 rfl rfl)
theorem dL_law_2236 : decode cL_law 2236 = .ok (.laload, 1) := dk_47 (dk_at dksL_law_86 12 rfl rfl)
theorem dL_law_2237 : decode cL_law 2237 = .ok (.iload 7, 2) := dk_21 7 (dk_at dksL_law_86 13 rfl rfl)
theorem dL_law_2239 : decode cL_law 2239 = .ok (.i2l, 1) := dk_133 (dk_at dksL_law_86 15 rfl rfl)
theorem dL_law_2240 : decode cL_law 2240 = .ok (.lcmp, 1) := dk_148 (dk_at dksL_law_86 16 rfl rfl)
theorem dL_law_2241 : decode cL_law 2241 = .ok (.ifCond .eq 5, 3) := dk_153 0 5 (dk_at dksL_law_86 17 rfl rfl)
theorem dL_law_2244 : decode cL_law 2244 = .ok (.iconst 0, 1) := dk_3 (dk_at dksL_law_86 20 rfl rfl)
theorem dL_law_2245 : decode cL_law 2245 = .ok (.ireturn, 1) := dk_172 (dk_at dksL_law_86 21 rfl rfl)
theorem dL_law_2246 : decode cL_law 2246 = .ok (.goto 643, 3) := dk_167 2 131 (dk_at dksL_law_87 0 rfl rfl)
theorem dL_law_2249 : decode cL_law 2249 = .ok (.aload_n 1, 1) := dk_43 (dk_at dksL_law_87 3 rfl rfl)
theorem dL_law_2250 : decode cL_law 2250 = .ok (.invokevirtual 278, 3) := dk_182 1 22 (dk_at dksL_law_87 4 rfl rfl)
theorem dL_law_2253 : decode cL_law 2253 = .ok (.aload_n 2, 1) := dk_44 (dk_at dksL_law_87 7 rfl rfl)
theorem dL_law_2254 : decode cL_law 2254 = .ok (.invokevirtual 281, 3) := dk_182 1 25 (dk_at dksL_law_87 8 rfl rfl)
theorem dL_law_2257 : decode cL_law 2257 = .ok (.if_icmp .eq 632, 3) := dk_159 2 120 (dk_at dksL_law_87 11 rfl rfl)
theorem dL_law_2260 : decode cL_law 2260 = .ok (.iconst 0, 1) := dk_3 (dk_at dksL_law_87 14 rfl rfl)
theorem dL_law_2261 : decode cL_law 2261 = .ok (.ireturn, 1) := dk_172 (dk_at dksL_law_87 15 rfl rfl)
theorem dL_law_2262 : decode cL_law 2262 = .ok (.aload_n 1, 1) := dk_43 (dk_at dksL_law_87 16 rfl rfl)
theorem dL_law_2263 : decode cL_law 2263 = .ok (.invokevirtual 282, 3) := dk_182 1 26 (dk_at dksL_law_87 17 rfl rfl)
theorem dL_law_2266 : decode cL_law 2266 = .ok (.aload_n 2, 1) := dk_44 (dk_at dksL_law_87 20 rfl rfl)
theorem dL_law_2267 : decode cL_law 2267 = .ok (.invokevirtual 285, 3) := dk_182 1 29 (dk_at dksL_law_87 21 rfl rfl)
theorem dL_law_2270 : decode cL_law 2270 = .ok (.if_icmp .eq 619, 3) := dk_159 2 107 (dk_at dksL_law_88 0 rfl rfl)
theorem dL_law_2273 : decode cL_law 2273 = .ok (.iconst 0, 1) := dk_3 (dk_at dksL_law_88 3 rfl rfl)
theorem dL_law_2274 : decode cL_law 2274 = .ok (.ireturn, 1) := dk_172 (dk_at dksL_law_88 4 rfl rfl)
theorem dL_law_2275 : decode cL_law 2275 = .ok (.aload_n 1, 1) := dk_43 (dk_at dksL_law_88 5 rfl rfl)
theorem dL_law_2276 : decode cL_law 2276 = .ok (.invokevirtual 286, 3) := dk_182 1 30 (dk_at dksL_law_88 6 rfl rfl)
theorem dL_law_2279 : decode cL_law 2279 = .ok (.aload_n 2, 1) := dk_44 (dk_at dksL_law_88 9 rfl rfl)
theorem dL_law_2280 : decode cL_law 2280 = .ok (.invokevirtual 289, 3) := dk_182 1 33 (dk_at dksL_law_88 10 rfl rfl)
theorem dL_law_2283 : decode cL_law 2283 = .ok (.if_icmp .eq 606, 3) := dk_159 2 94 (dk_at dksL_law_88 13 rfl rfl)
theorem dL_law_2286 : decode cL_law 2286 = .ok (.iconst 0, 1) := dk_3 (dk_at dksL_law_88 16 rfl rfl)
theorem dL_law_2287 : decode cL_law 2287 = .ok (.ireturn, 1) := dk_172 (dk_at dksL_law_88 17 rfl rfl)
theorem dL_law_2288 : decode cL_law 2288 = .ok (.aload_n 1, 1) := dk_43 (dk_at dksL_law_88 18 rfl rfl)
theorem dL_law_2289 : decode cL_law 2289 = .ok (.invokevirtual 290, 3) := dk_182 1 34 (dk_at dksL_law_88 19 rfl rfl)
theorem dL_law_2292 : decode cL_law 2292 = .ok (.aload_n 2, 1) := dk_44 (dk_at dksL_law_88 22 rfl rfl)
theorem dL_law_2293 : decode cL_law 2293 = .ok (.invokevirtual 293, 3) := dk_182 1 37 (dk_at dksL_law_89 0 rfl rfl)
theorem dL_law_2296 : decode cL_law 2296 = .ok (.if_icmp .eq 593, 3) := dk_159 2 81 (dk_at dksL_law_89 3 rfl rfl)
theorem dL_law_2299 : decode cL_law 2299 = .ok (.iconst 0, 1) := dk_3 (dk_at dksL_law_89 6 rfl rfl)
theorem dL_law_2300 : decode cL_law 2300 = .ok (.ireturn, 1) := dk_172 (dk_at dksL_law_89 7 rfl rfl)
theorem dL_law_2301 : decode cL_law 2301 = .ok (.aload_n 1, 1) := dk_43 (dk_at dksL_law_89 8 rfl rfl)
theorem dL_law_2302 : decode cL_law 2302 = .ok (.invokevirtual 294, 3) := dk_182 1 38 (dk_at dksL_law_89 9 rfl rfl)
theorem dL_law_2305 : decode cL_law 2305 = .ok (.aload_n 2, 1) := dk_44 (dk_at dksL_law_89 12 rfl rfl)
theorem dL_law_2306 : decode cL_law 2306 = .ok (.invokevirtual 297, 3) := dk_182 1 41 (dk_at dksL_law_89 13 rfl rfl)
theorem dL_law_2309 : decode cL_law 2309 = .ok (.if_icmp .eq 580, 3) := dk_159 2 68 (dk_at dksL_law_89 16 rfl rfl)
theorem dL_law_2312 : decode cL_law 2312 = .ok (.iconst 0, 1) := dk_3 (dk_at dksL_law_89 19 rfl rfl)
theorem dL_law_2313 : decode cL_law 2313 = .ok (.ireturn, 1) := dk_172 (dk_at dksL_law_89 20 rfl rfl)
theorem dL_law_2314 : decode cL_law 2314 = .ok (.aload_n 1, 1) := dk_43 (dk_at dksL_law_89 21 rfl rfl)
theorem dL_law_2315 : decode cL_law 2315 = .ok (.invokevirtual 298, 3) := dk_182 1 42 (dk_at dksL_law_90 0 rfl rfl)
theorem dL_law_2318 : decode cL_law 2318 = .ok (.aload_n 2, 1) := dk_44 (dk_at dksL_law_90 3 rfl rfl)
theorem dL_law_2319 : decode cL_law 2319 = .ok (.invokevirtual 301, 3) := dk_182 1 45 (dk_at dksL_law_90 4 rfl rfl)
theorem dL_law_2322 : decode cL_law 2322 = .ok (.if_icmp .eq 567, 3) := dk_159 2 55 (dk_at dksL_law_90 7 rfl rfl)
theorem dL_law_2325 : decode cL_law 2325 = .ok (.iconst 0, 1) := dk_3 (dk_at dksL_law_90 10 rfl rfl)
theorem dL_law_2326 : decode cL_law 2326 = .ok (.ireturn, 1) := dk_172 (dk_at dksL_law_90 11 rfl rfl)
theorem dL_law_2327 : decode cL_law 2327 = .ok (.aload_n 1, 1) := dk_43 (dk_at dksL_law_90 12 rfl rfl)
theorem dL_law_2328 : decode cL_law 2328 = .ok (.invokevirtual 302, 3) := dk_182 1 46 (dk_at dksL_law_90 13 rfl rfl)
theorem dL_law_2331 : decode cL_law 2331 = .ok (.aload_n 2, 1) := dk_44 (dk_at dksL_law_90 16 rfl rfl)
theorem dL_law_2332 : decode cL_law 2332 = .ok (.invokevirtual 305, 3) := dk_182 1 49 (dk_at dksL_law_90 17 rfl rfl)
theorem dL_law_2335 : decode cL_law 2335 = .ok (.if_icmp .eq 554, 3) := dk_159 2 42 (dk_at dksL_law_90 20 rfl rfl)
theorem dL_law_2338 : decode cL_law 2338 = .ok (.iconst 0, 1) := dk_3 (dk_at dksL_law_90 23 rfl rfl)
theorem dL_law_2339 : decode cL_law 2339 = .ok (.ireturn, 1) := dk_172 (dk_at dksL_law_91 0 rfl rfl)
theorem dL_law_2340 : decode cL_law 2340 = .ok (.aload_n 1, 1) := dk_43 (dk_at dksL_law_91 1 rfl rfl)
theorem dL_law_2341 : decode cL_law 2341 = .ok (.invokevirtual 306, 3) := dk_182 1 50 (dk_at dksL_law_91 2 rfl rfl)
theorem dL_law_2344 : decode cL_law 2344 = .ok (.aload_n 2, 1) := dk_44 (dk_at dksL_law_91 5 rfl rfl)
theorem dL_law_2345 : decode cL_law 2345 = .ok (.invokevirtual 309, 3) := dk_182 1 53 (dk_at dksL_law_91 6 rfl rfl)
theorem dL_law_2348 : decode cL_law 2348 = .ok (.if_icmp .eq 541, 3) := dk_159 2 29 (dk_at dksL_law_91 9 rfl rfl)
theorem dL_law_2351 : decode cL_law 2351 = .ok (.iconst 0, 1) := dk_3 (dk_at dksL_law_91 12 rfl rfl)
theorem dL_law_2352 : decode cL_law 2352 = .ok (.ireturn, 1) := dk_172 (dk_at dksL_law_91 13 rfl rfl)
theorem dL_law_2353 : decode cL_law 2353 = .ok (.aload_n 1, 1) := dk_43 (dk_at dksL_law_91 14 rfl rfl)
theorem dL_law_2354 : decode cL_law 2354 = .ok (.invokevirtual 310, 3) := dk_182 1 54 (dk_at dksL_law_91 15 rfl rfl)
theorem dL_law_2357 : decode cL_law 2357 = .ok (.dstore 6, 2) := dk_57 6 (dk_at dksL_law_91 18 rfl rfl)
theorem dL_law_2359 : decode cL_law 2359 = .ok (.aload_n 2, 1) := dk_44 (dk_at dksL_law_91 20 rfl rfl)
theorem dL_law_2360 : decode cL_law 2360 = .ok (.invokevirtual 314, 3) := dk_182 1 58 (dk_at dksL_law_91 21 rfl rfl)
theorem dL_law_2363 : decode cL_law 2363 = .ok (.dstore 8, 2) := dk_57 8 (dk_at dksL_law_92 0 rfl rfl)
theorem dL_law_2365 : decode cL_law 2365 = .ok (.dload 6, 2) := dk_24 6 (dk_at dksL_law_92 2 rfl rfl)
theorem dL_law_2367 : decode cL_law 2367 = .ok (.dload 8, 2) := dk_24 8 (dk_at dksL_law_92 4 rfl rfl)
theorem dL_law_2369 : decode cL_law 2369 = .ok (.dcmp .l, 1) := dk_151 (dk_at dksL_law_92 6 rfl rfl)
theorem dL_law_2370 : decode cL_law 2370 = .ok (.ifCond .eq 21, 3) := dk_153 0 21 (dk_at dksL_law_92 7 rfl rfl)
theorem dL_law_2373 : decode cL_law 2373 = .ok (.dload 6, 2) := dk_24 6 (dk_at dksL_law_92 10 rfl rfl)
theorem dL_law_2375 : decode cL_law 2375 = .ok (.dload 6, 2) := dk_24 6 (dk_at dksL_law_92 12 rfl rfl)
theorem dL_law_2377 : decode cL_law 2377 = .ok (.dcmp .l, 1) := dk_151 (dk_at dksL_law_92 14 rfl rfl)
theorem dL_law_2378 : decode cL_law 2378 = .ok (.ifCond .eq 11, 3) := dk_153 0 11 (dk_at dksL_law_92 15 rfl rfl)
theorem dL_law_2381 : decode cL_law 2381 = .ok (.dload 8, 2) := dk_24 8 (dk_at dksL_law_92 18 rfl rfl)
theorem dL_law_2383 : decode cL_law 2383 = .ok (.dload 8, 2) := dk_24 8 (dk_at dksL_law_92 20 rfl rfl)
theorem dL_law_2385 : decode cL_law 2385 = .ok (.dcmp .l, 1) := dk_151 (dk_at dksL_law_92 22 rfl rfl)
theorem dL_law_2386 : decode cL_law 2386 = .ok (.ifCond .ne 5, 3) := dk_154 0 5 (dk_at dksL_law_93 0 rfl rfl)
theorem dL_law_2389 : decode cL_law 2389 = .ok (.iconst 0, 1) := dk_3 (dk_at dksL_law_93 3 rfl rfl)
theorem dL_law_2390 : decode cL_law 2390 = .ok (.ireturn, 1) := dk_172 (dk_at dksL_law_93 4 rfl rfl)
theorem dL_law_2391 : decode cL_law 2391 = .ok (.goto 498, 3) := dk_167 1 242 (dk_at dksL_law_93 5 rfl rfl)
theorem dL_law_2394 : decode cL_law 2394 = .ok (.aload_n 1, 1) := dk_43 (dk_at dksL_law_93 8 rfl rfl)
theorem dL_law_2395 : decode cL_law 2395 = .ok (.aload 4, 2) := dk_25 4 (dk_at dksL_law_93 9 rfl rfl)
theorem dL_law_2397 : decode cL_law 2397 = .ok (.invokestatic 315, 3) := dk_184 1 59 (dk_at dksL_law_93 11 rfl rfl)
theorem dL_law_2400 : decode cL_law 2400 = .ok (.istore 6, 2) := dk_54 6 (dk_at dksL_law_93 14 rfl rfl)
theorem dL_law_2402 : decode cL_law 2402 = .ok (.aload_n 2, 1) := dk_44 (dk_at dksL_law_93 16 rfl rfl)
theorem dL_law_2403 : decode cL_law 2403 = .ok (.invokevirtual 318, 3) := dk_182 1 62 (dk_at dksL_law_93 17 rfl rfl)
theorem dL_law_2406 : decode cL_law 2406 = .ok (.fstore 7, 2) := dk_56 7 (dk_at dksL_law_93 20 rfl rfl)
theorem dL_law_2408 : decode cL_law 2408 = .ok (.aload_n 2, 1) := dk_44 (dk_at dksL_law_93 22 rfl rfl)
theorem dL_law_2409 : decode cL_law 2409 = .ok (.invokevirtual 165, 3) := dk_182 0 165 (dk_at dksL_law_94 0 rfl rfl)
theorem dL_law_2412 : decode cL_law 2412 = .ok (.iload 6, 2) := dk_21 6 (dk_at dksL_law_94 3 rfl rfl)
theorem dL_law_2414 : decode cL_law 2414 = .ok (.if_icmp .eq 5, 3) := dk_159 0 5 (dk_at dksL_law_94 5 rfl rfl)
theorem dL_law_2417 : decode cL_law 2417 = .ok (.iconst 0, 1) := dk_3 (dk_at dksL_law_94 8 rfl rfl)
theorem dL_law_2418 : decode cL_law 2418 = .ok (.ireturn, 1) := dk_172 (dk_at dksL_law_94 9 rfl rfl)
theorem dL_law_2419 : decode cL_law 2419 = .ok (.iload 6, 2) := dk_21 6 (dk_at dksL_law_94 10 rfl rfl)
theorem dL_law_2421 : decode cL_law 2421 = .ok (.ifCond .ne 36, 3) := dk_154 0 36 (dk_at dksL_law_94 12 rfl rfl)
theorem dL_law_2424 : decode cL_law 2424 = .ok (.aload 4, 2) := dk_25 4 (dk_at dksL_law_94 15 rfl rfl)
theorem dL_law_2426 : decode cL_law 2426 = .ok (.iconst 0, 1) := dk_3 (dk_at dksL_law_94 17 rfl rfl)
theorem dL_law_2427 : decode cL_law 2427 = .ok (.daload, 1) := dk_49 (dk_at dksL_law_94 18 rfl rfl)
theorem dL_law_2428 : decode cL_law 2428 = .ok (.fload 7, 2) := dk_23 7 (dk_at dksL_law_94 19 rfl rfl)
theorem dL_law_2430 : decode cL_law 2430 = .ok (.f2d, 1) := dk_141 (dk_at dksL_law_94 21 rfl rfl)
theorem dL_law_2431 : decode cL_law 2431 = .ok (.dcmp .l, 1) := dk_151 (dk_at dksL_law_94 22 rfl rfl)
theorem dL_law_2432 : decode cL_law 2432 = .ok (.ifCond .eq 25, 3) := dk_153 0 25 (dk_at dksL_law_95 0 rfl rfl)
theorem dL_law_2435 : decode cL_law 2435 = .ok (.aload 4, 2) := dk_25 4 (dk_at dksL_law_95 3 rfl rfl)
theorem dL_law_2437 : decode cL_law 2437 = .ok (.iconst 0, 1) := dk_3 (dk_at dksL_law_95 5 rfl rfl)
theorem dL_law_2438 : decode cL_law 2438 = .ok (.daload, 1) := dk_49 (dk_at dksL_law_95 6 rfl rfl)
theorem dL_law_2439 : decode cL_law 2439 = .ok (.aload 4, 2) := dk_25 4 (dk_at dksL_law_95 7 rfl rfl)
theorem dL_law_2441 : decode cL_law 2441 = .ok (.iconst 0, 1) := dk_3 (dk_at dksL_law_95 9 rfl rfl)
theorem dL_law_2442 : decode cL_law 2442 = .ok (.daload, 1) := dk_49 (dk_at dksL_law_95 10 rfl rfl)
theorem dL_law_2443 : decode cL_law 2443 = .ok (.dcmp .l, 1) := dk_151 (dk_at dksL_law_95 11 rfl rfl)
theorem dL_law_2444 : decode cL_law 2444 = .ok (.ifCond .eq 11, 3) := dk_153 0 11 (dk_at dksL_law_95 12 rfl rfl)
theorem dL_law_2447 : decode cL_law 2447 = .ok (.fload 7, 2) := dk_23 7 (dk_at dksL_law_95 15 rfl rfl)
theorem dL_law_2449 : decode cL_law 2449 = .ok (.fload 7, 2) := dk_23 7 (dk_at dksL_law_95 17 rfl rfl)
theorem dL_law_2451 : decode cL_law 2451 = .ok (.fcmp .l, 1) := dk_149 (dk_at dksL_law_95 19 rfl rfl)
theorem dL_law_2452 : decode cL_law 2452 = .ok (.ifCond .ne 5, 3) := dk_154 0 5 (dk_at dksL_law_95 20 rfl rfl)
theorem dL_law_2455 : decode cL_law 2455 = .ok (.iconst 0, 1) := dk_3 (dk_at dksL_law_95 23 rfl rfl)
theorem dL_law_2456 : decode cL_law 2456 = .ok (.ireturn, 1) := dk_172 (dk_at dksL_law_96 0 rfl rfl)
theorem dL_law_2457 : decode cL_law 2457 = .ok (.goto 432, 3) := dk_167 1 176 (dk_at dksL_law_96 1 rfl rfl)
theorem dL_law_2460 : decode cL_law 2460 = .ok (.aload_n 1, 1) := dk_43 (dk_at dksL_law_96 4 rfl rfl)
theorem dL_law_2461 : decode cL_law 2461 = .ok (.invokevirtual 319, 3) := dk_182 1 63 (dk_at dksL_law_96 5 rfl rfl)
theorem dL_law_2464 : decode cL_law 2464 = .ok (.aload_n 2, 1) := dk_44 (dk_at dksL_law_96 8 rfl rfl)
theorem dL_law_2465 : decode cL_law 2465 = .ok (.invokevirtual 323, 3) := dk_182 1 67 (dk_at dksL_law_96 9 rfl rfl)
theorem dL_law_2468 : decode cL_law 2468 = .ok (.if_icmp .eq 421, 3) := dk_159 1 165 (dk_at dksL_law_96 12 rfl rfl)
theorem dL_law_2471 : decode cL_law 2471 = .ok (.iconst 0, 1) := dk_3 (dk_at dksL_law_96 15 rfl rfl)
theorem dL_law_2472 : decode cL_law 2472 = .ok (.ireturn, 1) := dk_172 (dk_at dksL_law_96 16 rfl rfl)
theorem dL_law_2473 : decode cL_law 2473 = .ok (.aload_n 1, 1) := dk_43 (dk_at dksL_law_96 17 rfl rfl)
theorem dL_law_2474 : decode cL_law 2474 = .ok (.aload_n 0, 1) := dk_42 (dk_at dksL_law_96 18 rfl rfl)
theorem dL_law_2475 : decode cL_law 2475 = .ok (.iload 5, 2) := dk_21 5 (dk_at dksL_law_96 19 rfl rfl)
theorem dL_law_2477 : decode cL_law 2477 = .ok (.iconst 1, 1) := dk_4 (dk_at dksL_law_96 21 rfl rfl)
theorem dL_law_2478 : decode cL_law 2478 = .ok (.iadd, 1) := dk_96 (dk_at dksL_law_96 22 rfl rfl)
theorem dL_law_2479 : decode cL_law 2479 = .ok (.iaload, 1) := dk_46 (dk_at dksL_law_96 23 rfl rfl)
theorem dL_law_2480 : decode cL_law 2480 = .ok (.aload_n 3, 1) := dk_45 (dk_at dksL_law_97 0 rfl rfl)
theorem dL_law_2481 : decode cL_law 2481 = .ok (.invokestatic 324, 3) := dk_184 1 68 (dk_at dksL_law_97 1 rfl rfl)
theorem dL_law_2484 : decode cL_law 2484 = .ok (.istore 6, 2) := dk_54 6 (dk_at dksL_law_97 4 rfl rfl)
theorem dL_law_2486 : decode cL_law 2486 = .ok (.aload_n 2, 1) := dk_44 (dk_at dksL_law_97 6 rfl rfl)
theorem dL_law_2487 : decode cL_law 2487 = .ok (.aload_n 0, 1) := dk_42 (dk_at dksL_law_97 7 rfl rfl)
theorem dL_law_2488 : decode cL_law 2488 = .ok (.iload 5, 2) := dk_21 5 (dk_at dksL_law_97 8 rfl rfl)
theorem dL_law_2490 : decode cL_law 2490 = .ok (.iconst 1, 1) := dk_4 (dk_at dksL_law_97 10 rfl rfl)
theorem dL_law_2491 : decode cL_law 2491 = .ok (.iadd, 1) := dk_96 (dk_at dksL_law_97 11 rfl rfl)
theorem dL_law_2492 : decode cL_law 2492 = .ok (.iaload, 1) := dk_46 (dk_at dksL_law_97 12 rfl rfl)
theorem dL_law_2493 : decode cL_law 2493 = .ok (.invokevirtual 326, 3) := dk_182 1 70 (dk_at dksL_law_97 13 rfl rfl)
theorem dL_law_2496 : decode cL_law 2496 = .ok (.istore 7, 2) := dk_54 7 (dk_at dksL_law_97 16 rfl rfl)
theorem dL_law_2498 : decode cL_law 2498 = .ok (.aload_n 2, 1) := dk_44 (dk_at dksL_law_97 18 rfl rfl)
theorem dL_law_2499 : decode cL_law 2499 = .ok (.invokevirtual 165, 3) := dk_182 0 165 (dk_at dksL_law_97 19 rfl rfl)
theorem dL_law_2502 : decode cL_law 2502 = .ok (.iload 6, 2) := dk_21 6 (dk_at dksL_law_97 22 rfl rfl)
theorem dL_law_2504 : decode cL_law 2504 = .ok (.if_icmp .eq 5, 3) := dk_159 0 5 (dk_at dksL_law_98 0 rfl rfl)
theorem dL_law_2507 : decode cL_law 2507 = .ok (.iconst 0, 1) := dk_3 (dk_at dksL_law_98 3 rfl rfl)
theorem dL_law_2508 : decode cL_law 2508 = .ok (.ireturn, 1) := dk_172 (dk_at dksL_law_98 4 rfl rfl)
theorem dL_law_2509 : decode cL_law 2509 = .ok (.iload 6, 2) := dk_21 6 (dk_at dksL_law_98 5 rfl rfl)
theorem dL_law_2511 : decode cL_law 2511 = .ok (.ifCond .ne 15, 3) := dk_154 0 15 (dk_at dksL_law_98 7 rfl rfl)
theorem dL_law_2514 : decode cL_law 2514 = .ok (.aload_n 3, 1) := dk_45 (dk_at dksL_law_98 10 rfl rfl)
theorem dL_law_2515 : decode cL_law 2515 = .ok (.iconst 0, 1) := dk_3 (dk_at dksL_law_98 11 rfl rfl)
theorem dL_law_2516 : decode cL_law 2516 = .ok (.laload, 1) := dk_47 (dk_at dksL_law_98 12 rfl rfl)
theorem dL_law_2517 : decode cL_law 2517 = .ok (.iload 7, 2) := dk_21 7 (dk_at dksL_law_98 13 rfl rfl)
theorem dL_law_2519 : decode cL_law 2519 = .ok (.i2l, 1) := dk_133 (dk_at dksL_law_98 15 rfl rfl)
theorem dL_law_2520 : decode cL_law 2520 = .ok (.lcmp, 1) := dk_148 (dk_at dksL_law_98 16 rfl rfl)
theorem dL_law_2521 : decode cL_law 2521 = .ok (.ifCond .eq 5, 3) := dk_153 0 5 (dk_at dksL_law_98 17 rfl rfl)
theorem dL_law_2524 : decode cL_law 2524 = .ok (.iconst 0, 1) := dk_3 (dk_at dksL_law_98 20 rfl rfl)
theorem dL_law_2525 : decode cL_law 2525 = .ok (.ireturn, 1) := dk_172 (dk_at dksL_law_98 21 rfl rfl)
theorem dL_law_2526 : decode cL_law 2526 = .ok (.goto 363, 3) := dk_167 1 107 (dk_at dksL_law_99 0 rfl rfl)
theorem dL_law_2529 : decode cL_law 2529 = .ok (.aload_n 1, 1) := dk_43 (dk_at dksL_law_99 3 rfl rfl)
theorem dL_law_2530 : decode cL_law 2530 = .ok (.invokevirtual 327, 3) := dk_182 1 71 (dk_at dksL_law_99 4 rfl rfl)
theorem dL_law_2533 : decode cL_law 2533 = .ok (.aload_n 2, 1) := dk_44 (dk_at dksL_law_99 7 rfl rfl)
theorem dL_law_2534 : decode cL_law 2534 = .ok (.invokevirtual 330, 3) := dk_182 1 74 (dk_at dksL_law_99 8 rfl rfl)
theorem dL_law_2537 : decode cL_law 2537 = .ok (.if_icmp .eq 352, 3) := dk_159 1 96 (dk_at dksL_law_99 11 rfl rfl)
theorem dL_law_2540 : decode cL_law 2540 = .ok (.iconst 0, 1) := dk_3 (dk_at dksL_law_99 14 rfl rfl)
theorem dL_law_2541 : decode cL_law 2541 = .ok (.ireturn, 1) := dk_172 (dk_at dksL_law_99 15 rfl rfl)
theorem dL_law_2542 : decode cL_law 2542 = .ok (.aload_n 1, 1) := dk_43 (dk_at dksL_law_99 16 rfl rfl)
theorem dL_law_2543 : decode cL_law 2543 = .ok (.aload_n 0, 1) := dk_42 (dk_at dksL_law_99 17 rfl rfl)
theorem dL_law_2544 : decode cL_law 2544 = .ok (.iload 5, 2) := dk_21 5 (dk_at dksL_law_99 18 rfl rfl)
theorem dL_law_2546 : decode cL_law 2546 = .ok (.iconst 1, 1) := dk_4 (dk_at dksL_law_99 20 rfl rfl)
theorem dL_law_2547 : decode cL_law 2547 = .ok (.iadd, 1) := dk_96 (dk_at dksL_law_99 21 rfl rfl)
theorem dL_law_2548 : decode cL_law 2548 = .ok (.iaload, 1) := dk_46 (dk_at dksL_law_99 22 rfl rfl)
theorem dL_law_2549 : decode cL_law 2549 = .ok (.aload_n 3, 1) := dk_45 (dk_at dksL_law_99 23 rfl rfl)
theorem dL_law_2550 : decode cL_law 2550 = .ok (.invokestatic 331, 3) := dk_184 1 75 (dk_at dksL_law_100 0 rfl rfl)
theorem dL_law_2553 : decode cL_law 2553 = .ok (.istore 6, 2) := dk_54 6 (dk_at dksL_law_100 3 rfl rfl)
theorem dL_law_2555 : decode cL_law 2555 = .ok (.aload_n 2, 1) := dk_44 (dk_at dksL_law_100 5 rfl rfl)
theorem dL_law_2556 : decode cL_law 2556 = .ok (.aload_n 0, 1) := dk_42 (dk_at dksL_law_100 6 rfl rfl)
theorem dL_law_2557 : decode cL_law 2557 = .ok (.iload 5, 2) := dk_21 5 (dk_at dksL_law_100 7 rfl rfl)
theorem dL_law_2559 : decode cL_law 2559 = .ok (.iconst 1, 1) := dk_4 (dk_at dksL_law_100 9 rfl rfl)
theorem dL_law_2560 : decode cL_law 2560 = .ok (.iadd, 1) := dk_96 (dk_at dksL_law_100 10 rfl rfl)
theorem dL_law_2561 : decode cL_law 2561 = .ok (.iaload, 1) := dk_46 (dk_at dksL_law_100 11 rfl rfl)
theorem dL_law_2562 : decode cL_law 2562 = .ok (.invokevirtual 333, 3) := dk_182 1 77 (dk_at dksL_law_100 12 rfl rfl)
theorem dL_law_2565 : decode cL_law 2565 = .ok (.istore 7, 2) := dk_54 7 (dk_at dksL_law_100 15 rfl rfl)
theorem dL_law_2567 : decode cL_law 2567 = .ok (.aload_n 2, 1) := dk_44 (dk_at dksL_law_100 17 rfl rfl)
theorem dL_law_2568 : decode cL_law 2568 = .ok (.invokevirtual 165, 3) := dk_182 0 165 (dk_at dksL_law_100 18 rfl rfl)
theorem dL_law_2571 : decode cL_law 2571 = .ok (.iload 6, 2) := dk_21 6 (dk_at dksL_law_100 21 rfl rfl)
theorem dL_law_2573 : decode cL_law 2573 = .ok (.if_icmp .eq 5, 3) := dk_159 0 5 (dk_at dksL_law_101 0 rfl rfl)
theorem dL_law_2576 : decode cL_law 2576 = .ok (.iconst 0, 1) := dk_3 (dk_at dksL_law_101 3 rfl rfl)
theorem dL_law_2577 : decode cL_law 2577 = .ok (.ireturn, 1) := dk_172 (dk_at dksL_law_101 4 rfl rfl)
theorem dL_law_2578 : decode cL_law 2578 = .ok (.iload 6, 2) := dk_21 6 (dk_at dksL_law_101 5 rfl rfl)
theorem dL_law_2580 : decode cL_law 2580 = .ok (.ifCond .ne 15, 3) := dk_154 0 15 (dk_at dksL_law_101 7 rfl rfl)
theorem dL_law_2583 : decode cL_law 2583 = .ok (.aload_n 3, 1) := dk_45 (dk_at dksL_law_101 10 rfl rfl)
theorem dL_law_2584 : decode cL_law 2584 = .ok (.iconst 0, 1) := dk_3 (dk_at dksL_law_101 11 rfl rfl)
theorem dL_law_2585 : decode cL_law 2585 = .ok (.laload, 1) := dk_47 (dk_at dksL_law_101 12 rfl rfl)
theorem dL_law_2586 : decode cL_law 2586 = .ok (.iload 7, 2) := dk_21 7 (dk_at dksL_law_101 13 rfl rfl)
theorem dL_law_2588 : decode cL_law 2588 = .ok (.i2l, 1) := dk_133 (dk_at dksL_law_101 15 rfl rfl)
theorem dL_law_2589 : decode cL_law 2589 = .ok (.lcmp, 1) := dk_148 (dk_at dksL_law_101 16 rfl rfl)
theorem dL_law_2590 : decode cL_law 2590 = .ok (.ifCond .eq 5, 3) := dk_153 0 5 (dk_at dksL_law_101 17 rfl rfl)
theorem dL_law_2593 : decode cL_law 2593 = .ok (.iconst 0, 1) := dk_3 (dk_at dksL_law_101 20 rfl rfl)
theorem dL_law_2594 : decode cL_law 2594 = .ok (.ireturn, 1) := dk_172 (dk_at dksL_law_101 21 rfl rfl)
theorem dL_law_2595 : decode cL_law 2595 = .ok (.goto 294, 3) := dk_167 1 38 (dk_at dksL_law_102 0 rfl rfl)
theorem dL_law_2598 : decode cL_law 2598 = .ok (.aload_n 1, 1) := dk_43 (dk_at dksL_law_102 3 rfl rfl)
theorem dL_law_2599 : decode cL_law 2599 = .ok (.aload_n 0, 1) := dk_42 (dk_at dksL_law_102 4 rfl rfl)
theorem dL_law_2600 : decode cL_law 2600 = .ok (.iload 5, 2) := dk_21 5 (dk_at dksL_law_102 5 rfl rfl)
theorem dL_law_2602 : decode cL_law 2602 = .ok (.iconst 1, 1) := dk_4 (dk_at dksL_law_102 7 rfl rfl)
theorem dL_law_2603 : decode cL_law 2603 = .ok (.iadd, 1) := dk_96 (dk_at dksL_law_102 8 rfl rfl)
theorem dL_law_2604 : decode cL_law 2604 = .ok (.iaload, 1) := dk_46 (dk_at dksL_law_102 9 rfl rfl)
theorem dL_law_2605 : decode cL_law 2605 = .ok (.i2c, 1) := dk_146 (dk_at dksL_law_102 10 rfl rfl)
theorem dL_law_2606 : decode cL_law 2606 = .ok (.aload_n 3, 1) := dk_45 (dk_at dksL_law_102 11 rfl rfl)
theorem dL_law_2607 : decode cL_law 2607 = .ok (.invokestatic 334, 3) := dk_184 1 78 (dk_at dksL_law_102 12 rfl rfl)
theorem dL_law_2610 : decode cL_law 2610 = .ok (.istore 6, 2) := dk_54 6 (dk_at dksL_law_102 15 rfl rfl)
theorem dL_law_2612 : decode cL_law 2612 = .ok (.aload_n 2, 1) := dk_44 (dk_at dksL_law_102 17 rfl rfl)
theorem dL_law_2613 : decode cL_law 2613 = .ok (.aload_n 0, 1) := dk_42 (dk_at dksL_law_102 18 rfl rfl)
theorem dL_law_2614 : decode cL_law 2614 = .ok (.iload 5, 2) := dk_21 5 (dk_at dksL_law_102 19 rfl rfl)
theorem dL_law_2616 : decode cL_law 2616 = .ok (.iconst 1, 1) := dk_4 (dk_at dksL_law_102 21 rfl rfl)
theorem dL_law_2617 : decode cL_law 2617 = .ok (.iadd, 1) := dk_96 (dk_at dksL_law_102 22 rfl rfl)
theorem dL_law_2618 : decode cL_law 2618 = .ok (.iaload, 1) := dk_46 (dk_at dksL_law_102 23 rfl rfl)
theorem dL_law_2619 : decode cL_law 2619 = .ok (.i2c, 1) := dk_146 (dk_at dksL_law_103 0 rfl rfl)
theorem dL_law_2620 : decode cL_law 2620 = .ok (.invokevirtual 337, 3) := dk_182 1 81 (dk_at dksL_law_103 1 rfl rfl)
theorem dL_law_2623 : decode cL_law 2623 = .ok (.istore 7, 2) := dk_54 7 (dk_at dksL_law_103 4 rfl rfl)
theorem dL_law_2625 : decode cL_law 2625 = .ok (.aload_n 2, 1) := dk_44 (dk_at dksL_law_103 6 rfl rfl)
theorem dL_law_2626 : decode cL_law 2626 = .ok (.invokevirtual 165, 3) := dk_182 0 165 (dk_at dksL_law_103 7 rfl rfl)
theorem dL_law_2629 : decode cL_law 2629 = .ok (.iload 6, 2) := dk_21 6 (dk_at dksL_law_103 10 rfl rfl)
theorem dL_law_2631 : decode cL_law 2631 = .ok (.if_icmp .eq 5, 3) := dk_159 0 5 (dk_at dksL_law_103 12 rfl rfl)
theorem dL_law_2634 : decode cL_law 2634 = .ok (.iconst 0, 1) := dk_3 (dk_at dksL_law_103 15 rfl rfl)
theorem dL_law_2635 : decode cL_law 2635 = .ok (.ireturn, 1) := dk_172 (dk_at dksL_law_103 16 rfl rfl)
theorem dL_law_2636 : decode cL_law 2636 = .ok (.iload 6, 2) := dk_21 6 (dk_at dksL_law_103 17 rfl rfl)
theorem dL_law_2638 : decode cL_law 2638 = .ok (.ifCond .ne 15, 3) := dk_154 0 15 (dk_at dksL_law_103 19 rfl rfl)
theorem dL_law_2641 : decode cL_law 2641 = .ok (.aload_n 3, 1) := dk_45 (dk_at dksL_law_103 22 rfl rfl)
theorem dL_law_2642 : decode cL_law 2642 = .ok (.iconst 0, 1) := dk_3 (dk_at dksL_law_103 23 rfl rfl)
theorem dL_law_2643 : decode cL_law 2643 = .ok (.laload, 1) := dk_47 (dk_at dksL_law_104 0 rfl rfl)
theorem dL_law_2644 : decode cL_law 2644 = .ok (.iload 7, 2) := dk_21 7 (dk_at dksL_law_104 1 rfl rfl)
theorem dL_law_2646 : decode cL_law 2646 = .ok (.i2l, 1) := dk_133 (dk_at dksL_law_104 3 rfl rfl)
theorem dL_law_2647 : decode cL_law 2647 = .ok (.lcmp, 1) := dk_148 (dk_at dksL_law_104 4 rfl rfl)
theorem dL_law_2648 : decode cL_law 2648 = .ok (.ifCond .eq 5, 3) := dk_153 0 5 (dk_at dksL_law_104 5 rfl rfl)
theorem dL_law_2651 : decode cL_law 2651 = .ok (.iconst 0, 1) := dk_3 (dk_at dksL_law_104 8 rfl rfl)
theorem dL_law_2652 : decode cL_law 2652 = .ok (.ireturn, 1) := dk_172 (dk_at dksL_law_104 9 rfl rfl)
theorem dL_law_2653 : decode cL_law 2653 = .ok (.goto 236, 3) := dk_167 0 236 (dk_at dksL_law_104 10 rfl rfl)
theorem dL_law_2656 : decode cL_law 2656 = .ok (.aload_n 1, 1) := dk_43 (dk_at dksL_law_104 13 rfl rfl)
theorem dL_law_2657 : decode cL_law 2657 = .ok (.aload_n 3, 1) := dk_45 (dk_at dksL_law_104 14 rfl rfl)
theorem dL_law_2658 : decode cL_law 2658 = .ok (.invokestatic 338, 3) := dk_184 1 82 (dk_at dksL_law_104 15 rfl rfl)
theorem dL_law_2661 : decode cL_law 2661 = .ok (.istore 6, 2) := dk_54 6 (dk_at dksL_law_104 18 rfl rfl)
theorem dL_law_2663 : decode cL_law 2663 = .ok (.aload_n 2, 1) := dk_44 (dk_at dksL_law_104 20 rfl rfl)
theorem dL_law_2664 : decode cL_law 2664 = .ok (.invokevirtual 341, 3) := dk_182 1 85 (dk_at dksL_law_104 21 rfl rfl)
theorem dL_law_2667 : decode cL_law 2667 = .ok (.istore 7, 2) := dk_54 7 (dk_at dksL_law_105 0 rfl rfl)
theorem dL_law_2669 : decode cL_law 2669 = .ok (.aload_n 2, 1) := dk_44 (dk_at dksL_law_105 2 rfl rfl)
theorem dL_law_2670 : decode cL_law 2670 = .ok (.invokevirtual 165, 3) := dk_182 0 165 (dk_at dksL_law_105 3 rfl rfl)
theorem dL_law_2673 : decode cL_law 2673 = .ok (.iload 6, 2) := dk_21 6 (dk_at dksL_law_105 6 rfl rfl)
theorem dL_law_2675 : decode cL_law 2675 = .ok (.if_icmp .eq 5, 3) := dk_159 0 5 (dk_at dksL_law_105 8 rfl rfl)
theorem dL_law_2678 : decode cL_law 2678 = .ok (.iconst 0, 1) := dk_3 (dk_at dksL_law_105 11 rfl rfl)
theorem dL_law_2679 : decode cL_law 2679 = .ok (.ireturn, 1) := dk_172 (dk_at dksL_law_105 12 rfl rfl)
theorem dL_law_2680 : decode cL_law 2680 = .ok (.iload 6, 2) := dk_21 6 (dk_at dksL_law_105 13 rfl rfl)
theorem dL_law_2682 : decode cL_law 2682 = .ok (.ifCond .ne 15, 3) := dk_154 0 15 (dk_at dksL_law_105 15 rfl rfl)
theorem dL_law_2685 : decode cL_law 2685 = .ok (.aload_n 3, 1) := dk_45 (dk_at dksL_law_105 18 rfl rfl)
theorem dL_law_2686 : decode cL_law 2686 = .ok (.iconst 0, 1) := dk_3 (dk_at dksL_law_105 19 rfl rfl)
theorem dL_law_2687 : decode cL_law 2687 = .ok (.laload, 1) := dk_47 (dk_at dksL_law_105 20 rfl rfl)
theorem dL_law_2688 : decode cL_law 2688 = .ok (.iload 7, 2) := dk_21 7 (dk_at dksL_law_105 21 rfl rfl)
theorem dL_law_2690 : decode cL_law 2690 = .ok (.i2l, 1) := dk_133 (dk_at dksL_law_105 23 rfl rfl)
theorem dL_law_2691 : decode cL_law 2691 = .ok (.lcmp, 1) := dk_148 (dk_at dksL_law_106 0 rfl rfl)
theorem dL_law_2692 : decode cL_law 2692 = .ok (.ifCond .eq 5, 3) := dk_153 0 5 (dk_at dksL_law_106 1 rfl rfl)
theorem dL_law_2695 : decode cL_law 2695 = .ok (.iconst 0, 1) := dk_3 (dk_at dksL_law_106 4 rfl rfl)
theorem dL_law_2696 : decode cL_law 2696 = .ok (.ireturn, 1) := dk_172 (dk_at dksL_law_106 5 rfl rfl)
theorem dL_law_2697 : decode cL_law 2697 = .ok (.goto 192, 3) := dk_167 0 192 (dk_at dksL_law_106 6 rfl rfl)
theorem dL_law_2700 : decode cL_law 2700 = .ok (.aload_n 1, 1) := dk_43 (dk_at dksL_law_106 9 rfl rfl)
theorem dL_law_2701 : decode cL_law 2701 = .ok (.aload_n 3, 1) := dk_45 (dk_at dksL_law_106 10 rfl rfl)
theorem dL_law_2702 : decode cL_law 2702 = .ok (.invokestatic 342, 3) := dk_184 1 86 (dk_at dksL_law_106 11 rfl rfl)
theorem dL_law_2705 : decode cL_law 2705 = .ok (.istore 6, 2) := dk_54 6 (dk_at dksL_law_106 14 rfl rfl)
theorem dL_law_2707 : decode cL_law 2707 = .ok (.aload_n 2, 1) := dk_44 (dk_at dksL_law_106 16 rfl rfl)
theorem dL_law_2708 : decode cL_law 2708 = .ok (.invokevirtual 344, 3) := dk_182 1 88 (dk_at dksL_law_106 17 rfl rfl)
theorem dL_law_2711 : decode cL_law 2711 = .ok (.istore 7, 2) := dk_54 7 (dk_at dksL_law_106 20 rfl rfl)
theorem dL_law_2713 : decode cL_law 2713 = .ok (.aload_n 2, 1) := dk_44 (dk_at dksL_law_106 22 rfl rfl)
theorem dL_law_2714 : decode cL_law 2714 = .ok (.invokevirtual 165, 3) := dk_182 0 165 (dk_at dksL_law_107 0 rfl rfl)
theorem dL_law_2717 : decode cL_law 2717 = .ok (.iload 6, 2) := dk_21 6 (dk_at dksL_law_107 3 rfl rfl)
theorem dL_law_2719 : decode cL_law 2719 = .ok (.if_icmp .eq 5, 3) := dk_159 0 5 (dk_at dksL_law_107 5 rfl rfl)
theorem dL_law_2722 : decode cL_law 2722 = .ok (.iconst 0, 1) := dk_3 (dk_at dksL_law_107 8 rfl rfl)
theorem dL_law_2723 : decode cL_law 2723 = .ok (.ireturn, 1) := dk_172 (dk_at dksL_law_107 9 rfl rfl)
theorem dL_law_2724 : decode cL_law 2724 = .ok (.iload 6, 2) := dk_21 6 (dk_at dksL_law_107 10 rfl rfl)
theorem dL_law_2726 : decode cL_law 2726 = .ok (.ifCond .ne 15, 3) := dk_154 0 15 (dk_at dksL_law_107 12 rfl rfl)
theorem dL_law_2729 : decode cL_law 2729 = .ok (.aload_n 3, 1) := dk_45 (dk_at dksL_law_107 15 rfl rfl)
theorem dL_law_2730 : decode cL_law 2730 = .ok (.iconst 0, 1) := dk_3 (dk_at dksL_law_107 16 rfl rfl)
theorem dL_law_2731 : decode cL_law 2731 = .ok (.laload, 1) := dk_47 (dk_at dksL_law_107 17 rfl rfl)
theorem dL_law_2732 : decode cL_law 2732 = .ok (.iload 7, 2) := dk_21 7 (dk_at dksL_law_107 18 rfl rfl)
theorem dL_law_2734 : decode cL_law 2734 = .ok (.i2l, 1) := dk_133 (dk_at dksL_law_107 20 rfl rfl)
theorem dL_law_2735 : decode cL_law 2735 = .ok (.lcmp, 1) := dk_148 (dk_at dksL_law_107 21 rfl rfl)
theorem dL_law_2736 : decode cL_law 2736 = .ok (.ifCond .eq 5, 3) := dk_153 0 5 (dk_at dksL_law_108 0 rfl rfl)
theorem dL_law_2739 : decode cL_law 2739 = .ok (.iconst 0, 1) := dk_3 (dk_at dksL_law_108 3 rfl rfl)
theorem dL_law_2740 : decode cL_law 2740 = .ok (.ireturn, 1) := dk_172 (dk_at dksL_law_108 4 rfl rfl)
theorem dL_law_2741 : decode cL_law 2741 = .ok (.goto 148, 3) := dk_167 0 148 (dk_at dksL_law_108 5 rfl rfl)
theorem dL_law_2744 : decode cL_law 2744 = .ok (.aload_n 1, 1) := dk_43 (dk_at dksL_law_108 8 rfl rfl)
theorem dL_law_2745 : decode cL_law 2745 = .ok (.aload_n 3, 1) := dk_45 (dk_at dksL_law_108 9 rfl rfl)
theorem dL_law_2746 : decode cL_law 2746 = .ok (.invokestatic 345, 3) := dk_184 1 89 (dk_at dksL_law_108 10 rfl rfl)
theorem dL_law_2749 : decode cL_law 2749 = .ok (.istore 6, 2) := dk_54 6 (dk_at dksL_law_108 13 rfl rfl)
theorem dL_law_2751 : decode cL_law 2751 = .ok (.aload_n 2, 1) := dk_44 (dk_at dksL_law_108 15 rfl rfl)
theorem dL_law_2752 : decode cL_law 2752 = .ok (.invokevirtual 347, 3) := dk_182 1 91 (dk_at dksL_law_108 16 rfl rfl)
theorem dL_law_2755 : decode cL_law 2755 = .ok (.istore 7, 2) := dk_54 7 (dk_at dksL_law_108 19 rfl rfl)
theorem dL_law_2757 : decode cL_law 2757 = .ok (.aload_n 2, 1) := dk_44 (dk_at dksL_law_108 21 rfl rfl)
theorem dL_law_2758 : decode cL_law 2758 = .ok (.invokevirtual 165, 3) := dk_182 0 165 (dk_at dksL_law_109 0 rfl rfl)
theorem dL_law_2761 : decode cL_law 2761 = .ok (.iload 6, 2) := dk_21 6 (dk_at dksL_law_109 3 rfl rfl)
theorem dL_law_2763 : decode cL_law 2763 = .ok (.if_icmp .eq 5, 3) := dk_159 0 5 (dk_at dksL_law_109 5 rfl rfl)
theorem dL_law_2766 : decode cL_law 2766 = .ok (.iconst 0, 1) := dk_3 (dk_at dksL_law_109 8 rfl rfl)
theorem dL_law_2767 : decode cL_law 2767 = .ok (.ireturn, 1) := dk_172 (dk_at dksL_law_109 9 rfl rfl)
theorem dL_law_2768 : decode cL_law 2768 = .ok (.iload 6, 2) := dk_21 6 (dk_at dksL_law_109 10 rfl rfl)
theorem dL_law_2770 : decode cL_law 2770 = .ok (.ifCond .ne 15, 3) := dk_154 0 15 (dk_at dksL_law_109 12 rfl rfl)
theorem dL_law_2773 : decode cL_law 2773 = .ok (.aload_n 3, 1) := dk_45 (dk_at dksL_law_109 15 rfl rfl)
theorem dL_law_2774 : decode cL_law 2774 = .ok (.iconst 0, 1) := dk_3 (dk_at dksL_law_109 16 rfl rfl)
theorem dL_law_2775 : decode cL_law 2775 = .ok (.laload, 1) := dk_47 (dk_at dksL_law_109 17 rfl rfl)
theorem dL_law_2776 : decode cL_law 2776 = .ok (.iload 7, 2) := dk_21 7 (dk_at dksL_law_109 18 rfl rfl)
theorem dL_law_2778 : decode cL_law 2778 = .ok (.i2l, 1) := dk_133 (dk_at dksL_law_109 20 rfl rfl)
theorem dL_law_2779 : decode cL_law 2779 = .ok (.lcmp, 1) := dk_148 (dk_at dksL_law_109 21 rfl rfl)
theorem dL_law_2780 : decode cL_law 2780 = .ok (.ifCond .eq 5, 3) := dk_153 0 5 (dk_at dksL_law_110 0 rfl rfl)
theorem dL_law_2783 : decode cL_law 2783 = .ok (.iconst 0, 1) := dk_3 (dk_at dksL_law_110 3 rfl rfl)
theorem dL_law_2784 : decode cL_law 2784 = .ok (.ireturn, 1) := dk_172 (dk_at dksL_law_110 4 rfl rfl)
theorem dL_law_2785 : decode cL_law 2785 = .ok (.goto 104, 3) := dk_167 0 104 (dk_at dksL_law_110 5 rfl rfl)
theorem dL_law_2788 : decode cL_law 2788 = .ok (.aload_n 1, 1) := dk_43 (dk_at dksL_law_110 8 rfl rfl)
theorem dL_law_2789 : decode cL_law 2789 = .ok (.aload_n 3, 1) := dk_45 (dk_at dksL_law_110 9 rfl rfl)
theorem dL_law_2790 : decode cL_law 2790 = .ok (.invokestatic 348, 3) := dk_184 1 92 (dk_at dksL_law_110 10 rfl rfl)
theorem dL_law_2793 : decode cL_law 2793 = .ok (.istore 6, 2) := dk_54 6 (dk_at dksL_law_110 13 rfl rfl)
theorem dL_law_2795 : decode cL_law 2795 = .ok (.aload_n 2, 1) := dk_44 (dk_at dksL_law_110 15 rfl rfl)
theorem dL_law_2796 : decode cL_law 2796 = .ok (.invokevirtual 350, 3) := dk_182 1 94 (dk_at dksL_law_110 16 rfl rfl)
theorem dL_law_2799 : decode cL_law 2799 = .ok (.istore 7, 2) := dk_54 7 (dk_at dksL_law_110 19 rfl rfl)
theorem dL_law_2801 : decode cL_law 2801 = .ok (.aload_n 2, 1) := dk_44 (dk_at dksL_law_110 21 rfl rfl)
theorem dL_law_2802 : decode cL_law 2802 = .ok (.invokevirtual 165, 3) := dk_182 0 165 (dk_at dksL_law_111 0 rfl rfl)
theorem dL_law_2805 : decode cL_law 2805 = .ok (.iload 6, 2) := dk_21 6 (dk_at dksL_law_111 3 rfl rfl)
theorem dL_law_2807 : decode cL_law 2807 = .ok (.if_icmp .eq 5, 3) := dk_159 0 5 (dk_at dksL_law_111 5 rfl rfl)
theorem dL_law_2810 : decode cL_law 2810 = .ok (.iconst 0, 1) := dk_3 (dk_at dksL_law_111 8 rfl rfl)
theorem dL_law_2811 : decode cL_law 2811 = .ok (.ireturn, 1) := dk_172 (dk_at dksL_law_111 9 rfl rfl)
theorem dL_law_2812 : decode cL_law 2812 = .ok (.iload 6, 2) := dk_21 6 (dk_at dksL_law_111 10 rfl rfl)
theorem dL_law_2814 : decode cL_law 2814 = .ok (.ifCond .ne 15, 3) := dk_154 0 15 (dk_at dksL_law_111 12 rfl rfl)
theorem dL_law_2817 : decode cL_law 2817 = .ok (.aload_n 3, 1) := dk_45 (dk_at dksL_law_111 15 rfl rfl)
theorem dL_law_2818 : decode cL_law 2818 = .ok (.iconst 0, 1) := dk_3 (dk_at dksL_law_111 16 rfl rfl)
theorem dL_law_2819 : decode cL_law 2819 = .ok (.laload, 1) := dk_47 (dk_at dksL_law_111 17 rfl rfl)
theorem dL_law_2820 : decode cL_law 2820 = .ok (.iload 7, 2) := dk_21 7 (dk_at dksL_law_111 18 rfl rfl)
theorem dL_law_2822 : decode cL_law 2822 = .ok (.i2l, 1) := dk_133 (dk_at dksL_law_111 20 rfl rfl)
theorem dL_law_2823 : decode cL_law 2823 = .ok (.lcmp, 1) := dk_148 (dk_at dksL_law_111 21 rfl rfl)
theorem dL_law_2824 : decode cL_law 2824 = .ok (.ifCond .eq 5, 3) := dk_153 0 5 (dk_at dksL_law_112 0 rfl rfl)
theorem dL_law_2827 : decode cL_law 2827 = .ok (.iconst 0, 1) := dk_3 (dk_at dksL_law_112 3 rfl rfl)
theorem dL_law_2828 : decode cL_law 2828 = .ok (.ireturn, 1) := dk_172 (dk_at dksL_law_112 4 rfl rfl)
theorem dL_law_2829 : decode cL_law 2829 = .ok (.goto 60, 3) := dk_167 0 60 (dk_at dksL_law_112 5 rfl rfl)
theorem dL_law_2832 : decode cL_law 2832 = .ok (.aload_n 1, 1) := dk_43 (dk_at dksL_law_112 8 rfl rfl)
theorem dL_law_2833 : decode cL_law 2833 = .ok (.invokevirtual 351, 3) := dk_182 1 95 (dk_at dksL_law_112 9 rfl rfl)
theorem dL_law_2836 : decode cL_law 2836 = .ok (.aload_n 2, 1) := dk_44 (dk_at dksL_law_112 12 rfl rfl)
theorem dL_law_2837 : decode cL_law 2837 = .ok (.invokevirtual 354, 3) := dk_182 1 98 (dk_at dksL_law_112 13 rfl rfl)
theorem dL_law_2840 : decode cL_law 2840 = .ok (.if_icmp .eq 49, 3) := dk_159 0 49 (dk_at dksL_law_112 16 rfl rfl)
theorem dL_law_2843 : decode cL_law 2843 = .ok (.iconst 0, 1) := dk_3 (dk_at dksL_law_112 19 rfl rfl)
theorem dL_law_2844 : decode cL_law 2844 = .ok (.ireturn, 1) := dk_172 (dk_at dksL_law_112 20 rfl rfl)
theorem dL_law_2845 : decode cL_law 2845 = .ok (.aload_n 1, 1) := dk_43 (dk_at dksL_law_112 21 rfl rfl)
theorem dL_law_2846 : decode cL_law 2846 = .ok (.aload_n 3, 1) := dk_45 (dk_at dksL_law_112 22 rfl rfl)
theorem dL_law_2847 : decode cL_law 2847 = .ok (.invokestatic 355, 3) := dk_184 1 99 (dk_at dksL_law_113 0 rfl rfl)
theorem dL_law_2850 : decode cL_law 2850 = .ok (.istore 6, 2) := dk_54 6 (dk_at dksL_law_113 3 rfl rfl)
theorem dL_law_2852 : decode cL_law 2852 = .ok (.aload_n 2, 1) := dk_44 (dk_at dksL_law_113 5 rfl rfl)
theorem dL_law_2853 : decode cL_law 2853 = .ok (.invokevirtual 357, 3) := dk_182 1 101 (dk_at dksL_law_113 6 rfl rfl)
theorem dL_law_2856 : decode cL_law 2856 = .ok (.istore 7, 2) := dk_54 7 (dk_at dksL_law_113 9 rfl rfl)
theorem dL_law_2858 : decode cL_law 2858 = .ok (.aload_n 2, 1) := dk_44 (dk_at dksL_law_113 11 rfl rfl)
theorem dL_law_2859 : decode cL_law 2859 = .ok (.invokevirtual 165, 3) := dk_182 0 165 (dk_at dksL_law_113 12 rfl rfl)
theorem dL_law_2862 : decode cL_law 2862 = .ok (.iload 6, 2) := dk_21 6 (dk_at dksL_law_113 15 rfl rfl)
theorem dL_law_2864 : decode cL_law 2864 = .ok (.if_icmp .eq 5, 3) := dk_159 0 5 (dk_at dksL_law_113 17 rfl rfl)
theorem dL_law_2867 : decode cL_law 2867 = .ok (.iconst 0, 1) := dk_3 (dk_at dksL_law_113 20 rfl rfl)
theorem dL_law_2868 : decode cL_law 2868 = .ok (.ireturn, 1) := dk_172 (dk_at dksL_law_113 21 rfl rfl)
theorem dL_law_2869 : decode cL_law 2869 = .ok (.iload 6, 2) := dk_21 6 (dk_at dksL_law_113 22 rfl rfl)
theorem dL_law_2871 : decode cL_law 2871 = .ok (.ifCond .ne 15, 3) := dk_154 0 15 (dk_at dksL_law_114 0 rfl rfl)
theorem dL_law_2874 : decode cL_law 2874 = .ok (.aload_n 3, 1) := dk_45 (dk_at dksL_law_114 3 rfl rfl)
theorem dL_law_2875 : decode cL_law 2875 = .ok (.iconst 0, 1) := dk_3 (dk_at dksL_law_114 4 rfl rfl)
theorem dL_law_2876 : decode cL_law 2876 = .ok (.laload, 1) := dk_47 (dk_at dksL_law_114 5 rfl rfl)
theorem dL_law_2877 : decode cL_law 2877 = .ok (.iload 7, 2) := dk_21 7 (dk_at dksL_law_114 6 rfl rfl)
theorem dL_law_2879 : decode cL_law 2879 = .ok (.i2l, 1) := dk_133 (dk_at dksL_law_114 8 rfl rfl)
theorem dL_law_2880 : decode cL_law 2880 = .ok (.lcmp, 1) := dk_148 (dk_at dksL_law_114 9 rfl rfl)
theorem dL_law_2881 : decode cL_law 2881 = .ok (.ifCond .eq 5, 3) := dk_153 0 5 (dk_at dksL_law_114 10 rfl rfl)
theorem dL_law_2884 : decode cL_law 2884 = .ok (.iconst 0, 1) := dk_3 (dk_at dksL_law_114 13 rfl rfl)
theorem dL_law_2885 : decode cL_law 2885 = .ok (.ireturn, 1) := dk_172 (dk_at dksL_law_114 14 rfl rfl)
theorem dL_law_2886 : decode cL_law 2886 = .ok (.goto 3, 3) := dk_167 0 3 (dk_at dksL_law_114 15 rfl rfl)
theorem dL_law_2889 : decode cL_law 2889 = .ok (.iinc 5 5, 3) := dk_132 5 5 (dk_at dksL_law_114 18 rfl rfl)
theorem dL_law_2892 : decode cL_law 2892 = .ok (.goto (-2864), 3) := dk_167 244 208 (dk_at dksL_law_114 21 rfl rfl)
theorem dL_law_2895 : decode cL_law 2895 = .ok (.iconst 1, 1) := dk_4 (dk_at dksL_law_115 0 rfl rfl)
theorem dL_law_2896 : decode cL_law 2896 = .ok (.ireturn, 1) := dk_172 (dk_at dksL_law_115 1 rfl rfl)
