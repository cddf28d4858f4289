/-! GoblinHousehold -/
set_option maxRecDepth 100000
def RX1 : String := "GoblinHousehold"
def TX1 : u_T := fun k => match k with
  | 0 => ("GoblinHousehold", "household", "LGoblinHousehold$Household;", false)
  | 1 => ("GoblinHousehold", "snapshot", "LGoblinHousehold$Household;", false)
  | 2 => ("GoblinHousehold", "history", "Ljava/util/LinkedList;", true)
  | 3 => ("GoblinHousehold", "script", "Ljava/lang/StringBuilder;", true)
  | 4 => ("GoblinHousehold", "errorPosition", "I", false)
  | 5 => ("GoblinHousehold", "failedCommand", "I", false)
  | _ => ("GoblinHousehold", "output", "Ljava/lang/String;", false)
def tyX1 : Nat → FieldType := fun k => match k with
  | 0 => .object "GoblinHousehold$Household"
  | 1 => .object "GoblinHousehold$Household"
  | 2 => .object "java/util/LinkedList"
  | 3 => .object "java/lang/StringBuilder"
  | 4 => .int
  | 5 => .int
  | _ => .object "java/lang/String"
abbrev wsX10 : List Cond := u_ws RX1 TX1 7
theorem nmX1 : ∀ a, a < 7 → ∀ b, b < 7 → a ≠ b → (TX1 a).2.1 ≠ (TX1 b).2.1 := by decide +kernel
theorem tyX1_ok : ∀ k, k < 7 → parseFieldDescriptor (TX1 k).2.2.1 = some (tyX1 k) := by decide +kernel
abbrev cX1_init : ByteArray := prog_1_method_4_code
def yX1_init : MethodName := ⟨RX1, "<init>", "()V"⟩
def dkwX1_init_2 : List UInt8 := [42, 18, 62, 181, 0, 64, 177]
abbrev dktX1_init_2 : List UInt8 := dkwX1_init_2 ++ []
def dkwX1_init_1 : List UInt8 := [181, 0, 44, 42, 187, 0, 48, 89, 183, 0, 50, 181, 0, 51, 42, 2, 181, 0, 55, 42, 2, 181, 0, 59]
abbrev dktX1_init_1 : List UInt8 := dkwX1_init_1 ++ dktX1_init_2
def dkwX1_init_0 : List UInt8 := [42, 183, 0, 27, 42, 187, 0, 32, 89, 183, 0, 34, 181, 0, 35, 42, 187, 0, 41, 89, 183, 0, 43]
abbrev dktX1_init_0 : List UInt8 := dkwX1_init_0 ++ dktX1_init_1
theorem dksX1_init_0 : cX1_init.data.toList.drop 0 = dktX1_init_0 := by decide +kernel
theorem dksX1_init_1 : cX1_init.data.toList.drop 23 = dktX1_init_1 := dk_seg dksX1_init_0 23 rfl rfl
theorem dksX1_init_2 : cX1_init.data.toList.drop 47 = dktX1_init_2 := dk_seg dksX1_init_1 24 rfl rfl
theorem dX1_init_0 : decode cX1_init 0 = .ok (.aload_n 0, 1) := dk_42 (dk_at dksX1_init_0 0 rfl rfl)
theorem dX1_init_1 : decode cX1_init 1 = .ok (.invokespecial 27, 3) := dk_183 0 27 (dk_at dksX1_init_0 1 rfl rfl)
theorem dX1_init_4 : decode cX1_init 4 = .ok (.aload_n 0, 1) := dk_42 (dk_at dksX1_init_0 4 rfl rfl)
theorem dX1_init_5 : decode cX1_init 5 = .ok (.new 32, 3) := dk_187 0 32 (dk_at dksX1_init_0 5 rfl rfl)
theorem dX1_init_8 : decode cX1_init 8 = .ok (.dup, 1) := dk_89 (dk_at dksX1_init_0 8 rfl rfl)
theorem dX1_init_9 : decode cX1_init 9 = .ok (.invokespecial 34, 3) := dk_183 0 34 (dk_at dksX1_init_0 9 rfl rfl)
theorem dX1_init_12 : decode cX1_init 12 = .ok (.putfield 35, 3) := dk_181 0 35 (dk_at dksX1_init_0 12 rfl rfl)
theorem dX1_init_15 : decode cX1_init 15 = .ok (.aload_n 0, 1) := dk_42 (dk_at dksX1_init_0 15 rfl rfl)
theorem dX1_init_16 : decode cX1_init 16 = .ok (.new 41, 3) := dk_187 0 41 (dk_at dksX1_init_0 16 rfl rfl)
theorem dX1_init_19 : decode cX1_init 19 = .ok (.dup, 1) := dk_89 (dk_at dksX1_init_0 19 rfl rfl)
theorem dX1_init_20 : decode cX1_init 20 = .ok (.invokespecial 43, 3) := dk_183 0 43 (dk_at dksX1_init_0 20 rfl rfl)
theorem dX1_init_23 : decode cX1_init 23 = .ok (.putfield 44, 3) := dk_181 0 44 (dk_at dksX1_init_1 0 rfl rfl)
theorem dX1_init_26 : decode cX1_init 26 = .ok (.aload_n 0, 1) := dk_42 (dk_at dksX1_init_1 3 rfl rfl)
theorem dX1_init_27 : decode cX1_init 27 = .ok (.new 48, 3) := dk_187 0 48 (dk_at dksX1_init_1 4 rfl rfl)
theorem dX1_init_30 : decode cX1_init 30 = .ok (.dup, 1) := dk_89 (dk_at dksX1_init_1 7 rfl rfl)
theorem dX1_init_31 : decode cX1_init 31 = .ok (.invokespecial 50, 3) := dk_183 0 50 (dk_at dksX1_init_1 8 rfl rfl)
theorem dX1_init_34 : decode cX1_init 34 = .ok (.putfield 51, 3) := dk_181 0 51 (dk_at dksX1_init_1 11 rfl rfl)
theorem dX1_init_37 : decode cX1_init 37 = .ok (.aload_n 0, 1) := dk_42 (dk_at dksX1_init_1 14 rfl rfl)
theorem dX1_init_38 : decode cX1_init 38 = .ok (.iconst (-1), 1) := dk_2 (dk_at dksX1_init_1 15 rfl rfl)
theorem dX1_init_39 : decode cX1_init 39 = .ok (.putfield 55, 3) := dk_181 0 55 (dk_at dksX1_init_1 16 rfl rfl)
theorem dX1_init_42 : decode cX1_init 42 = .ok (.aload_n 0, 1) := dk_42 (dk_at dksX1_init_1 19 rfl rfl)
theorem dX1_init_43 : decode cX1_init 43 = .ok (.iconst (-1), 1) := dk_2 (dk_at dksX1_init_1 20 rfl rfl)
theorem dX1_init_44 : decode cX1_init 44 = .ok (.putfield 59, 3) := dk_181 0 59 (dk_at dksX1_init_1 21 rfl rfl)
theorem dX1_init_47 : decode cX1_init 47 = .ok (.aload_n 0, 1) := dk_42 (dk_at dksX1_init_2 0 rfl rfl)
theorem dX1_init_48 : decode cX1_init 48 = .ok (.ldc 62, 2) := dk_18 62 (dk_at dksX1_init_2 1 rfl rfl)
theorem dX1_init_50 : decode cX1_init 50 = .ok (.putfield 64, 3) := dk_181 0 64 (dk_at dksX1_init_2 3 rfl rfl)
theorem dX1_init_53 : decode cX1_init 53 = .ok (.return_, 1) := dk_177 (dk_at dksX1_init_2 6 rfl rfl)
abbrev cX1_broomCount : ByteArray := prog_1_method_27_code
def yX1_broomCount : MethodName := ⟨RX1, "broomCount", "()I"⟩
def dkwX1_broomCount_0 : List UInt8 := [42, 180, 0, 35, 180, 0, 140, 185, 0, 7, 1, 0, 172]
abbrev dktX1_broomCount_0 : List UInt8 := dkwX1_broomCount_0 ++ []
theorem dksX1_broomCount_0 : cX1_broomCount.data.toList.drop 0 = dktX1_broomCount_0 := by decide +kernel
theorem dX1_broomCount_0 : decode cX1_broomCount 0 = .ok (.aload_n 0, 1) := dk_42 (dk_at dksX1_broomCount_0 0 rfl rfl)
theorem dX1_broomCount_1 : decode cX1_broomCount 1 = .ok (.getfield 35, 3) := dk_180 0 35 (dk_at dksX1_broomCount_0 1 rfl rfl)
theorem dX1_broomCount_4 : decode cX1_broomCount 4 = .ok (.getfield 140, 3) := dk_180 0 140 (dk_at dksX1_broomCount_0 4 rfl rfl)
theorem dX1_broomCount_7 : decode cX1_broomCount 7 = .ok (.invokeinterface 7 1, 5) := by decide +kernel
theorem dX1_broomCount_12 : decode cX1_broomCount 12 = .ok (.ireturn, 1) := dk_172 (dk_at dksX1_broomCount_0 12 rfl rfl)
abbrev cX1_goblinCount : ByteArray := prog_1_method_31_code
def yX1_goblinCount : MethodName := ⟨RX1, "goblinCount", "()I"⟩
def dkwX1_goblinCount_0 : List UInt8 := [42, 180, 0, 35, 180, 0, 175, 185, 0, 7, 1, 0, 172]
abbrev dktX1_goblinCount_0 : List UInt8 := dkwX1_goblinCount_0 ++ []
theorem dksX1_goblinCount_0 : cX1_goblinCount.data.toList.drop 0 = dktX1_goblinCount_0 := by decide +kernel
theorem dX1_goblinCount_0 : decode cX1_goblinCount 0 = .ok (.aload_n 0, 1) := dk_42 (dk_at dksX1_goblinCount_0 0 rfl rfl)
theorem dX1_goblinCount_1 : decode cX1_goblinCount 1 = .ok (.getfield 35, 3) := dk_180 0 35 (dk_at dksX1_goblinCount_0 1 rfl rfl)
theorem dX1_goblinCount_4 : decode cX1_goblinCount 4 = .ok (.getfield 175, 3) := dk_180 0 175 (dk_at dksX1_goblinCount_0 4 rfl rfl)
theorem dX1_goblinCount_7 : decode cX1_goblinCount 7 = .ok (.invokeinterface 7 1, 5) := by decide +kernel
theorem dX1_goblinCount_12 : decode cX1_goblinCount 12 = .ok (.ireturn, 1) := dk_172 (dk_at dksX1_goblinCount_0 12 rfl rfl)
abbrev cX1_openContracts : ByteArray := prog_1_method_42_code
def yX1_openContracts : MethodName := ⟨RX1, "openContracts", "()I"⟩
def dkwX1_openContracts_0 : List UInt8 := [42, 180, 0, 35, 180, 0, 223, 185, 0, 7, 1, 0, 172]
abbrev dktX1_openContracts_0 : List UInt8 := dkwX1_openContracts_0 ++ []
theorem dksX1_openContracts_0 : cX1_openContracts.data.toList.drop 0 = dktX1_openContracts_0 := by decide +kernel
theorem dX1_openContracts_0 : decode cX1_openContracts 0 = .ok (.aload_n 0, 1) := dk_42 (dk_at dksX1_openContracts_0 0 rfl rfl)
theorem dX1_openContracts_1 : decode cX1_openContracts 1 = .ok (.getfield 35, 3) := dk_180 0 35 (dk_at dksX1_openContracts_0 1 rfl rfl)
theorem dX1_openContracts_4 : decode cX1_openContracts 4 = .ok (.getfield 223, 3) := dk_180 0 223 (dk_at dksX1_openContracts_0 4 rfl rfl)
theorem dX1_openContracts_7 : decode cX1_openContracts 7 = .ok (.invokeinterface 7 1, 5) := by decide +kernel
theorem dX1_openContracts_12 : decode cX1_openContracts 12 = .ok (.ireturn, 1) := dk_172 (dk_at dksX1_openContracts_0 12 rfl rfl)
abbrev cX1_night : ByteArray := prog_1_method_51_code
def yX1_night : MethodName := ⟨RX1, "night", "()I"⟩
def dkwX1_night_0 : List UInt8 := [42, 180, 0, 35, 180, 1, 4, 172]
abbrev dktX1_night_0 : List UInt8 := dkwX1_night_0 ++ []
theorem dksX1_night_0 : cX1_night.data.toList.drop 0 = dktX1_night_0 := by decide +kernel
theorem dX1_night_0 : decode cX1_night 0 = .ok (.aload_n 0, 1) := dk_42 (dk_at dksX1_night_0 0 rfl rfl)
theorem dX1_night_1 : decode cX1_night 1 = .ok (.getfield 35, 3) := dk_180 0 35 (dk_at dksX1_night_0 1 rfl rfl)
theorem dX1_night_4 : decode cX1_night 4 = .ok (.getfield 260, 3) := dk_180 1 4 (dk_at dksX1_night_0 4 rfl rfl)
theorem dX1_night_7 : decode cX1_night 7 = .ok (.ireturn, 1) := dk_172 (dk_at dksX1_night_0 7 rfl rfl)
abbrev cX1_chest : ByteArray := prog_1_method_52_code
def yX1_chest : MethodName := ⟨RX1, "chest", "()I"⟩
def dkwX1_chest_0 : List UInt8 := [42, 180, 0, 35, 180, 1, 1, 172]
abbrev dktX1_chest_0 : List UInt8 := dkwX1_chest_0 ++ []
theorem dksX1_chest_0 : cX1_chest.data.toList.drop 0 = dktX1_chest_0 := by decide +kernel
theorem dX1_chest_0 : decode cX1_chest 0 = .ok (.aload_n 0, 1) := dk_42 (dk_at dksX1_chest_0 0 rfl rfl)
theorem dX1_chest_1 : decode cX1_chest 1 = .ok (.getfield 35, 3) := dk_180 0 35 (dk_at dksX1_chest_0 1 rfl rfl)
theorem dX1_chest_4 : decode cX1_chest 4 = .ok (.getfield 257, 3) := dk_180 1 1 (dk_at dksX1_chest_0 4 rfl rfl)
theorem dX1_chest_7 : decode cX1_chest 7 = .ok (.ireturn, 1) := dk_172 (dk_at dksX1_chest_0 7 rfl rfl)
abbrev cX1_allCrumbs : ByteArray := prog_1_method_53_code
def yX1_allCrumbs : MethodName := ⟨RX1, "allCrumbs", "()I"⟩
def dkwX1_allCrumbs_0 : List UInt8 := [42, 180, 0, 35, 182, 1, 7, 172]
abbrev dktX1_allCrumbs_0 : List UInt8 := dkwX1_allCrumbs_0 ++ []
theorem dksX1_allCrumbs_0 : cX1_allCrumbs.data.toList.drop 0 = dktX1_allCrumbs_0 := by decide +kernel
theorem dX1_allCrumbs_0 : decode cX1_allCrumbs 0 = .ok (.aload_n 0, 1) := dk_42 (dk_at dksX1_allCrumbs_0 0 rfl rfl)
theorem dX1_allCrumbs_1 : decode cX1_allCrumbs 1 = .ok (.getfield 35, 3) := dk_180 0 35 (dk_at dksX1_allCrumbs_0 1 rfl rfl)
theorem dX1_allCrumbs_4 : decode cX1_allCrumbs 4 = .ok (.invokevirtual 263, 3) := dk_182 1 7 (dk_at dksX1_allCrumbs_0 4 rfl rfl)
theorem dX1_allCrumbs_7 : decode cX1_allCrumbs 7 = .ok (.ireturn, 1) := dk_172 (dk_at dksX1_allCrumbs_0 7 rfl rfl)
abbrev cX1_allCrumbsByAccounts : ByteArray := prog_1_method_54_code
def yX1_allCrumbsByAccounts : MethodName := ⟨RX1, "allCrumbsByAccounts", "()I"⟩
def dkwX1_allCrumbsByAccounts_0 : List UInt8 := [42, 180, 0, 35, 182, 1, 10, 172]
abbrev dktX1_allCrumbsByAccounts_0 : List UInt8 := dkwX1_allCrumbsByAccounts_0 ++ []
theorem dksX1_allCrumbsByAccounts_0 : cX1_allCrumbsByAccounts.data.toList.drop 0 = dktX1_allCrumbsByAccounts_0 := by decide +kernel
theorem dX1_allCrumbsByAccounts_0 : decode cX1_allCrumbsByAccounts 0 = .ok (.aload_n 0, 1) := dk_42 (dk_at dksX1_allCrumbsByAccounts_0 0 rfl rfl)
theorem dX1_allCrumbsByAccounts_1 : decode cX1_allCrumbsByAccounts 1 = .ok (.getfield 35, 3) := dk_180 0 35 (dk_at dksX1_allCrumbsByAccounts_0 1 rfl rfl)
theorem dX1_allCrumbsByAccounts_4 : decode cX1_allCrumbsByAccounts 4 = .ok (.invokevirtual 266, 3) := dk_182 1 10 (dk_at dksX1_allCrumbsByAccounts_0 4 rfl rfl)
theorem dX1_allCrumbsByAccounts_7 : decode cX1_allCrumbsByAccounts 7 = .ok (.ireturn, 1) := dk_172 (dk_at dksX1_allCrumbsByAccounts_0 7 rfl rfl)
abbrev cX1_doneTotal : ByteArray := prog_1_method_55_code
def yX1_doneTotal : MethodName := ⟨RX1, "doneTotal", "()I"⟩
def dkwX1_doneTotal_0 : List UInt8 := [42, 180, 0, 35, 180, 1, 13, 172]
abbrev dktX1_doneTotal_0 : List UInt8 := dkwX1_doneTotal_0 ++ []
theorem dksX1_doneTotal_0 : cX1_doneTotal.data.toList.drop 0 = dktX1_doneTotal_0 := by decide +kernel
theorem dX1_doneTotal_0 : decode cX1_doneTotal 0 = .ok (.aload_n 0, 1) := dk_42 (dk_at dksX1_doneTotal_0 0 rfl rfl)
theorem dX1_doneTotal_1 : decode cX1_doneTotal 1 = .ok (.getfield 35, 3) := dk_180 0 35 (dk_at dksX1_doneTotal_0 1 rfl rfl)
theorem dX1_doneTotal_4 : decode cX1_doneTotal 4 = .ok (.getfield 269, 3) := dk_180 1 13 (dk_at dksX1_doneTotal_0 4 rfl rfl)
theorem dX1_doneTotal_7 : decode cX1_doneTotal 7 = .ok (.ireturn, 1) := dk_172 (dk_at dksX1_doneTotal_0 7 rfl rfl)
abbrev cX1_brokenTotal : ByteArray := prog_1_method_56_code
def yX1_brokenTotal : MethodName := ⟨RX1, "brokenTotal", "()I"⟩
def dkwX1_brokenTotal_0 : List UInt8 := [42, 180, 0, 35, 180, 1, 16, 172]
abbrev dktX1_brokenTotal_0 : List UInt8 := dkwX1_brokenTotal_0 ++ []
theorem dksX1_brokenTotal_0 : cX1_brokenTotal.data.toList.drop 0 = dktX1_brokenTotal_0 := by decide +kernel
theorem dX1_brokenTotal_0 : decode cX1_brokenTotal 0 = .ok (.aload_n 0, 1) := dk_42 (dk_at dksX1_brokenTotal_0 0 rfl rfl)
theorem dX1_brokenTotal_1 : decode cX1_brokenTotal 1 = .ok (.getfield 35, 3) := dk_180 0 35 (dk_at dksX1_brokenTotal_0 1 rfl rfl)
theorem dX1_brokenTotal_4 : decode cX1_brokenTotal 4 = .ok (.getfield 272, 3) := dk_180 1 16 (dk_at dksX1_brokenTotal_0 4 rfl rfl)
theorem dX1_brokenTotal_7 : decode cX1_brokenTotal 7 = .ok (.ireturn, 1) := dk_172 (dk_at dksX1_brokenTotal_0 7 rfl rfl)
abbrev cX1_unpaidTotal : ByteArray := prog_1_method_57_code
def yX1_unpaidTotal : MethodName := ⟨RX1, "unpaidTotal", "()I"⟩
def dkwX1_unpaidTotal_0 : List UInt8 := [42, 180, 0, 35, 180, 1, 19, 172]
abbrev dktX1_unpaidTotal_0 : List UInt8 := dkwX1_unpaidTotal_0 ++ []
theorem dksX1_unpaidTotal_0 : cX1_unpaidTotal.data.toList.drop 0 = dktX1_unpaidTotal_0 := by decide +kernel
theorem dX1_unpaidTotal_0 : decode cX1_unpaidTotal 0 = .ok (.aload_n 0, 1) := dk_42 (dk_at dksX1_unpaidTotal_0 0 rfl rfl)
theorem dX1_unpaidTotal_1 : decode cX1_unpaidTotal 1 = .ok (.getfield 35, 3) := dk_180 0 35 (dk_at dksX1_unpaidTotal_0 1 rfl rfl)
theorem dX1_unpaidTotal_4 : decode cX1_unpaidTotal 4 = .ok (.getfield 275, 3) := dk_180 1 19 (dk_at dksX1_unpaidTotal_0 4 rfl rfl)
theorem dX1_unpaidTotal_7 : decode cX1_unpaidTotal 7 = .ok (.ireturn, 1) := dk_172 (dk_at dksX1_unpaidTotal_0 7 rfl rfl)
abbrev cX1_interestTotal : ByteArray := prog_1_method_58_code
def yX1_interestTotal : MethodName := ⟨RX1, "interestTotal", "()I"⟩
def dkwX1_interestTotal_0 : List UInt8 := [42, 180, 0, 35, 180, 1, 22, 172]
abbrev dktX1_interestTotal_0 : List UInt8 := dkwX1_interestTotal_0 ++ []
theorem dksX1_interestTotal_0 : cX1_interestTotal.data.toList.drop 0 = dktX1_interestTotal_0 := by decide +kernel
theorem dX1_interestTotal_0 : decode cX1_interestTotal 0 = .ok (.aload_n 0, 1) := dk_42 (dk_at dksX1_interestTotal_0 0 rfl rfl)
theorem dX1_interestTotal_1 : decode cX1_interestTotal 1 = .ok (.getfield 35, 3) := dk_180 0 35 (dk_at dksX1_interestTotal_0 1 rfl rfl)
theorem dX1_interestTotal_4 : decode cX1_interestTotal 4 = .ok (.getfield 278, 3) := dk_180 1 22 (dk_at dksX1_interestTotal_0 4 rfl rfl)
theorem dX1_interestTotal_7 : decode cX1_interestTotal 7 = .ok (.ireturn, 1) := dk_172 (dk_at dksX1_interestTotal_0 7 rfl rfl)
abbrev cX1_meanDust : ByteArray := prog_1_method_59_code
def yX1_meanDust : MethodName := ⟨RX1, "meanDust", "()D"⟩
def dkwX1_meanDust_0 : List UInt8 := [42, 180, 0, 35, 182, 1, 25, 135, 20, 1, 28, 111, 175]
abbrev dktX1_meanDust_0 : List UInt8 := dkwX1_meanDust_0 ++ []
theorem dksX1_meanDust_0 : cX1_meanDust.data.toList.drop 0 = dktX1_meanDust_0 := by decide +kernel
theorem dX1_meanDust_0 : decode cX1_meanDust 0 = .ok (.aload_n 0, 1) := dk_42 (dk_at dksX1_meanDust_0 0 rfl rfl)
theorem dX1_meanDust_1 : decode cX1_meanDust 1 = .ok (.getfield 35, 3) := dk_180 0 35 (dk_at dksX1_meanDust_0 1 rfl rfl)
theorem dX1_meanDust_4 : decode cX1_meanDust 4 = .ok (.invokevirtual 281, 3) := dk_182 1 25 (dk_at dksX1_meanDust_0 4 rfl rfl)
theorem dX1_meanDust_7 : decode cX1_meanDust 7 = .ok (.i2d, 1) := dk_135 (dk_at dksX1_meanDust_0 7 rfl rfl)
theorem dX1_meanDust_8 : decode cX1_meanDust 8 = .ok (.ldc2_w 284, 3) := dk_20 1 28 (dk_at dksX1_meanDust_0 8 rfl rfl)
theorem dX1_meanDust_11 : decode cX1_meanDust 11 = .ok (.ddiv, 1) := dk_111 (dk_at dksX1_meanDust_0 11 rfl rfl)
theorem dX1_meanDust_12 : decode cX1_meanDust 12 = .ok (.dreturn, 1) := dk_175 (dk_at dksX1_meanDust_0 12 rfl rfl)
abbrev cX1_isConsistent : ByteArray := prog_1_method_61_code
def yX1_isConsistent : MethodName := ⟨RX1, "isConsistent", "()Z"⟩
def dkwX1_isConsistent_0 : List UInt8 := [42, 180, 0, 35, 182, 1, 33, 172]
abbrev dktX1_isConsistent_0 : List UInt8 := dkwX1_isConsistent_0 ++ []
theorem dksX1_isConsistent_0 : cX1_isConsistent.data.toList.drop 0 = dktX1_isConsistent_0 := by decide +kernel
theorem dX1_isConsistent_0 : decode cX1_isConsistent 0 = .ok (.aload_n 0, 1) := dk_42 (dk_at dksX1_isConsistent_0 0 rfl rfl)
theorem dX1_isConsistent_1 : decode cX1_isConsistent 1 = .ok (.getfield 35, 3) := dk_180 0 35 (dk_at dksX1_isConsistent_0 1 rfl rfl)
theorem dX1_isConsistent_4 : decode cX1_isConsistent 4 = .ok (.invokevirtual 289, 3) := dk_182 1 33 (dk_at dksX1_isConsistent_0 4 rfl rfl)
theorem dX1_isConsistent_7 : decode cX1_isConsistent 7 = .ok (.ireturn, 1) := dk_172 (dk_at dksX1_isConsistent_0 7 rfl rfl)
abbrev cX1_renderContracts : ByteArray := prog_1_method_64_code
def yX1_renderContracts : MethodName := ⟨RX1, "renderContracts", "()I"⟩
def dkwX1_renderContracts_0 : List UInt8 := [42, 42, 180, 0, 35, 182, 1, 49, 182, 1, 45, 172]
abbrev dktX1_renderContracts_0 : List UInt8 := dkwX1_renderContracts_0 ++ []
theorem dksX1_renderContracts_0 : cX1_renderContracts.data.toList.drop 0 = dktX1_renderContracts_0 := by decide +kernel
theorem dX1_renderContracts_0 : decode cX1_renderContracts 0 = .ok (.aload_n 0, 1) := dk_42 (dk_at dksX1_renderContracts_0 0 rfl rfl)
theorem dX1_renderContracts_1 : decode cX1_renderContracts 1 = .ok (.aload_n 0, 1) := dk_42 (dk_at dksX1_renderContracts_0 1 rfl rfl)
theorem dX1_renderContracts_2 : decode cX1_renderContracts 2 = .ok (.getfield 35, 3) := dk_180 0 35 (dk_at dksX1_renderContracts_0 2 rfl rfl)
theorem dX1_renderContracts_5 : decode cX1_renderContracts 5 = .ok (.invokevirtual 305, 3) := dk_182 1 49 (dk_at dksX1_renderContracts_0 5 rfl rfl)
theorem dX1_renderContracts_8 : decode cX1_renderContracts 8 = .ok (.invokevirtual 301, 3) := dk_182 1 45 (dk_at dksX1_renderContracts_0 8 rfl rfl)
theorem dX1_renderContracts_11 : decode cX1_renderContracts 11 = .ok (.ireturn, 1) := dk_172 (dk_at dksX1_renderContracts_0 11 rfl rfl)
abbrev cX1_write : ByteArray := prog_1_method_62_code
def yX1_write : MethodName := ⟨RX1, "write", "(Ljava/lang/String;)I"⟩
def dkwX1_write_0 : List UInt8 := [42, 43, 181, 0, 64, 42, 180, 0, 64, 182, 1, 36, 172]
abbrev dktX1_write_0 : List UInt8 := dkwX1_write_0 ++ []
theorem dksX1_write_0 : cX1_write.data.toList.drop 0 = dktX1_write_0 := by decide +kernel
theorem dX1_write_0 : decode cX1_write 0 = .ok (.aload_n 0, 1) := dk_42 (dk_at dksX1_write_0 0 rfl rfl)
theorem dX1_write_1 : decode cX1_write 1 = .ok (.aload_n 1, 1) := dk_43 (dk_at dksX1_write_0 1 rfl rfl)
theorem dX1_write_2 : decode cX1_write 2 = .ok (.putfield 64, 3) := dk_181 0 64 (dk_at dksX1_write_0 2 rfl rfl)
theorem dX1_write_5 : decode cX1_write 5 = .ok (.aload_n 0, 1) := dk_42 (dk_at dksX1_write_0 5 rfl rfl)
theorem dX1_write_6 : decode cX1_write 6 = .ok (.getfield 64, 3) := dk_180 0 64 (dk_at dksX1_write_0 6 rfl rfl)
theorem dX1_write_9 : decode cX1_write 9 = .ok (.invokevirtual 292, 3) := dk_182 1 36 (dk_at dksX1_write_0 9 rfl rfl)
theorem dX1_write_12 : decode cX1_write 12 = .ok (.ireturn, 1) := dk_172 (dk_at dksX1_write_0 12 rfl rfl)
abbrev cX1_save : ByteArray := prog_1_method_72_code
def yX1_save : MethodName := ⟨RX1, "save", "()I"⟩
def dkwX1_save_0 : List UInt8 := [42, 42, 180, 0, 35, 181, 1, 106, 42, 182, 0, 226, 172]
abbrev dktX1_save_0 : List UInt8 := dkwX1_save_0 ++ []
theorem dksX1_save_0 : cX1_save.data.toList.drop 0 = dktX1_save_0 := by decide +kernel
theorem dX1_save_0 : decode cX1_save 0 = .ok (.aload_n 0, 1) := dk_42 (dk_at dksX1_save_0 0 rfl rfl)
theorem dX1_save_1 : decode cX1_save 1 = .ok (.aload_n 0, 1) := dk_42 (dk_at dksX1_save_0 1 rfl rfl)
theorem dX1_save_2 : decode cX1_save 2 = .ok (.getfield 35, 3) := dk_180 0 35 (dk_at dksX1_save_0 2 rfl rfl)
theorem dX1_save_5 : decode cX1_save 5 = .ok (.putfield 362, 3) := dk_181 1 106 (dk_at dksX1_save_0 5 rfl rfl)
theorem dX1_save_8 : decode cX1_save 8 = .ok (.aload_n 0, 1) := dk_42 (dk_at dksX1_save_0 8 rfl rfl)
theorem dX1_save_9 : decode cX1_save 9 = .ok (.invokevirtual 226, 3) := dk_182 0 226 (dk_at dksX1_save_0 9 rfl rfl)
theorem dX1_save_12 : decode cX1_save 12 = .ok (.ireturn, 1) := dk_172 (dk_at dksX1_save_0 12 rfl rfl)
abbrev cX1_addGoblin : ByteArray := prog_1_method_7_code
def yX1_addGoblin : MethodName := ⟨RX1, "addGoblin", "(I)I"⟩
def dkwX1_addGoblin_0 : List UInt8 := [42, 27, 186, 0, 95, 0, 0, 182, 0, 98, 172]
abbrev dktX1_addGoblin_0 : List UInt8 := dkwX1_addGoblin_0 ++ []
theorem dksX1_addGoblin_0 : cX1_addGoblin.data.toList.drop 0 = dktX1_addGoblin_0 := by decide +kernel
theorem dX1_addGoblin_0 : decode cX1_addGoblin 0 = .ok (.aload_n 0, 1) := dk_42 (dk_at dksX1_addGoblin_0 0 rfl rfl)
theorem dX1_addGoblin_1 : decode cX1_addGoblin 1 = .ok (.iload_n 1, 1) := dk_27 (dk_at dksX1_addGoblin_0 1 rfl rfl)
theorem dX1_addGoblin_2 : decode cX1_addGoblin 2 = .ok (.invokedynamic 95, 5) := by decide +kernel
theorem dX1_addGoblin_7 : decode cX1_addGoblin 7 = .ok (.invokevirtual 98, 3) := dk_182 0 98 (dk_at dksX1_addGoblin_0 7 rfl rfl)
theorem dX1_addGoblin_10 : decode cX1_addGoblin 10 = .ok (.ireturn, 1) := dk_172 (dk_at dksX1_addGoblin_0 10 rfl rfl)
abbrev cX1_lambda_addGoblin_0 : ByteArray := prog_1_method_89_code
def yX1_lambda_addGoblin_0 : MethodName := ⟨RX1, "lambda$addGoblin$0", "(ILGoblinHousehold$Household;)I"⟩
def dkwX1_lambda_addGoblin_0_0 : List UInt8 := [43, 26, 182, 1, 157, 172]
abbrev dktX1_lambda_addGoblin_0_0 : List UInt8 := dkwX1_lambda_addGoblin_0_0 ++ []
theorem dksX1_lambda_addGoblin_0_0 : cX1_lambda_addGoblin_0.data.toList.drop 0 = dktX1_lambda_addGoblin_0_0 := by decide +kernel
theorem dX1_lambda_addGoblin_0_0 : decode cX1_lambda_addGoblin_0 0 = .ok (.aload_n 1, 1) := dk_43 (dk_at dksX1_lambda_addGoblin_0_0 0 rfl rfl)
theorem dX1_lambda_addGoblin_0_1 : decode cX1_lambda_addGoblin_0 1 = .ok (.iload_n 0, 1) := dk_26 (dk_at dksX1_lambda_addGoblin_0_0 1 rfl rfl)
theorem dX1_lambda_addGoblin_0_2 : decode cX1_lambda_addGoblin_0 2 = .ok (.invokevirtual 413, 3) := dk_182 1 157 (dk_at dksX1_lambda_addGoblin_0_0 2 rfl rfl)
theorem dX1_lambda_addGoblin_0_5 : decode cX1_lambda_addGoblin_0 5 = .ok (.ireturn, 1) := dk_172 (dk_at dksX1_lambda_addGoblin_0_0 5 rfl rfl)
abbrev cX1_isBetween : ByteArray := prog_1_method_2_code
def yX1_isBetween : MethodName := ⟨RX1, "isBetween", "(III)Z"⟩
def dkwX1_isBetween_0 : List UInt8 := [26, 27, 161, 0, 12, 26, 28, 163, 0, 7, 4, 167, 0, 4, 3, 172]
abbrev dktX1_isBetween_0 : List UInt8 := dkwX1_isBetween_0 ++ []
theorem dksX1_isBetween_0 : cX1_isBetween.data.toList.drop 0 = dktX1_isBetween_0 := by decide +kernel
theorem dX1_isBetween_0 : decode cX1_isBetween 0 = .ok (.iload_n 0, 1) := dk_26 (dk_at dksX1_isBetween_0 0 rfl rfl)
theorem dX1_isBetween_1 : decode cX1_isBetween 1 = .ok (.iload_n 1, 1) := dk_27 (dk_at dksX1_isBetween_0 1 rfl rfl)
theorem dX1_isBetween_2 : decode cX1_isBetween 2 = .ok (.if_icmp .lt 12, 3) := dk_161 0 12 (dk_at dksX1_isBetween_0 2 rfl rfl)
theorem dX1_isBetween_5 : decode cX1_isBetween 5 = .ok (.iload_n 0, 1) := dk_26 (dk_at dksX1_isBetween_0 5 rfl rfl)
theorem dX1_isBetween_6 : decode cX1_isBetween 6 = .ok (.iload_n 2, 1) := dk_28 (dk_at dksX1_isBetween_0 6 rfl rfl)
theorem dX1_isBetween_7 : decode cX1_isBetween 7 = .ok (.if_icmp .gt 7, 3) := dk_163 0 7 (dk_at dksX1_isBetween_0 7 rfl rfl)
theorem dX1_isBetween_10 : decode cX1_isBetween 10 = .ok (.iconst 1, 1) := dk_4 (dk_at dksX1_isBetween_0 10 rfl rfl)
theorem dX1_isBetween_11 : decode cX1_isBetween 11 = .ok (.goto 4, 3) := dk_167 0 4 (dk_at dksX1_isBetween_0 11 rfl rfl)
theorem dX1_isBetween_14 : decode cX1_isBetween 14 = .ok (.iconst 0, 1) := dk_3 (dk_at dksX1_isBetween_0 14 rfl rfl)
theorem dX1_isBetween_15 : decode cX1_isBetween 15 = .ok (.ireturn, 1) := dk_172 (dk_at dksX1_isBetween_0 15 rfl rfl)
abbrev cX1_demand : ByteArray := prog_1_method_1_code
def yX1_demand : MethodName := ⟨RX1, "demand", "(ZLjava/lang/String;)V"⟩
def dkwX1_demand_0 : List UInt8 := [26, 154, 0, 12, 187, 0, 1, 89, 43, 183, 0, 3, 191, 177]
abbrev dktX1_demand_0 : List UInt8 := dkwX1_demand_0 ++ []
theorem dksX1_demand_0 : cX1_demand.data.toList.drop 0 = dktX1_demand_0 := by decide +kernel
theorem dX1_demand_0 : decode cX1_demand 0 = .ok (.iload_n 0, 1) := dk_26 (dk_at dksX1_demand_0 0 rfl rfl)
theorem dX1_demand_1 : decode cX1_demand 1 = .ok (.ifCond .ne 12, 3) := dk_154 0 12 (dk_at dksX1_demand_0 1 rfl rfl)
theorem dX1_demand_4 : decode cX1_demand 4 = .ok (.new 1, 3) := dk_187 0 1 (dk_at dksX1_demand_0 4 rfl rfl)
theorem dX1_demand_7 : decode cX1_demand 7 = .ok (.dup, 1) := dk_89 (dk_at dksX1_demand_0 7 rfl rfl)
theorem dX1_demand_8 : decode cX1_demand 8 = .ok (.aload_n 1, 1) := dk_43 (dk_at dksX1_demand_0 8 rfl rfl)
theorem dX1_demand_9 : decode cX1_demand 9 = .ok (.invokespecial 3, 3) := dk_183 0 3 (dk_at dksX1_demand_0 9 rfl rfl)
theorem dX1_demand_12 : decode cX1_demand 12 = .ok (.athrow, 1) := dk_191 (dk_at dksX1_demand_0 12 rfl rfl)
theorem dX1_demand_13 : decode cX1_demand 13 = .ok (.return_, 1) := dk_177 (dk_at dksX1_demand_0 13 rfl rfl)
abbrev cX1_apply : ByteArray := prog_1_method_6_code
def yX1_apply : MethodName := ⟨RX1, "apply", "(LGoblinHousehold$Change;)I"⟩
def dkwX1_apply_1 : List UInt8 := [182, 0, 91, 191]
abbrev dktX1_apply_1 : List UInt8 := dkwX1_apply_1 ++ []
def dkwX1_apply_0 : List UInt8 := [42, 180, 0, 35, 182, 0, 76, 77, 42, 44, 43, 44, 185, 0, 79, 2, 0, 182, 0, 85, 172, 78, 45]
abbrev dktX1_apply_0 : List UInt8 := dkwX1_apply_0 ++ dktX1_apply_1
theorem dksX1_apply_0 : cX1_apply.data.toList.drop 0 = dktX1_apply_0 := by decide +kernel
theorem dksX1_apply_1 : cX1_apply.data.toList.drop 23 = dktX1_apply_1 := dk_seg dksX1_apply_0 23 rfl rfl
theorem dX1_apply_0 : decode cX1_apply 0 = .ok (.aload_n 0, 1) := dk_42 (dk_at dksX1_apply_0 0 rfl rfl)
theorem dX1_apply_1 : decode cX1_apply 1 = .ok (.getfield 35, 3) := dk_180 0 35 (dk_at dksX1_apply_0 1 rfl rfl)
theorem dX1_apply_4 : decode cX1_apply 4 = .ok (.invokevirtual 76, 3) := dk_182 0 76 (dk_at dksX1_apply_0 4 rfl rfl)
theorem dX1_apply_7 : decode cX1_apply 7 = .ok (.astore_n 2, 1) := dk_77 (dk_at dksX1_apply_0 7 rfl rfl)
theorem dX1_apply_8 : decode cX1_apply 8 = .ok (.aload_n 0, 1) := dk_42 (dk_at dksX1_apply_0 8 rfl rfl)
theorem dX1_apply_9 : decode cX1_apply 9 = .ok (.aload_n 2, 1) := dk_44 (dk_at dksX1_apply_0 9 rfl rfl)
theorem dX1_apply_10 : decode cX1_apply 10 = .ok (.aload_n 1, 1) := dk_43 (dk_at dksX1_apply_0 10 rfl rfl)
theorem dX1_apply_11 : decode cX1_apply 11 = .ok (.aload_n 2, 1) := dk_44 (dk_at dksX1_apply_0 11 rfl rfl)
theorem dX1_apply_12 : decode cX1_apply 12 = .ok (.invokeinterface 79 2, 5) := by decide +kernel
theorem dX1_apply_17 : decode cX1_apply 17 = .ok (.invokevirtual 85, 3) := dk_182 0 85 (dk_at dksX1_apply_0 17 rfl rfl)
theorem dX1_apply_20 : decode cX1_apply 20 = .ok (.ireturn, 1) := dk_172 (dk_at dksX1_apply_0 20 rfl rfl)
theorem dX1_apply_21 : decode cX1_apply 21 = .ok (.astore_n 3, 1) := dk_78 (dk_at dksX1_apply_0 21 rfl rfl)
theorem dX1_apply_22 : decode cX1_apply 22 = .ok (.aload_n 3, 1) := dk_45 (dk_at dksX1_apply_0 22 rfl rfl)
theorem dX1_apply_23 : decode cX1_apply 23 = .ok (.invokevirtual 91, 3) := dk_182 0 91 (dk_at dksX1_apply_1 0 rfl rfl)
theorem dX1_apply_26 : decode cX1_apply 26 = .ok (.athrow, 1) := dk_191 (dk_at dksX1_apply_1 3 rfl rfl)
abbrev cX1_copyAll : ByteArray := prog_1_method_3_code
def yX1_copyAll : MethodName := ⟨RX1, "copyAll", "(Ljava/util/List;Ljava/util/List;)V"⟩
def dkwX1_copyAll_1 : List UInt8 := [185, 0, 19, 1, 0, 185, 0, 23, 2, 0, 87, 132, 2, 1, 167, 255, 221, 177]
abbrev dktX1_copyAll_1 : List UInt8 := dkwX1_copyAll_1 ++ []
def dkwX1_copyAll_0 : List UInt8 := [3, 61, 28, 42, 185, 0, 7, 1, 0, 162, 0, 31, 43, 42, 28, 185, 0, 13, 2, 0, 192, 0, 17]
abbrev dktX1_copyAll_0 : List UInt8 := dkwX1_copyAll_0 ++ dktX1_copyAll_1
theorem dksX1_copyAll_0 : cX1_copyAll.data.toList.drop 0 = dktX1_copyAll_0 := by decide +kernel
theorem dksX1_copyAll_1 : cX1_copyAll.data.toList.drop 23 = dktX1_copyAll_1 := dk_seg dksX1_copyAll_0 23 rfl rfl
theorem dX1_copyAll_0 : decode cX1_copyAll 0 = .ok (.iconst 0, 1) := dk_3 (dk_at dksX1_copyAll_0 0 rfl rfl)
theorem dX1_copyAll_1 : decode cX1_copyAll 1 = .ok (.istore_n 2, 1) := dk_61 (dk_at dksX1_copyAll_0 1 rfl rfl)
theorem dX1_copyAll_2 : decode cX1_copyAll 2 = .ok (.iload_n 2, 1) := dk_28 (dk_at dksX1_copyAll_0 2 rfl rfl)
theorem dX1_copyAll_3 : decode cX1_copyAll 3 = .ok (.aload_n 0, 1) := dk_42 (dk_at dksX1_copyAll_0 3 rfl rfl)
theorem dX1_copyAll_4 : decode cX1_copyAll 4 = .ok (.invokeinterface 7 1, 5) := by decide +kernel
theorem dX1_copyAll_9 : decode cX1_copyAll 9 = .ok (.if_icmp .ge 31, 3) := dk_162 0 31 (dk_at dksX1_copyAll_0 9 rfl rfl)
theorem dX1_copyAll_12 : decode cX1_copyAll 12 = .ok (.aload_n 1, 1) := dk_43 (dk_at dksX1_copyAll_0 12 rfl rfl)
theorem dX1_copyAll_13 : decode cX1_copyAll 13 = .ok (.aload_n 0, 1) := dk_42 (dk_at dksX1_copyAll_0 13 rfl rfl)
theorem dX1_copyAll_14 : decode cX1_copyAll 14 = .ok (.iload_n 2, 1) := dk_28 (dk_at dksX1_copyAll_0 14 rfl rfl)
theorem dX1_copyAll_15 : decode cX1_copyAll 15 = .ok (.invokeinterface 13 2, 5) := by decide +kernel
theorem dX1_copyAll_20 : decode cX1_copyAll 20 = .ok (.checkcast 17, 3) := dk_192 0 17 (dk_at dksX1_copyAll_0 20 rfl rfl)
theorem dX1_copyAll_23 : decode cX1_copyAll 23 = .ok (.invokeinterface 19 1, 5) := by decide +kernel
theorem dX1_copyAll_28 : decode cX1_copyAll 28 = .ok (.invokeinterface 23 2, 5) := by decide +kernel
theorem dX1_copyAll_33 : decode cX1_copyAll 33 = .ok (.pop, 1) := dk_87 (dk_at dksX1_copyAll_1 10 rfl rfl)
theorem dX1_copyAll_34 : decode cX1_copyAll 34 = .ok (.iinc 2 1, 3) := dk_132 2 1 (dk_at dksX1_copyAll_1 11 rfl rfl)
theorem dX1_copyAll_37 : decode cX1_copyAll 37 = .ok (.goto (-35), 3) := dk_167 255 221 (dk_at dksX1_copyAll_1 14 rfl rfl)
theorem dX1_copyAll_40 : decode cX1_copyAll 40 = .ok (.return_, 1) := dk_177 (dk_at dksX1_copyAll_1 17 rfl rfl)
abbrev cX1_commit : ByteArray := prog_1_method_5_code
def yX1_commit : MethodName := ⟨RX1, "commit", "(LGoblinHousehold$Household;I)I"⟩
def dkwX1_commit_1 : List UInt8 := [42, 180, 0, 35, 182, 0, 72, 42, 43, 181, 0, 35, 28, 172]
abbrev dktX1_commit_1 : List UInt8 := dkwX1_commit_1 ++ []
def dkwX1_commit_0 : List UInt8 := [42, 180, 0, 44, 182, 0, 68, 16, 8, 160, 0, 11, 42, 180, 0, 44, 182, 0, 69, 87, 42, 180, 0, 44]
abbrev dktX1_commit_0 : List UInt8 := dkwX1_commit_0 ++ dktX1_commit_1
theorem dksX1_commit_0 : cX1_commit.data.toList.drop 0 = dktX1_commit_0 := by decide +kernel
theorem dksX1_commit_1 : cX1_commit.data.toList.drop 24 = dktX1_commit_1 := dk_seg dksX1_commit_0 24 rfl rfl
theorem dX1_commit_0 : decode cX1_commit 0 = .ok (.aload_n 0, 1) := dk_42 (dk_at dksX1_commit_0 0 rfl rfl)
theorem dX1_commit_1 : decode cX1_commit 1 = .ok (.getfield 44, 3) := dk_180 0 44 (dk_at dksX1_commit_0 1 rfl rfl)
theorem dX1_commit_4 : decode cX1_commit 4 = .ok (.invokevirtual 68, 3) := dk_182 0 68 (dk_at dksX1_commit_0 4 rfl rfl)
theorem dX1_commit_7 : decode cX1_commit 7 = .ok (.bipush 8, 2) := dk_16 8 (dk_at dksX1_commit_0 7 rfl rfl)
theorem dX1_commit_9 : decode cX1_commit 9 = .ok (.if_icmp .ne 11, 3) := dk_160 0 11 (dk_at dksX1_commit_0 9 rfl rfl)
theorem dX1_commit_12 : decode cX1_commit 12 = .ok (.aload_n 0, 1) := dk_42 (dk_at dksX1_commit_0 12 rfl rfl)
theorem dX1_commit_13 : decode cX1_commit 13 = .ok (.getfield 44, 3) := dk_180 0 44 (dk_at dksX1_commit_0 13 rfl rfl)
theorem dX1_commit_16 : decode cX1_commit 16 = .ok (.invokevirtual 69, 3) := dk_182 0 69 (dk_at dksX1_commit_0 16 rfl rfl)
theorem dX1_commit_19 : decode cX1_commit 19 = .ok (.pop, 1) := dk_87 (dk_at dksX1_commit_0 19 rfl rfl)
theorem dX1_commit_20 : decode cX1_commit 20 = .ok (.aload_n 0, 1) := dk_42 (dk_at dksX1_commit_0 20 rfl rfl)
theorem dX1_commit_21 : decode cX1_commit 21 = .ok (.getfield 44, 3) := dk_180 0 44 (dk_at dksX1_commit_0 21 rfl rfl)
theorem dX1_commit_24 : decode cX1_commit 24 = .ok (.aload_n 0, 1) := dk_42 (dk_at dksX1_commit_1 0 rfl rfl)
theorem dX1_commit_25 : decode cX1_commit 25 = .ok (.getfield 35, 3) := dk_180 0 35 (dk_at dksX1_commit_1 1 rfl rfl)
theorem dX1_commit_28 : decode cX1_commit 28 = .ok (.invokevirtual 72, 3) := dk_182 0 72 (dk_at dksX1_commit_1 4 rfl rfl)
theorem dX1_commit_31 : decode cX1_commit 31 = .ok (.aload_n 0, 1) := dk_42 (dk_at dksX1_commit_1 7 rfl rfl)
theorem dX1_commit_32 : decode cX1_commit 32 = .ok (.aload_n 1, 1) := dk_43 (dk_at dksX1_commit_1 8 rfl rfl)
theorem dX1_commit_33 : decode cX1_commit 33 = .ok (.putfield 35, 3) := dk_181 0 35 (dk_at dksX1_commit_1 9 rfl rfl)
theorem dX1_commit_36 : decode cX1_commit 36 = .ok (.iload_n 2, 1) := dk_28 (dk_at dksX1_commit_1 12 rfl rfl)
theorem dX1_commit_37 : decode cX1_commit 37 = .ok (.ireturn, 1) := dk_172 (dk_at dksX1_commit_1 13 rfl rfl)
abbrev cX1_addBroom : ByteArray := prog_1_method_8_code
def yX1_addBroom : MethodName := ⟨RX1, "addBroom", "(I)I"⟩
def dkwX1_addBroom_0 : List UInt8 := [42, 27, 186, 0, 102, 0, 0, 182, 0, 98, 172]
abbrev dktX1_addBroom_0 : List UInt8 := dkwX1_addBroom_0 ++ []
theorem dksX1_addBroom_0 : cX1_addBroom.data.toList.drop 0 = dktX1_addBroom_0 := by decide +kernel
theorem dX1_addBroom_0 : decode cX1_addBroom 0 = .ok (.aload_n 0, 1) := dk_42 (dk_at dksX1_addBroom_0 0 rfl rfl)
theorem dX1_addBroom_1 : decode cX1_addBroom 1 = .ok (.iload_n 1, 1) := dk_27 (dk_at dksX1_addBroom_0 1 rfl rfl)
theorem dX1_addBroom_2 : decode cX1_addBroom 2 = .ok (.invokedynamic 102, 5) := by decide +kernel
theorem dX1_addBroom_7 : decode cX1_addBroom 7 = .ok (.invokevirtual 98, 3) := dk_182 0 98 (dk_at dksX1_addBroom_0 7 rfl rfl)
theorem dX1_addBroom_10 : decode cX1_addBroom 10 = .ok (.ireturn, 1) := dk_172 (dk_at dksX1_addBroom_0 10 rfl rfl)
abbrev cX1_lambda_addBroom_1 : ByteArray := prog_1_method_88_code
def yX1_lambda_addBroom_1 : MethodName := ⟨RX1, "lambda$addBroom$1", "(ILGoblinHousehold$Household;)I"⟩
def dkwX1_lambda_addBroom_1_0 : List UInt8 := [43, 26, 182, 1, 154, 172]
abbrev dktX1_lambda_addBroom_1_0 : List UInt8 := dkwX1_lambda_addBroom_1_0 ++ []
theorem dksX1_lambda_addBroom_1_0 : cX1_lambda_addBroom_1.data.toList.drop 0 = dktX1_lambda_addBroom_1_0 := by decide +kernel
theorem dX1_lambda_addBroom_1_0 : decode cX1_lambda_addBroom_1 0 = .ok (.aload_n 1, 1) := dk_43 (dk_at dksX1_lambda_addBroom_1_0 0 rfl rfl)
theorem dX1_lambda_addBroom_1_1 : decode cX1_lambda_addBroom_1 1 = .ok (.iload_n 0, 1) := dk_26 (dk_at dksX1_lambda_addBroom_1_0 1 rfl rfl)
theorem dX1_lambda_addBroom_1_2 : decode cX1_lambda_addBroom_1 2 = .ok (.invokevirtual 410, 3) := dk_182 1 154 (dk_at dksX1_lambda_addBroom_1_0 2 rfl rfl)
theorem dX1_lambda_addBroom_1_5 : decode cX1_lambda_addBroom_1 5 = .ok (.ireturn, 1) := dk_172 (dk_at dksX1_lambda_addBroom_1_0 5 rfl rfl)
abbrev cX1_banishBroom : ByteArray := prog_1_method_9_code
def yX1_banishBroom : MethodName := ⟨RX1, "banishBroom", "(I)I"⟩
def dkwX1_banishBroom_0 : List UInt8 := [42, 27, 186, 0, 103, 0, 0, 182, 0, 98, 172]
abbrev dktX1_banishBroom_0 : List UInt8 := dkwX1_banishBroom_0 ++ []
theorem dksX1_banishBroom_0 : cX1_banishBroom.data.toList.drop 0 = dktX1_banishBroom_0 := by decide +kernel
theorem dX1_banishBroom_0 : decode cX1_banishBroom 0 = .ok (.aload_n 0, 1) := dk_42 (dk_at dksX1_banishBroom_0 0 rfl rfl)
theorem dX1_banishBroom_1 : decode cX1_banishBroom 1 = .ok (.iload_n 1, 1) := dk_27 (dk_at dksX1_banishBroom_0 1 rfl rfl)
theorem dX1_banishBroom_2 : decode cX1_banishBroom 2 = .ok (.invokedynamic 103, 5) := by decide +kernel
theorem dX1_banishBroom_7 : decode cX1_banishBroom 7 = .ok (.invokevirtual 98, 3) := dk_182 0 98 (dk_at dksX1_banishBroom_0 7 rfl rfl)
theorem dX1_banishBroom_10 : decode cX1_banishBroom 10 = .ok (.ireturn, 1) := dk_172 (dk_at dksX1_banishBroom_0 10 rfl rfl)
abbrev cX1_lambda_banishBroom_2 : ByteArray := prog_1_method_87_code
def yX1_lambda_banishBroom_2 : MethodName := ⟨RX1, "lambda$banishBroom$2", "(ILGoblinHousehold$Household;)I"⟩
def dkwX1_lambda_banishBroom_2_0 : List UInt8 := [43, 26, 182, 1, 151, 172]
abbrev dktX1_lambda_banishBroom_2_0 : List UInt8 := dkwX1_lambda_banishBroom_2_0 ++ []
theorem dksX1_lambda_banishBroom_2_0 : cX1_lambda_banishBroom_2.data.toList.drop 0 = dktX1_lambda_banishBroom_2_0 := by decide +kernel
theorem dX1_lambda_banishBroom_2_0 : decode cX1_lambda_banishBroom_2 0 = .ok (.aload_n 1, 1) := dk_43 (dk_at dksX1_lambda_banishBroom_2_0 0 rfl rfl)
theorem dX1_lambda_banishBroom_2_1 : decode cX1_lambda_banishBroom_2 1 = .ok (.iload_n 0, 1) := dk_26 (dk_at dksX1_lambda_banishBroom_2_0 1 rfl rfl)
theorem dX1_lambda_banishBroom_2_2 : decode cX1_lambda_banishBroom_2 2 = .ok (.invokevirtual 407, 3) := dk_182 1 151 (dk_at dksX1_lambda_banishBroom_2_0 2 rfl rfl)
theorem dX1_lambda_banishBroom_2_5 : decode cX1_lambda_banishBroom_2 5 = .ok (.ireturn, 1) := dk_172 (dk_at dksX1_lambda_banishBroom_2_0 5 rfl rfl)
abbrev cX1_recallBroom : ByteArray := prog_1_method_10_code
def yX1_recallBroom : MethodName := ⟨RX1, "recallBroom", "(I)I"⟩
def dkwX1_recallBroom_0 : List UInt8 := [42, 27, 186, 0, 104, 0, 0, 182, 0, 98, 172]
abbrev dktX1_recallBroom_0 : List UInt8 := dkwX1_recallBroom_0 ++ []
theorem dksX1_recallBroom_0 : cX1_recallBroom.data.toList.drop 0 = dktX1_recallBroom_0 := by decide +kernel
theorem dX1_recallBroom_0 : decode cX1_recallBroom 0 = .ok (.aload_n 0, 1) := dk_42 (dk_at dksX1_recallBroom_0 0 rfl rfl)
theorem dX1_recallBroom_1 : decode cX1_recallBroom 1 = .ok (.iload_n 1, 1) := dk_27 (dk_at dksX1_recallBroom_0 1 rfl rfl)
theorem dX1_recallBroom_2 : decode cX1_recallBroom 2 = .ok (.invokedynamic 104, 5) := by decide +kernel
theorem dX1_recallBroom_7 : decode cX1_recallBroom 7 = .ok (.invokevirtual 98, 3) := dk_182 0 98 (dk_at dksX1_recallBroom_0 7 rfl rfl)
theorem dX1_recallBroom_10 : decode cX1_recallBroom 10 = .ok (.ireturn, 1) := dk_172 (dk_at dksX1_recallBroom_0 10 rfl rfl)
abbrev cX1_lambda_recallBroom_3 : ByteArray := prog_1_method_86_code
def yX1_lambda_recallBroom_3 : MethodName := ⟨RX1, "lambda$recallBroom$3", "(ILGoblinHousehold$Household;)I"⟩
def dkwX1_lambda_recallBroom_3_0 : List UInt8 := [43, 26, 182, 1, 148, 172]
abbrev dktX1_lambda_recallBroom_3_0 : List UInt8 := dkwX1_lambda_recallBroom_3_0 ++ []
theorem dksX1_lambda_recallBroom_3_0 : cX1_lambda_recallBroom_3.data.toList.drop 0 = dktX1_lambda_recallBroom_3_0 := by decide +kernel
theorem dX1_lambda_recallBroom_3_0 : decode cX1_lambda_recallBroom_3 0 = .ok (.aload_n 1, 1) := dk_43 (dk_at dksX1_lambda_recallBroom_3_0 0 rfl rfl)
theorem dX1_lambda_recallBroom_3_1 : decode cX1_lambda_recallBroom_3 1 = .ok (.iload_n 0, 1) := dk_26 (dk_at dksX1_lambda_recallBroom_3_0 1 rfl rfl)
theorem dX1_lambda_recallBroom_3_2 : decode cX1_lambda_recallBroom_3 2 = .ok (.invokevirtual 404, 3) := dk_182 1 148 (dk_at dksX1_lambda_recallBroom_3_0 2 rfl rfl)
theorem dX1_lambda_recallBroom_3_5 : decode cX1_lambda_recallBroom_3 5 = .ok (.ireturn, 1) := dk_172 (dk_at dksX1_lambda_recallBroom_3_0 5 rfl rfl)
abbrev cX1_hire : ByteArray := prog_1_method_11_code
def yX1_hire : MethodName := ⟨RX1, "hire", "(IIII)I"⟩
def dkwX1_hire_0 : List UInt8 := [42, 27, 28, 29, 21, 4, 186, 0, 105, 0, 0, 182, 0, 98, 172]
abbrev dktX1_hire_0 : List UInt8 := dkwX1_hire_0 ++ []
theorem dksX1_hire_0 : cX1_hire.data.toList.drop 0 = dktX1_hire_0 := by decide +kernel
theorem dX1_hire_0 : decode cX1_hire 0 = .ok (.aload_n 0, 1) := dk_42 (dk_at dksX1_hire_0 0 rfl rfl)
theorem dX1_hire_1 : decode cX1_hire 1 = .ok (.iload_n 1, 1) := dk_27 (dk_at dksX1_hire_0 1 rfl rfl)
theorem dX1_hire_2 : decode cX1_hire 2 = .ok (.iload_n 2, 1) := dk_28 (dk_at dksX1_hire_0 2 rfl rfl)
theorem dX1_hire_3 : decode cX1_hire 3 = .ok (.iload_n 3, 1) := dk_29 (dk_at dksX1_hire_0 3 rfl rfl)
theorem dX1_hire_4 : decode cX1_hire 4 = .ok (.iload 4, 2) := dk_21 4 (dk_at dksX1_hire_0 4 rfl rfl)
theorem dX1_hire_6 : decode cX1_hire 6 = .ok (.invokedynamic 105, 5) := by decide +kernel
theorem dX1_hire_11 : decode cX1_hire 11 = .ok (.invokevirtual 98, 3) := dk_182 0 98 (dk_at dksX1_hire_0 11 rfl rfl)
theorem dX1_hire_14 : decode cX1_hire 14 = .ok (.ireturn, 1) := dk_172 (dk_at dksX1_hire_0 14 rfl rfl)
abbrev cX1_lambda_hire_4 : ByteArray := prog_1_method_85_code
def yX1_lambda_hire_4 : MethodName := ⟨RX1, "lambda$hire$4", "(IIIILGoblinHousehold$Household;)I"⟩
def dkwX1_lambda_hire_4_0 : List UInt8 := [25, 4, 26, 27, 28, 29, 182, 1, 144, 172]
abbrev dktX1_lambda_hire_4_0 : List UInt8 := dkwX1_lambda_hire_4_0 ++ []
theorem dksX1_lambda_hire_4_0 : cX1_lambda_hire_4.data.toList.drop 0 = dktX1_lambda_hire_4_0 := by decide +kernel
theorem dX1_lambda_hire_4_0 : decode cX1_lambda_hire_4 0 = .ok (.aload 4, 2) := dk_25 4 (dk_at dksX1_lambda_hire_4_0 0 rfl rfl)
theorem dX1_lambda_hire_4_2 : decode cX1_lambda_hire_4 2 = .ok (.iload_n 0, 1) := dk_26 (dk_at dksX1_lambda_hire_4_0 2 rfl rfl)
theorem dX1_lambda_hire_4_3 : decode cX1_lambda_hire_4 3 = .ok (.iload_n 1, 1) := dk_27 (dk_at dksX1_lambda_hire_4_0 3 rfl rfl)
theorem dX1_lambda_hire_4_4 : decode cX1_lambda_hire_4 4 = .ok (.iload_n 2, 1) := dk_28 (dk_at dksX1_lambda_hire_4_0 4 rfl rfl)
theorem dX1_lambda_hire_4_5 : decode cX1_lambda_hire_4 5 = .ok (.iload_n 3, 1) := dk_29 (dk_at dksX1_lambda_hire_4_0 5 rfl rfl)
theorem dX1_lambda_hire_4_6 : decode cX1_lambda_hire_4 6 = .ok (.invokevirtual 400, 3) := dk_182 1 144 (dk_at dksX1_lambda_hire_4_0 6 rfl rfl)
theorem dX1_lambda_hire_4_9 : decode cX1_lambda_hire_4 9 = .ok (.ireturn, 1) := dk_172 (dk_at dksX1_lambda_hire_4_0 9 rfl rfl)
abbrev cX1_cancelContract : ByteArray := prog_1_method_12_code
def yX1_cancelContract : MethodName := ⟨RX1, "cancelContract", "(I)I"⟩
def dkwX1_cancelContract_0 : List UInt8 := [42, 27, 186, 0, 108, 0, 0, 182, 0, 98, 172]
abbrev dktX1_cancelContract_0 : List UInt8 := dkwX1_cancelContract_0 ++ []
theorem dksX1_cancelContract_0 : cX1_cancelContract.data.toList.drop 0 = dktX1_cancelContract_0 := by decide +kernel
theorem dX1_cancelContract_0 : decode cX1_cancelContract 0 = .ok (.aload_n 0, 1) := dk_42 (dk_at dksX1_cancelContract_0 0 rfl rfl)
theorem dX1_cancelContract_1 : decode cX1_cancelContract 1 = .ok (.iload_n 1, 1) := dk_27 (dk_at dksX1_cancelContract_0 1 rfl rfl)
theorem dX1_cancelContract_2 : decode cX1_cancelContract 2 = .ok (.invokedynamic 108, 5) := by decide +kernel
theorem dX1_cancelContract_7 : decode cX1_cancelContract 7 = .ok (.invokevirtual 98, 3) := dk_182 0 98 (dk_at dksX1_cancelContract_0 7 rfl rfl)
theorem dX1_cancelContract_10 : decode cX1_cancelContract 10 = .ok (.ireturn, 1) := dk_172 (dk_at dksX1_cancelContract_0 10 rfl rfl)
abbrev cX1_lambda_cancelContract_5 : ByteArray := prog_1_method_84_code
def yX1_lambda_cancelContract_5 : MethodName := ⟨RX1, "lambda$cancelContract$5", "(ILGoblinHousehold$Household;)I"⟩
def dkwX1_lambda_cancelContract_5_0 : List UInt8 := [43, 26, 182, 1, 141, 172]
abbrev dktX1_lambda_cancelContract_5_0 : List UInt8 := dkwX1_lambda_cancelContract_5_0 ++ []
theorem dksX1_lambda_cancelContract_5_0 : cX1_lambda_cancelContract_5.data.toList.drop 0 = dktX1_lambda_cancelContract_5_0 := by decide +kernel
theorem dX1_lambda_cancelContract_5_0 : decode cX1_lambda_cancelContract_5 0 = .ok (.aload_n 1, 1) := dk_43 (dk_at dksX1_lambda_cancelContract_5_0 0 rfl rfl)
theorem dX1_lambda_cancelContract_5_1 : decode cX1_lambda_cancelContract_5 1 = .ok (.iload_n 0, 1) := dk_26 (dk_at dksX1_lambda_cancelContract_5_0 1 rfl rfl)
theorem dX1_lambda_cancelContract_5_2 : decode cX1_lambda_cancelContract_5 2 = .ok (.invokevirtual 397, 3) := dk_182 1 141 (dk_at dksX1_lambda_cancelContract_5_0 2 rfl rfl)
theorem dX1_lambda_cancelContract_5_5 : decode cX1_lambda_cancelContract_5 5 = .ok (.ireturn, 1) := dk_172 (dk_at dksX1_lambda_cancelContract_5_0 5 rfl rfl)
abbrev cX1_rest : ByteArray := prog_1_method_13_code
def yX1_rest : MethodName := ⟨RX1, "rest", "(I)I"⟩
def dkwX1_rest_0 : List UInt8 := [42, 27, 186, 0, 109, 0, 0, 182, 0, 98, 172]
abbrev dktX1_rest_0 : List UInt8 := dkwX1_rest_0 ++ []
theorem dksX1_rest_0 : cX1_rest.data.toList.drop 0 = dktX1_rest_0 := by decide +kernel
theorem dX1_rest_0 : decode cX1_rest 0 = .ok (.aload_n 0, 1) := dk_42 (dk_at dksX1_rest_0 0 rfl rfl)
theorem dX1_rest_1 : decode cX1_rest 1 = .ok (.iload_n 1, 1) := dk_27 (dk_at dksX1_rest_0 1 rfl rfl)
theorem dX1_rest_2 : decode cX1_rest 2 = .ok (.invokedynamic 109, 5) := by decide +kernel
theorem dX1_rest_7 : decode cX1_rest 7 = .ok (.invokevirtual 98, 3) := dk_182 0 98 (dk_at dksX1_rest_0 7 rfl rfl)
theorem dX1_rest_10 : decode cX1_rest 10 = .ok (.ireturn, 1) := dk_172 (dk_at dksX1_rest_0 10 rfl rfl)
abbrev cX1_lambda_rest_6 : ByteArray := prog_1_method_83_code
def yX1_lambda_rest_6 : MethodName := ⟨RX1, "lambda$rest$6", "(ILGoblinHousehold$Household;)I"⟩
def dkwX1_lambda_rest_6_0 : List UInt8 := [43, 26, 4, 182, 1, 137, 172]
abbrev dktX1_lambda_rest_6_0 : List UInt8 := dkwX1_lambda_rest_6_0 ++ []
theorem dksX1_lambda_rest_6_0 : cX1_lambda_rest_6.data.toList.drop 0 = dktX1_lambda_rest_6_0 := by decide +kernel
theorem dX1_lambda_rest_6_0 : decode cX1_lambda_rest_6 0 = .ok (.aload_n 1, 1) := dk_43 (dk_at dksX1_lambda_rest_6_0 0 rfl rfl)
theorem dX1_lambda_rest_6_1 : decode cX1_lambda_rest_6 1 = .ok (.iload_n 0, 1) := dk_26 (dk_at dksX1_lambda_rest_6_0 1 rfl rfl)
theorem dX1_lambda_rest_6_2 : decode cX1_lambda_rest_6 2 = .ok (.iconst 1, 1) := dk_4 (dk_at dksX1_lambda_rest_6_0 2 rfl rfl)
theorem dX1_lambda_rest_6_3 : decode cX1_lambda_rest_6 3 = .ok (.invokevirtual 393, 3) := dk_182 1 137 (dk_at dksX1_lambda_rest_6_0 3 rfl rfl)
theorem dX1_lambda_rest_6_6 : decode cX1_lambda_rest_6 6 = .ok (.ireturn, 1) := dk_172 (dk_at dksX1_lambda_rest_6_0 6 rfl rfl)
abbrev cX1_wake : ByteArray := prog_1_method_14_code
def yX1_wake : MethodName := ⟨RX1, "wake", "(I)I"⟩
def dkwX1_wake_0 : List UInt8 := [42, 27, 186, 0, 110, 0, 0, 182, 0, 98, 172]
abbrev dktX1_wake_0 : List UInt8 := dkwX1_wake_0 ++ []
theorem dksX1_wake_0 : cX1_wake.data.toList.drop 0 = dktX1_wake_0 := by decide +kernel
theorem dX1_wake_0 : decode cX1_wake 0 = .ok (.aload_n 0, 1) := dk_42 (dk_at dksX1_wake_0 0 rfl rfl)
theorem dX1_wake_1 : decode cX1_wake 1 = .ok (.iload_n 1, 1) := dk_27 (dk_at dksX1_wake_0 1 rfl rfl)
theorem dX1_wake_2 : decode cX1_wake 2 = .ok (.invokedynamic 110, 5) := by decide +kernel
theorem dX1_wake_7 : decode cX1_wake 7 = .ok (.invokevirtual 98, 3) := dk_182 0 98 (dk_at dksX1_wake_0 7 rfl rfl)
theorem dX1_wake_10 : decode cX1_wake 10 = .ok (.ireturn, 1) := dk_172 (dk_at dksX1_wake_0 10 rfl rfl)
abbrev cX1_lambda_wake_7 : ByteArray := prog_1_method_82_code
def yX1_lambda_wake_7 : MethodName := ⟨RX1, "lambda$wake$7", "(ILGoblinHousehold$Household;)I"⟩
def dkwX1_lambda_wake_7_0 : List UInt8 := [43, 26, 3, 182, 1, 137, 172]
abbrev dktX1_lambda_wake_7_0 : List UInt8 := dkwX1_lambda_wake_7_0 ++ []
theorem dksX1_lambda_wake_7_0 : cX1_lambda_wake_7.data.toList.drop 0 = dktX1_lambda_wake_7_0 := by decide +kernel
theorem dX1_lambda_wake_7_0 : decode cX1_lambda_wake_7 0 = .ok (.aload_n 1, 1) := dk_43 (dk_at dksX1_lambda_wake_7_0 0 rfl rfl)
theorem dX1_lambda_wake_7_1 : decode cX1_lambda_wake_7 1 = .ok (.iload_n 0, 1) := dk_26 (dk_at dksX1_lambda_wake_7_0 1 rfl rfl)
theorem dX1_lambda_wake_7_2 : decode cX1_lambda_wake_7 2 = .ok (.iconst 0, 1) := dk_3 (dk_at dksX1_lambda_wake_7_0 2 rfl rfl)
theorem dX1_lambda_wake_7_3 : decode cX1_lambda_wake_7 3 = .ok (.invokevirtual 393, 3) := dk_182 1 137 (dk_at dksX1_lambda_wake_7_0 3 rfl rfl)
theorem dX1_lambda_wake_7_6 : decode cX1_lambda_wake_7 6 = .ok (.ireturn, 1) := dk_172 (dk_at dksX1_lambda_wake_7_0 6 rfl rfl)
abbrev cX1_lend : ByteArray := prog_1_method_15_code
def yX1_lend : MethodName := ⟨RX1, "lend", "(II)I"⟩
def dkwX1_lend_0 : List UInt8 := [42, 27, 28, 186, 0, 111, 0, 0, 182, 0, 98, 172]
abbrev dktX1_lend_0 : List UInt8 := dkwX1_lend_0 ++ []
theorem dksX1_lend_0 : cX1_lend.data.toList.drop 0 = dktX1_lend_0 := by decide +kernel
theorem dX1_lend_0 : decode cX1_lend 0 = .ok (.aload_n 0, 1) := dk_42 (dk_at dksX1_lend_0 0 rfl rfl)
theorem dX1_lend_1 : decode cX1_lend 1 = .ok (.iload_n 1, 1) := dk_27 (dk_at dksX1_lend_0 1 rfl rfl)
theorem dX1_lend_2 : decode cX1_lend 2 = .ok (.iload_n 2, 1) := dk_28 (dk_at dksX1_lend_0 2 rfl rfl)
theorem dX1_lend_3 : decode cX1_lend 3 = .ok (.invokedynamic 111, 5) := by decide +kernel
theorem dX1_lend_8 : decode cX1_lend 8 = .ok (.invokevirtual 98, 3) := dk_182 0 98 (dk_at dksX1_lend_0 8 rfl rfl)
theorem dX1_lend_11 : decode cX1_lend 11 = .ok (.ireturn, 1) := dk_172 (dk_at dksX1_lend_0 11 rfl rfl)
abbrev cX1_lambda_lend_8 : ByteArray := prog_1_method_81_code
def yX1_lambda_lend_8 : MethodName := ⟨RX1, "lambda$lend$8", "(IILGoblinHousehold$Household;)I"⟩
def dkwX1_lambda_lend_8_0 : List UInt8 := [44, 26, 27, 182, 1, 133, 172]
abbrev dktX1_lambda_lend_8_0 : List UInt8 := dkwX1_lambda_lend_8_0 ++ []
theorem dksX1_lambda_lend_8_0 : cX1_lambda_lend_8.data.toList.drop 0 = dktX1_lambda_lend_8_0 := by decide +kernel
theorem dX1_lambda_lend_8_0 : decode cX1_lambda_lend_8 0 = .ok (.aload_n 2, 1) := dk_44 (dk_at dksX1_lambda_lend_8_0 0 rfl rfl)
theorem dX1_lambda_lend_8_1 : decode cX1_lambda_lend_8 1 = .ok (.iload_n 0, 1) := dk_26 (dk_at dksX1_lambda_lend_8_0 1 rfl rfl)
theorem dX1_lambda_lend_8_2 : decode cX1_lambda_lend_8 2 = .ok (.iload_n 1, 1) := dk_27 (dk_at dksX1_lambda_lend_8_0 2 rfl rfl)
theorem dX1_lambda_lend_8_3 : decode cX1_lambda_lend_8 3 = .ok (.invokevirtual 389, 3) := dk_182 1 133 (dk_at dksX1_lambda_lend_8_0 3 rfl rfl)
theorem dX1_lambda_lend_8_6 : decode cX1_lambda_lend_8 6 = .ok (.ireturn, 1) := dk_172 (dk_at dksX1_lambda_lend_8_0 6 rfl rfl)
abbrev cX1_fund : ByteArray := prog_1_method_16_code
def yX1_fund : MethodName := ⟨RX1, "fund", "(I)I"⟩
def dkwX1_fund_0 : List UInt8 := [42, 27, 186, 0, 114, 0, 0, 182, 0, 98, 172]
abbrev dktX1_fund_0 : List UInt8 := dkwX1_fund_0 ++ []
theorem dksX1_fund_0 : cX1_fund.data.toList.drop 0 = dktX1_fund_0 := by decide +kernel
theorem dX1_fund_0 : decode cX1_fund 0 = .ok (.aload_n 0, 1) := dk_42 (dk_at dksX1_fund_0 0 rfl rfl)
theorem dX1_fund_1 : decode cX1_fund 1 = .ok (.iload_n 1, 1) := dk_27 (dk_at dksX1_fund_0 1 rfl rfl)
theorem dX1_fund_2 : decode cX1_fund 2 = .ok (.invokedynamic 114, 5) := by decide +kernel
theorem dX1_fund_7 : decode cX1_fund 7 = .ok (.invokevirtual 98, 3) := dk_182 0 98 (dk_at dksX1_fund_0 7 rfl rfl)
theorem dX1_fund_10 : decode cX1_fund 10 = .ok (.ireturn, 1) := dk_172 (dk_at dksX1_fund_0 10 rfl rfl)
abbrev cX1_lambda_fund_9 : ByteArray := prog_1_method_80_code
def yX1_lambda_fund_9 : MethodName := ⟨RX1, "lambda$fund$9", "(ILGoblinHousehold$Household;)I"⟩
def dkwX1_lambda_fund_9_0 : List UInt8 := [43, 26, 182, 1, 130, 172]
abbrev dktX1_lambda_fund_9_0 : List UInt8 := dkwX1_lambda_fund_9_0 ++ []
theorem dksX1_lambda_fund_9_0 : cX1_lambda_fund_9.data.toList.drop 0 = dktX1_lambda_fund_9_0 := by decide +kernel
theorem dX1_lambda_fund_9_0 : decode cX1_lambda_fund_9 0 = .ok (.aload_n 1, 1) := dk_43 (dk_at dksX1_lambda_fund_9_0 0 rfl rfl)
theorem dX1_lambda_fund_9_1 : decode cX1_lambda_fund_9 1 = .ok (.iload_n 0, 1) := dk_26 (dk_at dksX1_lambda_fund_9_0 1 rfl rfl)
theorem dX1_lambda_fund_9_2 : decode cX1_lambda_fund_9 2 = .ok (.invokevirtual 386, 3) := dk_182 1 130 (dk_at dksX1_lambda_fund_9_0 2 rfl rfl)
theorem dX1_lambda_fund_9_5 : decode cX1_lambda_fund_9 5 = .ok (.ireturn, 1) := dk_172 (dk_at dksX1_lambda_fund_9_0 5 rfl rfl)
abbrev cX1_spend : ByteArray := prog_1_method_17_code
def yX1_spend : MethodName := ⟨RX1, "spend", "(I)I"⟩
def dkwX1_spend_0 : List UInt8 := [42, 27, 186, 0, 115, 0, 0, 182, 0, 98, 172]
abbrev dktX1_spend_0 : List UInt8 := dkwX1_spend_0 ++ []
theorem dksX1_spend_0 : cX1_spend.data.toList.drop 0 = dktX1_spend_0 := by decide +kernel
theorem dX1_spend_0 : decode cX1_spend 0 = .ok (.aload_n 0, 1) := dk_42 (dk_at dksX1_spend_0 0 rfl rfl)
theorem dX1_spend_1 : decode cX1_spend 1 = .ok (.iload_n 1, 1) := dk_27 (dk_at dksX1_spend_0 1 rfl rfl)
theorem dX1_spend_2 : decode cX1_spend 2 = .ok (.invokedynamic 115, 5) := by decide +kernel
theorem dX1_spend_7 : decode cX1_spend 7 = .ok (.invokevirtual 98, 3) := dk_182 0 98 (dk_at dksX1_spend_0 7 rfl rfl)
theorem dX1_spend_10 : decode cX1_spend 10 = .ok (.ireturn, 1) := dk_172 (dk_at dksX1_spend_0 10 rfl rfl)
abbrev cX1_lambda_spend_10 : ByteArray := prog_1_method_79_code
def yX1_lambda_spend_10 : MethodName := ⟨RX1, "lambda$spend$10", "(ILGoblinHousehold$Household;)I"⟩
def dkwX1_lambda_spend_10_0 : List UInt8 := [43, 26, 182, 1, 127, 172]
abbrev dktX1_lambda_spend_10_0 : List UInt8 := dkwX1_lambda_spend_10_0 ++ []
theorem dksX1_lambda_spend_10_0 : cX1_lambda_spend_10.data.toList.drop 0 = dktX1_lambda_spend_10_0 := by decide +kernel
theorem dX1_lambda_spend_10_0 : decode cX1_lambda_spend_10 0 = .ok (.aload_n 1, 1) := dk_43 (dk_at dksX1_lambda_spend_10_0 0 rfl rfl)
theorem dX1_lambda_spend_10_1 : decode cX1_lambda_spend_10 1 = .ok (.iload_n 0, 1) := dk_26 (dk_at dksX1_lambda_spend_10_0 1 rfl rfl)
theorem dX1_lambda_spend_10_2 : decode cX1_lambda_spend_10 2 = .ok (.invokevirtual 383, 3) := dk_182 1 127 (dk_at dksX1_lambda_spend_10_0 2 rfl rfl)
theorem dX1_lambda_spend_10_5 : decode cX1_lambda_spend_10 5 = .ok (.ireturn, 1) := dk_172 (dk_at dksX1_lambda_spend_10_0 5 rfl rfl)
abbrev cX1_passNights : ByteArray := prog_1_method_18_code
def yX1_passNights : MethodName := ⟨RX1, "passNights", "(I)I"⟩
def dkwX1_passNights_0 : List UInt8 := [42, 27, 186, 0, 116, 0, 0, 182, 0, 98, 172]
abbrev dktX1_passNights_0 : List UInt8 := dkwX1_passNights_0 ++ []
theorem dksX1_passNights_0 : cX1_passNights.data.toList.drop 0 = dktX1_passNights_0 := by decide +kernel
theorem dX1_passNights_0 : decode cX1_passNights 0 = .ok (.aload_n 0, 1) := dk_42 (dk_at dksX1_passNights_0 0 rfl rfl)
theorem dX1_passNights_1 : decode cX1_passNights 1 = .ok (.iload_n 1, 1) := dk_27 (dk_at dksX1_passNights_0 1 rfl rfl)
theorem dX1_passNights_2 : decode cX1_passNights 2 = .ok (.invokedynamic 116, 5) := by decide +kernel
theorem dX1_passNights_7 : decode cX1_passNights 7 = .ok (.invokevirtual 98, 3) := dk_182 0 98 (dk_at dksX1_passNights_0 7 rfl rfl)
theorem dX1_passNights_10 : decode cX1_passNights 10 = .ok (.ireturn, 1) := dk_172 (dk_at dksX1_passNights_0 10 rfl rfl)
abbrev cX1_lambda_passNights_11 : ByteArray := prog_1_method_78_code
def yX1_lambda_passNights_11 : MethodName := ⟨RX1, "lambda$passNights$11", "(ILGoblinHousehold$Household;)I"⟩
def dkwX1_lambda_passNights_11_0 : List UInt8 := [43, 26, 182, 1, 124, 172]
abbrev dktX1_lambda_passNights_11_0 : List UInt8 := dkwX1_lambda_passNights_11_0 ++ []
theorem dksX1_lambda_passNights_11_0 : cX1_lambda_passNights_11.data.toList.drop 0 = dktX1_lambda_passNights_11_0 := by decide +kernel
theorem dX1_lambda_passNights_11_0 : decode cX1_lambda_passNights_11 0 = .ok (.aload_n 1, 1) := dk_43 (dk_at dksX1_lambda_passNights_11_0 0 rfl rfl)
theorem dX1_lambda_passNights_11_1 : decode cX1_lambda_passNights_11 1 = .ok (.iload_n 0, 1) := dk_26 (dk_at dksX1_lambda_passNights_11_0 1 rfl rfl)
theorem dX1_lambda_passNights_11_2 : decode cX1_lambda_passNights_11 2 = .ok (.invokevirtual 380, 3) := dk_182 1 124 (dk_at dksX1_lambda_passNights_11_0 2 rfl rfl)
theorem dX1_lambda_passNights_11_5 : decode cX1_lambda_passNights_11 5 = .ok (.ireturn, 1) := dk_172 (dk_at dksX1_lambda_passNights_11_0 5 rfl rfl)
abbrev cX1_dust : ByteArray := prog_1_method_25_code
def yX1_dust : MethodName := ⟨RX1, "dust", "(I)I"⟩
def dkwX1_dust_0 : List UInt8 := [27, 3, 8, 184, 0, 146, 184, 0, 137, 42, 180, 0, 35, 180, 0, 150, 27, 46, 172]
abbrev dktX1_dust_0 : List UInt8 := dkwX1_dust_0 ++ []
theorem dksX1_dust_0 : cX1_dust.data.toList.drop 0 = dktX1_dust_0 := by decide +kernel
theorem dX1_dust_0 : decode cX1_dust 0 = .ok (.iload_n 1, 1) := dk_27 (dk_at dksX1_dust_0 0 rfl rfl)
theorem dX1_dust_1 : decode cX1_dust 1 = .ok (.iconst 0, 1) := dk_3 (dk_at dksX1_dust_0 1 rfl rfl)
theorem dX1_dust_2 : decode cX1_dust 2 = .ok (.iconst 5, 1) := dk_8 (dk_at dksX1_dust_0 2 rfl rfl)
theorem dX1_dust_3 : decode cX1_dust 3 = .ok (.invokestatic 146, 3) := dk_184 0 146 (dk_at dksX1_dust_0 3 rfl rfl)
theorem dX1_dust_6 : decode cX1_dust 6 = .ok (.invokestatic 137, 3) := dk_184 0 137 (dk_at dksX1_dust_0 6 rfl rfl)
theorem dX1_dust_9 : decode cX1_dust 9 = .ok (.aload_n 0, 1) := dk_42 (dk_at dksX1_dust_0 9 rfl rfl)
theorem dX1_dust_10 : decode cX1_dust 10 = .ok (.getfield 35, 3) := dk_180 0 35 (dk_at dksX1_dust_0 10 rfl rfl)
theorem dX1_dust_13 : decode cX1_dust 13 = .ok (.getfield 150, 3) := dk_180 0 150 (dk_at dksX1_dust_0 13 rfl rfl)
theorem dX1_dust_16 : decode cX1_dust 16 = .ok (.iload_n 1, 1) := dk_27 (dk_at dksX1_dust_0 16 rfl rfl)
theorem dX1_dust_17 : decode cX1_dust 17 = .ok (.iaload, 1) := dk_46 (dk_at dksX1_dust_0 17 rfl rfl)
theorem dX1_dust_18 : decode cX1_dust 18 = .ok (.ireturn, 1) := dk_172 (dk_at dksX1_dust_0 18 rfl rfl)
abbrev cX1_checkIndex : ByteArray := prog_1_method_19_code
def yX1_checkIndex : MethodName := ⟨RX1, "checkIndex", "(Z)V"⟩
def dkwX1_checkIndex_0 : List UInt8 := [26, 154, 0, 11, 187, 0, 117, 89, 183, 0, 119, 191, 177]
abbrev dktX1_checkIndex_0 : List UInt8 := dkwX1_checkIndex_0 ++ []
theorem dksX1_checkIndex_0 : cX1_checkIndex.data.toList.drop 0 = dktX1_checkIndex_0 := by decide +kernel
theorem dX1_checkIndex_0 : decode cX1_checkIndex 0 = .ok (.iload_n 0, 1) := dk_26 (dk_at dksX1_checkIndex_0 0 rfl rfl)
theorem dX1_checkIndex_1 : decode cX1_checkIndex 1 = .ok (.ifCond .ne 11, 3) := dk_154 0 11 (dk_at dksX1_checkIndex_0 1 rfl rfl)
theorem dX1_checkIndex_4 : decode cX1_checkIndex 4 = .ok (.new 117, 3) := dk_187 0 117 (dk_at dksX1_checkIndex_0 4 rfl rfl)
theorem dX1_checkIndex_7 : decode cX1_checkIndex 7 = .ok (.dup, 1) := dk_89 (dk_at dksX1_checkIndex_0 7 rfl rfl)
theorem dX1_checkIndex_8 : decode cX1_checkIndex 8 = .ok (.invokespecial 119, 3) := dk_183 0 119 (dk_at dksX1_checkIndex_0 8 rfl rfl)
theorem dX1_checkIndex_11 : decode cX1_checkIndex 11 = .ok (.athrow, 1) := dk_191 (dk_at dksX1_checkIndex_0 11 rfl rfl)
theorem dX1_checkIndex_12 : decode cX1_checkIndex 12 = .ok (.return_, 1) := dk_177 (dk_at dksX1_checkIndex_0 12 rfl rfl)
abbrev cX1_roomByDust : ByteArray := prog_1_method_26_code
def yX1_roomByDust : MethodName := ⟨RX1, "roomByDust", "(I)I"⟩
def dkwX1_roomByDust_0 : List UInt8 := [42, 180, 0, 35, 27, 182, 0, 154, 184, 0, 158, 172]
abbrev dktX1_roomByDust_0 : List UInt8 := dkwX1_roomByDust_0 ++ []
theorem dksX1_roomByDust_0 : cX1_roomByDust.data.toList.drop 0 = dktX1_roomByDust_0 := by decide +kernel
theorem dX1_roomByDust_0 : decode cX1_roomByDust 0 = .ok (.aload_n 0, 1) := dk_42 (dk_at dksX1_roomByDust_0 0 rfl rfl)
theorem dX1_roomByDust_1 : decode cX1_roomByDust 1 = .ok (.getfield 35, 3) := dk_180 0 35 (dk_at dksX1_roomByDust_0 1 rfl rfl)
theorem dX1_roomByDust_4 : decode cX1_roomByDust 4 = .ok (.iload_n 1, 1) := dk_27 (dk_at dksX1_roomByDust_0 4 rfl rfl)
theorem dX1_roomByDust_5 : decode cX1_roomByDust 5 = .ok (.invokevirtual 154, 3) := dk_182 0 154 (dk_at dksX1_roomByDust_0 5 rfl rfl)
theorem dX1_roomByDust_8 : decode cX1_roomByDust 8 = .ok (.invokestatic 158, 3) := dk_184 0 158 (dk_at dksX1_roomByDust_0 8 rfl rfl)
theorem dX1_roomByDust_11 : decode cX1_roomByDust 11 = .ok (.ireturn, 1) := dk_172 (dk_at dksX1_roomByDust_0 11 rfl rfl)
abbrev cX1_found : ByteArray := prog_1_method_23_code
def yX1_found : MethodName := ⟨RX1, "found", "(I)I"⟩
def dkwX1_found_0 : List UInt8 := [26, 2, 159, 0, 7, 4, 167, 0, 4, 3, 184, 0, 129, 26, 172]
abbrev dktX1_found_0 : List UInt8 := dkwX1_found_0 ++ []
theorem dksX1_found_0 : cX1_found.data.toList.drop 0 = dktX1_found_0 := by decide +kernel
theorem dX1_found_0 : decode cX1_found 0 = .ok (.iload_n 0, 1) := dk_26 (dk_at dksX1_found_0 0 rfl rfl)
theorem dX1_found_1 : decode cX1_found 1 = .ok (.iconst (-1), 1) := dk_2 (dk_at dksX1_found_0 1 rfl rfl)
theorem dX1_found_2 : decode cX1_found 2 = .ok (.if_icmp .eq 7, 3) := dk_159 0 7 (dk_at dksX1_found_0 2 rfl rfl)
theorem dX1_found_5 : decode cX1_found 5 = .ok (.iconst 1, 1) := dk_4 (dk_at dksX1_found_0 5 rfl rfl)
theorem dX1_found_6 : decode cX1_found 6 = .ok (.goto 4, 3) := dk_167 0 4 (dk_at dksX1_found_0 6 rfl rfl)
theorem dX1_found_9 : decode cX1_found 9 = .ok (.iconst 0, 1) := dk_3 (dk_at dksX1_found_0 9 rfl rfl)
theorem dX1_found_10 : decode cX1_found 10 = .ok (.invokestatic 129, 3) := dk_184 0 129 (dk_at dksX1_found_0 10 rfl rfl)
theorem dX1_found_13 : decode cX1_found 13 = .ok (.iload_n 0, 1) := dk_26 (dk_at dksX1_found_0 13 rfl rfl)
theorem dX1_found_14 : decode cX1_found 14 = .ok (.ireturn, 1) := dk_172 (dk_at dksX1_found_0 14 rfl rfl)
abbrev cX1_checkElement : ByteArray := prog_1_method_21_code
def yX1_checkElement : MethodName := ⟨RX1, "checkElement", "(Z)V"⟩
def dkwX1_checkElement_0 : List UInt8 := [26, 154, 0, 11, 187, 0, 123, 89, 183, 0, 125, 191, 177]
abbrev dktX1_checkElement_0 : List UInt8 := dkwX1_checkElement_0 ++ []
theorem dksX1_checkElement_0 : cX1_checkElement.data.toList.drop 0 = dktX1_checkElement_0 := by decide +kernel
theorem dX1_checkElement_0 : decode cX1_checkElement 0 = .ok (.iload_n 0, 1) := dk_26 (dk_at dksX1_checkElement_0 0 rfl rfl)
theorem dX1_checkElement_1 : decode cX1_checkElement 1 = .ok (.ifCond .ne 11, 3) := dk_154 0 11 (dk_at dksX1_checkElement_0 1 rfl rfl)
theorem dX1_checkElement_4 : decode cX1_checkElement 4 = .ok (.new 123, 3) := dk_187 0 123 (dk_at dksX1_checkElement_0 4 rfl rfl)
theorem dX1_checkElement_7 : decode cX1_checkElement 7 = .ok (.dup, 1) := dk_89 (dk_at dksX1_checkElement_0 7 rfl rfl)
theorem dX1_checkElement_8 : decode cX1_checkElement 8 = .ok (.invokespecial 125, 3) := dk_183 0 125 (dk_at dksX1_checkElement_0 8 rfl rfl)
theorem dX1_checkElement_11 : decode cX1_checkElement 11 = .ok (.athrow, 1) := dk_191 (dk_at dksX1_checkElement_0 11 rfl rfl)
theorem dX1_checkElement_12 : decode cX1_checkElement 12 = .ok (.return_, 1) := dk_177 (dk_at dksX1_checkElement_0 12 rfl rfl)
abbrev cX1_power : ByteArray := prog_1_method_28_code
def yX1_power : MethodName := ⟨RX1, "power", "(I)I"⟩
def dkwX1_power_0 : List UInt8 := [42, 27, 182, 0, 161, 180, 0, 165, 172]
abbrev dktX1_power_0 : List UInt8 := dkwX1_power_0 ++ []
theorem dksX1_power_0 : cX1_power.data.toList.drop 0 = dktX1_power_0 := by decide +kernel
theorem dX1_power_0 : decode cX1_power 0 = .ok (.aload_n 0, 1) := dk_42 (dk_at dksX1_power_0 0 rfl rfl)
theorem dX1_power_1 : decode cX1_power 1 = .ok (.iload_n 1, 1) := dk_27 (dk_at dksX1_power_0 1 rfl rfl)
theorem dX1_power_2 : decode cX1_power 2 = .ok (.invokevirtual 161, 3) := dk_182 0 161 (dk_at dksX1_power_0 2 rfl rfl)
theorem dX1_power_5 : decode cX1_power 5 = .ok (.getfield 165, 3) := dk_180 0 165 (dk_at dksX1_power_0 5 rfl rfl)
theorem dX1_power_8 : decode cX1_power 8 = .ok (.ireturn, 1) := dk_172 (dk_at dksX1_power_0 8 rfl rfl)
abbrev cX1_broomAt : ByteArray := prog_1_method_24_code
def yX1_broomAt : MethodName := ⟨RX1, "broomAt", "(I)LGoblinHousehold$Broom;"⟩
def dkwX1_broomAt_1 : List UInt8 := [192, 0, 144, 176]
abbrev dktX1_broomAt_1 : List UInt8 := dkwX1_broomAt_1 ++ []
def dkwX1_broomAt_0 : List UInt8 := [42, 180, 0, 35, 27, 182, 0, 133, 184, 0, 137, 42, 180, 0, 35, 180, 0, 140, 27, 185, 0, 13, 2, 0]
abbrev dktX1_broomAt_0 : List UInt8 := dkwX1_broomAt_0 ++ dktX1_broomAt_1
theorem dksX1_broomAt_0 : cX1_broomAt.data.toList.drop 0 = dktX1_broomAt_0 := by decide +kernel
theorem dksX1_broomAt_1 : cX1_broomAt.data.toList.drop 24 = dktX1_broomAt_1 := dk_seg dksX1_broomAt_0 24 rfl rfl
theorem dX1_broomAt_0 : decode cX1_broomAt 0 = .ok (.aload_n 0, 1) := dk_42 (dk_at dksX1_broomAt_0 0 rfl rfl)
theorem dX1_broomAt_1 : decode cX1_broomAt 1 = .ok (.getfield 35, 3) := dk_180 0 35 (dk_at dksX1_broomAt_0 1 rfl rfl)
theorem dX1_broomAt_4 : decode cX1_broomAt 4 = .ok (.iload_n 1, 1) := dk_27 (dk_at dksX1_broomAt_0 4 rfl rfl)
theorem dX1_broomAt_5 : decode cX1_broomAt 5 = .ok (.invokevirtual 133, 3) := dk_182 0 133 (dk_at dksX1_broomAt_0 5 rfl rfl)
theorem dX1_broomAt_8 : decode cX1_broomAt 8 = .ok (.invokestatic 137, 3) := dk_184 0 137 (dk_at dksX1_broomAt_0 8 rfl rfl)
theorem dX1_broomAt_11 : decode cX1_broomAt 11 = .ok (.aload_n 0, 1) := dk_42 (dk_at dksX1_broomAt_0 11 rfl rfl)
theorem dX1_broomAt_12 : decode cX1_broomAt 12 = .ok (.getfield 35, 3) := dk_180 0 35 (dk_at dksX1_broomAt_0 12 rfl rfl)
theorem dX1_broomAt_15 : decode cX1_broomAt 15 = .ok (.getfield 140, 3) := dk_180 0 140 (dk_at dksX1_broomAt_0 15 rfl rfl)
theorem dX1_broomAt_18 : decode cX1_broomAt 18 = .ok (.iload_n 1, 1) := dk_27 (dk_at dksX1_broomAt_0 18 rfl rfl)
theorem dX1_broomAt_19 : decode cX1_broomAt 19 = .ok (.invokeinterface 13 2, 5) := by decide +kernel
theorem dX1_broomAt_24 : decode cX1_broomAt 24 = .ok (.checkcast 144, 3) := dk_192 0 144 (dk_at dksX1_broomAt_1 0 rfl rfl)
theorem dX1_broomAt_27 : decode cX1_broomAt 27 = .ok (.areturn, 1) := dk_176 (dk_at dksX1_broomAt_1 3 rfl rfl)
abbrev cX1_isBanished : ByteArray := prog_1_method_29_code
def yX1_isBanished : MethodName := ⟨RX1, "isBanished", "(I)Z"⟩
def dkwX1_isBanished_0 : List UInt8 := [42, 27, 182, 0, 161, 182, 0, 168, 154, 0, 7, 4, 167, 0, 4, 3, 172]
abbrev dktX1_isBanished_0 : List UInt8 := dkwX1_isBanished_0 ++ []
theorem dksX1_isBanished_0 : cX1_isBanished.data.toList.drop 0 = dktX1_isBanished_0 := by decide +kernel
theorem dX1_isBanished_0 : decode cX1_isBanished 0 = .ok (.aload_n 0, 1) := dk_42 (dk_at dksX1_isBanished_0 0 rfl rfl)
theorem dX1_isBanished_1 : decode cX1_isBanished 1 = .ok (.iload_n 1, 1) := dk_27 (dk_at dksX1_isBanished_0 1 rfl rfl)
theorem dX1_isBanished_2 : decode cX1_isBanished 2 = .ok (.invokevirtual 161, 3) := dk_182 0 161 (dk_at dksX1_isBanished_0 2 rfl rfl)
theorem dX1_isBanished_5 : decode cX1_isBanished 5 = .ok (.invokevirtual 168, 3) := dk_182 0 168 (dk_at dksX1_isBanished_0 5 rfl rfl)
theorem dX1_isBanished_8 : decode cX1_isBanished 8 = .ok (.ifCond .ne 7, 3) := dk_154 0 7 (dk_at dksX1_isBanished_0 8 rfl rfl)
theorem dX1_isBanished_11 : decode cX1_isBanished 11 = .ok (.iconst 1, 1) := dk_4 (dk_at dksX1_isBanished_0 11 rfl rfl)
theorem dX1_isBanished_12 : decode cX1_isBanished 12 = .ok (.goto 4, 3) := dk_167 0 4 (dk_at dksX1_isBanished_0 12 rfl rfl)
theorem dX1_isBanished_15 : decode cX1_isBanished 15 = .ok (.iconst 0, 1) := dk_3 (dk_at dksX1_isBanished_0 15 rfl rfl)
theorem dX1_isBanished_16 : decode cX1_isBanished 16 = .ok (.ireturn, 1) := dk_172 (dk_at dksX1_isBanished_0 16 rfl rfl)
abbrev cX1_strength : ByteArray := prog_1_method_32_code
def yX1_strength : MethodName := ⟨RX1, "strength", "(I)I"⟩
def dkwX1_strength_0 : List UInt8 := [42, 27, 182, 0, 180, 180, 0, 184, 172]
abbrev dktX1_strength_0 : List UInt8 := dkwX1_strength_0 ++ []
theorem dksX1_strength_0 : cX1_strength.data.toList.drop 0 = dktX1_strength_0 := by decide +kernel
theorem dX1_strength_0 : decode cX1_strength 0 = .ok (.aload_n 0, 1) := dk_42 (dk_at dksX1_strength_0 0 rfl rfl)
theorem dX1_strength_1 : decode cX1_strength 1 = .ok (.iload_n 1, 1) := dk_27 (dk_at dksX1_strength_0 1 rfl rfl)
theorem dX1_strength_2 : decode cX1_strength 2 = .ok (.invokevirtual 180, 3) := dk_182 0 180 (dk_at dksX1_strength_0 2 rfl rfl)
theorem dX1_strength_5 : decode cX1_strength 5 = .ok (.getfield 184, 3) := dk_180 0 184 (dk_at dksX1_strength_0 5 rfl rfl)
theorem dX1_strength_8 : decode cX1_strength 8 = .ok (.ireturn, 1) := dk_172 (dk_at dksX1_strength_0 8 rfl rfl)
abbrev cX1_goblinFor : ByteArray := prog_1_method_30_code
def yX1_goblinFor : MethodName := ⟨RX1, "goblinFor", "(I)LGoblinHousehold$Goblin;"⟩
def dkwX1_goblinFor_1 : List UInt8 := [192, 0, 178, 176]
abbrev dktX1_goblinFor_1 : List UInt8 := dkwX1_goblinFor_1 ++ []
def dkwX1_goblinFor_0 : List UInt8 := [42, 180, 0, 35, 27, 182, 0, 172, 184, 0, 137, 42, 180, 0, 35, 180, 0, 175, 27, 185, 0, 13, 2, 0]
abbrev dktX1_goblinFor_0 : List UInt8 := dkwX1_goblinFor_0 ++ dktX1_goblinFor_1
theorem dksX1_goblinFor_0 : cX1_goblinFor.data.toList.drop 0 = dktX1_goblinFor_0 := by decide +kernel
theorem dksX1_goblinFor_1 : cX1_goblinFor.data.toList.drop 24 = dktX1_goblinFor_1 := dk_seg dksX1_goblinFor_0 24 rfl rfl
theorem dX1_goblinFor_0 : decode cX1_goblinFor 0 = .ok (.aload_n 0, 1) := dk_42 (dk_at dksX1_goblinFor_0 0 rfl rfl)
theorem dX1_goblinFor_1 : decode cX1_goblinFor 1 = .ok (.getfield 35, 3) := dk_180 0 35 (dk_at dksX1_goblinFor_0 1 rfl rfl)
theorem dX1_goblinFor_4 : decode cX1_goblinFor 4 = .ok (.iload_n 1, 1) := dk_27 (dk_at dksX1_goblinFor_0 4 rfl rfl)
theorem dX1_goblinFor_5 : decode cX1_goblinFor 5 = .ok (.invokevirtual 172, 3) := dk_182 0 172 (dk_at dksX1_goblinFor_0 5 rfl rfl)
theorem dX1_goblinFor_8 : decode cX1_goblinFor 8 = .ok (.invokestatic 137, 3) := dk_184 0 137 (dk_at dksX1_goblinFor_0 8 rfl rfl)
theorem dX1_goblinFor_11 : decode cX1_goblinFor 11 = .ok (.aload_n 0, 1) := dk_42 (dk_at dksX1_goblinFor_0 11 rfl rfl)
theorem dX1_goblinFor_12 : decode cX1_goblinFor 12 = .ok (.getfield 35, 3) := dk_180 0 35 (dk_at dksX1_goblinFor_0 12 rfl rfl)
theorem dX1_goblinFor_15 : decode cX1_goblinFor 15 = .ok (.getfield 175, 3) := dk_180 0 175 (dk_at dksX1_goblinFor_0 15 rfl rfl)
theorem dX1_goblinFor_18 : decode cX1_goblinFor 18 = .ok (.iload_n 1, 1) := dk_27 (dk_at dksX1_goblinFor_0 18 rfl rfl)
theorem dX1_goblinFor_19 : decode cX1_goblinFor 19 = .ok (.invokeinterface 13 2, 5) := by decide +kernel
theorem dX1_goblinFor_24 : decode cX1_goblinFor 24 = .ok (.checkcast 178, 3) := dk_192 0 178 (dk_at dksX1_goblinFor_1 0 rfl rfl)
theorem dX1_goblinFor_27 : decode cX1_goblinFor 27 = .ok (.areturn, 1) := dk_176 (dk_at dksX1_goblinFor_1 3 rfl rfl)
abbrev cX1_purse : ByteArray := prog_1_method_33_code
def yX1_purse : MethodName := ⟨RX1, "purse", "(I)I"⟩
def dkwX1_purse_0 : List UInt8 := [42, 27, 182, 0, 180, 182, 0, 187, 172]
abbrev dktX1_purse_0 : List UInt8 := dkwX1_purse_0 ++ []
theorem dksX1_purse_0 : cX1_purse.data.toList.drop 0 = dktX1_purse_0 := by decide +kernel
theorem dX1_purse_0 : decode cX1_purse 0 = .ok (.aload_n 0, 1) := dk_42 (dk_at dksX1_purse_0 0 rfl rfl)
theorem dX1_purse_1 : decode cX1_purse 1 = .ok (.iload_n 1, 1) := dk_27 (dk_at dksX1_purse_0 1 rfl rfl)
theorem dX1_purse_2 : decode cX1_purse 2 = .ok (.invokevirtual 180, 3) := dk_182 0 180 (dk_at dksX1_purse_0 2 rfl rfl)
theorem dX1_purse_5 : decode cX1_purse 5 = .ok (.invokevirtual 187, 3) := dk_182 0 187 (dk_at dksX1_purse_0 5 rfl rfl)
theorem dX1_purse_8 : decode cX1_purse 8 = .ok (.ireturn, 1) := dk_172 (dk_at dksX1_purse_0 8 rfl rfl)
abbrev cX1_debt : ByteArray := prog_1_method_34_code
def yX1_debt : MethodName := ⟨RX1, "debt", "(I)I"⟩
def dkwX1_debt_0 : List UInt8 := [42, 27, 182, 0, 180, 182, 0, 190, 172]
abbrev dktX1_debt_0 : List UInt8 := dkwX1_debt_0 ++ []
theorem dksX1_debt_0 : cX1_debt.data.toList.drop 0 = dktX1_debt_0 := by decide +kernel
theorem dX1_debt_0 : decode cX1_debt 0 = .ok (.aload_n 0, 1) := dk_42 (dk_at dksX1_debt_0 0 rfl rfl)
theorem dX1_debt_1 : decode cX1_debt 1 = .ok (.iload_n 1, 1) := dk_27 (dk_at dksX1_debt_0 1 rfl rfl)
theorem dX1_debt_2 : decode cX1_debt 2 = .ok (.invokevirtual 180, 3) := dk_182 0 180 (dk_at dksX1_debt_0 2 rfl rfl)
theorem dX1_debt_5 : decode cX1_debt 5 = .ok (.invokevirtual 190, 3) := dk_182 0 190 (dk_at dksX1_debt_0 5 rfl rfl)
theorem dX1_debt_8 : decode cX1_debt 8 = .ok (.ireturn, 1) := dk_172 (dk_at dksX1_debt_0 8 rfl rfl)
abbrev cX1_skippedNights : ByteArray := prog_1_method_35_code
def yX1_skippedNights : MethodName := ⟨RX1, "skippedNights", "(I)I"⟩
def dkwX1_skippedNights_0 : List UInt8 := [42, 27, 182, 0, 180, 180, 0, 193, 172]
abbrev dktX1_skippedNights_0 : List UInt8 := dkwX1_skippedNights_0 ++ []
theorem dksX1_skippedNights_0 : cX1_skippedNights.data.toList.drop 0 = dktX1_skippedNights_0 := by decide +kernel
theorem dX1_skippedNights_0 : decode cX1_skippedNights 0 = .ok (.aload_n 0, 1) := dk_42 (dk_at dksX1_skippedNights_0 0 rfl rfl)
theorem dX1_skippedNights_1 : decode cX1_skippedNights 1 = .ok (.iload_n 1, 1) := dk_27 (dk_at dksX1_skippedNights_0 1 rfl rfl)
theorem dX1_skippedNights_2 : decode cX1_skippedNights 2 = .ok (.invokevirtual 180, 3) := dk_182 0 180 (dk_at dksX1_skippedNights_0 2 rfl rfl)
theorem dX1_skippedNights_5 : decode cX1_skippedNights 5 = .ok (.getfield 193, 3) := dk_180 0 193 (dk_at dksX1_skippedNights_0 5 rfl rfl)
theorem dX1_skippedNights_8 : decode cX1_skippedNights 8 = .ok (.ireturn, 1) := dk_172 (dk_at dksX1_skippedNights_0 8 rfl rfl)
abbrev cX1_isResting : ByteArray := prog_1_method_36_code
def yX1_isResting : MethodName := ⟨RX1, "isResting", "(I)Z"⟩
def dkwX1_isResting_0 : List UInt8 := [42, 27, 182, 0, 180, 180, 0, 196, 172]
abbrev dktX1_isResting_0 : List UInt8 := dkwX1_isResting_0 ++ []
theorem dksX1_isResting_0 : cX1_isResting.data.toList.drop 0 = dktX1_isResting_0 := by decide +kernel
theorem dX1_isResting_0 : decode cX1_isResting 0 = .ok (.aload_n 0, 1) := dk_42 (dk_at dksX1_isResting_0 0 rfl rfl)
theorem dX1_isResting_1 : decode cX1_isResting 1 = .ok (.iload_n 1, 1) := dk_27 (dk_at dksX1_isResting_0 1 rfl rfl)
theorem dX1_isResting_2 : decode cX1_isResting 2 = .ok (.invokevirtual 180, 3) := dk_182 0 180 (dk_at dksX1_isResting_0 2 rfl rfl)
theorem dX1_isResting_5 : decode cX1_isResting 5 = .ok (.getfield 196, 3) := dk_180 0 196 (dk_at dksX1_isResting_0 5 rfl rfl)
theorem dX1_isResting_8 : decode cX1_isResting 8 = .ok (.ireturn, 1) := dk_172 (dk_at dksX1_isResting_0 8 rfl rfl)
abbrev cX1_energy : ByteArray := prog_1_method_37_code
def yX1_energy : MethodName := ⟨RX1, "energy", "(I)I"⟩
def dkwX1_energy_0 : List UInt8 := [42, 180, 0, 35, 42, 27, 182, 0, 180, 182, 0, 200, 172]
abbrev dktX1_energy_0 : List UInt8 := dkwX1_energy_0 ++ []
theorem dksX1_energy_0 : cX1_energy.data.toList.drop 0 = dktX1_energy_0 := by decide +kernel
theorem dX1_energy_0 : decode cX1_energy 0 = .ok (.aload_n 0, 1) := dk_42 (dk_at dksX1_energy_0 0 rfl rfl)
theorem dX1_energy_1 : decode cX1_energy 1 = .ok (.getfield 35, 3) := dk_180 0 35 (dk_at dksX1_energy_0 1 rfl rfl)
theorem dX1_energy_4 : decode cX1_energy 4 = .ok (.aload_n 0, 1) := dk_42 (dk_at dksX1_energy_0 4 rfl rfl)
theorem dX1_energy_5 : decode cX1_energy 5 = .ok (.iload_n 1, 1) := dk_27 (dk_at dksX1_energy_0 5 rfl rfl)
theorem dX1_energy_6 : decode cX1_energy 6 = .ok (.invokevirtual 180, 3) := dk_182 0 180 (dk_at dksX1_energy_0 6 rfl rfl)
theorem dX1_energy_9 : decode cX1_energy 9 = .ok (.invokevirtual 200, 3) := dk_182 0 200 (dk_at dksX1_energy_0 9 rfl rfl)
theorem dX1_energy_12 : decode cX1_energy 12 = .ok (.ireturn, 1) := dk_172 (dk_at dksX1_energy_0 12 rfl rfl)
abbrev cX1_goblinByWealth : ByteArray := prog_1_method_38_code
def yX1_goblinByWealth : MethodName := ⟨RX1, "goblinByWealth", "(I)I"⟩
def dkwX1_goblinByWealth_0 : List UInt8 := [42, 180, 0, 35, 27, 182, 0, 204, 184, 0, 158, 172]
abbrev dktX1_goblinByWealth_0 : List UInt8 := dkwX1_goblinByWealth_0 ++ []
theorem dksX1_goblinByWealth_0 : cX1_goblinByWealth.data.toList.drop 0 = dktX1_goblinByWealth_0 := by decide +kernel
theorem dX1_goblinByWealth_0 : decode cX1_goblinByWealth 0 = .ok (.aload_n 0, 1) := dk_42 (dk_at dksX1_goblinByWealth_0 0 rfl rfl)
theorem dX1_goblinByWealth_1 : decode cX1_goblinByWealth 1 = .ok (.getfield 35, 3) := dk_180 0 35 (dk_at dksX1_goblinByWealth_0 1 rfl rfl)
theorem dX1_goblinByWealth_4 : decode cX1_goblinByWealth 4 = .ok (.iload_n 1, 1) := dk_27 (dk_at dksX1_goblinByWealth_0 4 rfl rfl)
theorem dX1_goblinByWealth_5 : decode cX1_goblinByWealth 5 = .ok (.invokevirtual 204, 3) := dk_182 0 204 (dk_at dksX1_goblinByWealth_0 5 rfl rfl)
theorem dX1_goblinByWealth_8 : decode cX1_goblinByWealth 8 = .ok (.invokestatic 158, 3) := dk_184 0 158 (dk_at dksX1_goblinByWealth_0 8 rfl rfl)
theorem dX1_goblinByWealth_11 : decode cX1_goblinByWealth 11 = .ok (.ireturn, 1) := dk_172 (dk_at dksX1_goblinByWealth_0 11 rfl rfl)
abbrev cX1_bestWages : ByteArray := prog_1_method_39_code
def yX1_bestWages : MethodName := ⟨RX1, "bestWages", "(I)I"⟩
def dkwX1_bestWages_0 : List UInt8 := [42, 180, 0, 35, 27, 182, 0, 172, 184, 0, 137, 42, 180, 0, 35, 27, 182, 0, 207, 172]
abbrev dktX1_bestWages_0 : List UInt8 := dkwX1_bestWages_0 ++ []
theorem dksX1_bestWages_0 : cX1_bestWages.data.toList.drop 0 = dktX1_bestWages_0 := by decide +kernel
theorem dX1_bestWages_0 : decode cX1_bestWages 0 = .ok (.aload_n 0, 1) := dk_42 (dk_at dksX1_bestWages_0 0 rfl rfl)
theorem dX1_bestWages_1 : decode cX1_bestWages 1 = .ok (.getfield 35, 3) := dk_180 0 35 (dk_at dksX1_bestWages_0 1 rfl rfl)
theorem dX1_bestWages_4 : decode cX1_bestWages 4 = .ok (.iload_n 1, 1) := dk_27 (dk_at dksX1_bestWages_0 4 rfl rfl)
theorem dX1_bestWages_5 : decode cX1_bestWages 5 = .ok (.invokevirtual 172, 3) := dk_182 0 172 (dk_at dksX1_bestWages_0 5 rfl rfl)
theorem dX1_bestWages_8 : decode cX1_bestWages 8 = .ok (.invokestatic 137, 3) := dk_184 0 137 (dk_at dksX1_bestWages_0 8 rfl rfl)
theorem dX1_bestWages_11 : decode cX1_bestWages 11 = .ok (.aload_n 0, 1) := dk_42 (dk_at dksX1_bestWages_0 11 rfl rfl)
theorem dX1_bestWages_12 : decode cX1_bestWages 12 = .ok (.getfield 35, 3) := dk_180 0 35 (dk_at dksX1_bestWages_0 12 rfl rfl)
theorem dX1_bestWages_15 : decode cX1_bestWages 15 = .ok (.iload_n 1, 1) := dk_27 (dk_at dksX1_bestWages_0 15 rfl rfl)
theorem dX1_bestWages_16 : decode cX1_bestWages 16 = .ok (.invokevirtual 207, 3) := dk_182 0 207 (dk_at dksX1_bestWages_0 16 rfl rfl)
theorem dX1_bestWages_19 : decode cX1_bestWages 19 = .ok (.ireturn, 1) := dk_172 (dk_at dksX1_bestWages_0 19 rfl rfl)
abbrev cX1_bestWagesByTable : ByteArray := prog_1_method_40_code
def yX1_bestWagesByTable : MethodName := ⟨RX1, "bestWagesByTable", "(I)I"⟩
def dkwX1_bestWagesByTable_0 : List UInt8 := [42, 180, 0, 35, 27, 182, 0, 172, 184, 0, 137, 42, 180, 0, 35, 27, 182, 0, 210, 172]
abbrev dktX1_bestWagesByTable_0 : List UInt8 := dkwX1_bestWagesByTable_0 ++ []
theorem dksX1_bestWagesByTable_0 : cX1_bestWagesByTable.data.toList.drop 0 = dktX1_bestWagesByTable_0 := by decide +kernel
theorem dX1_bestWagesByTable_0 : decode cX1_bestWagesByTable 0 = .ok (.aload_n 0, 1) := dk_42 (dk_at dksX1_bestWagesByTable_0 0 rfl rfl)
theorem dX1_bestWagesByTable_1 : decode cX1_bestWagesByTable 1 = .ok (.getfield 35, 3) := dk_180 0 35 (dk_at dksX1_bestWagesByTable_0 1 rfl rfl)
theorem dX1_bestWagesByTable_4 : decode cX1_bestWagesByTable 4 = .ok (.iload_n 1, 1) := dk_27 (dk_at dksX1_bestWagesByTable_0 4 rfl rfl)
theorem dX1_bestWagesByTable_5 : decode cX1_bestWagesByTable 5 = .ok (.invokevirtual 172, 3) := dk_182 0 172 (dk_at dksX1_bestWagesByTable_0 5 rfl rfl)
theorem dX1_bestWagesByTable_8 : decode cX1_bestWagesByTable 8 = .ok (.invokestatic 137, 3) := dk_184 0 137 (dk_at dksX1_bestWagesByTable_0 8 rfl rfl)
theorem dX1_bestWagesByTable_11 : decode cX1_bestWagesByTable 11 = .ok (.aload_n 0, 1) := dk_42 (dk_at dksX1_bestWagesByTable_0 11 rfl rfl)
theorem dX1_bestWagesByTable_12 : decode cX1_bestWagesByTable 12 = .ok (.getfield 35, 3) := dk_180 0 35 (dk_at dksX1_bestWagesByTable_0 12 rfl rfl)
theorem dX1_bestWagesByTable_15 : decode cX1_bestWagesByTable 15 = .ok (.iload_n 1, 1) := dk_27 (dk_at dksX1_bestWagesByTable_0 15 rfl rfl)
theorem dX1_bestWagesByTable_16 : decode cX1_bestWagesByTable 16 = .ok (.invokevirtual 210, 3) := dk_182 0 210 (dk_at dksX1_bestWagesByTable_0 16 rfl rfl)
theorem dX1_bestWagesByTable_19 : decode cX1_bestWagesByTable 19 = .ok (.ireturn, 1) := dk_172 (dk_at dksX1_bestWagesByTable_0 19 rfl rfl)
abbrev cX1_contractAt : ByteArray := prog_1_method_43_code
def yX1_contractAt : MethodName := ⟨RX1, "contractAt", "(I)I"⟩
def dkwX1_contractAt_1 : List UInt8 := [185, 0, 13, 2, 0, 192, 0, 229, 180, 0, 231, 172]
abbrev dktX1_contractAt_1 : List UInt8 := dkwX1_contractAt_1 ++ []
def dkwX1_contractAt_0 : List UInt8 := [27, 3, 42, 182, 0, 226, 4, 100, 184, 0, 146, 184, 0, 129, 42, 180, 0, 35, 180, 0, 223, 27]
abbrev dktX1_contractAt_0 : List UInt8 := dkwX1_contractAt_0 ++ dktX1_contractAt_1
theorem dksX1_contractAt_0 : cX1_contractAt.data.toList.drop 0 = dktX1_contractAt_0 := by decide +kernel
theorem dksX1_contractAt_1 : cX1_contractAt.data.toList.drop 22 = dktX1_contractAt_1 := dk_seg dksX1_contractAt_0 22 rfl rfl
theorem dX1_contractAt_0 : decode cX1_contractAt 0 = .ok (.iload_n 1, 1) := dk_27 (dk_at dksX1_contractAt_0 0 rfl rfl)
theorem dX1_contractAt_1 : decode cX1_contractAt 1 = .ok (.iconst 0, 1) := dk_3 (dk_at dksX1_contractAt_0 1 rfl rfl)
theorem dX1_contractAt_2 : decode cX1_contractAt 2 = .ok (.aload_n 0, 1) := dk_42 (dk_at dksX1_contractAt_0 2 rfl rfl)
theorem dX1_contractAt_3 : decode cX1_contractAt 3 = .ok (.invokevirtual 226, 3) := dk_182 0 226 (dk_at dksX1_contractAt_0 3 rfl rfl)
theorem dX1_contractAt_6 : decode cX1_contractAt 6 = .ok (.iconst 1, 1) := dk_4 (dk_at dksX1_contractAt_0 6 rfl rfl)
theorem dX1_contractAt_7 : decode cX1_contractAt 7 = .ok (.isub, 1) := dk_100 (dk_at dksX1_contractAt_0 7 rfl rfl)
theorem dX1_contractAt_8 : decode cX1_contractAt 8 = .ok (.invokestatic 146, 3) := dk_184 0 146 (dk_at dksX1_contractAt_0 8 rfl rfl)
theorem dX1_contractAt_11 : decode cX1_contractAt 11 = .ok (.invokestatic 129, 3) := dk_184 0 129 (dk_at dksX1_contractAt_0 11 rfl rfl)
theorem dX1_contractAt_14 : decode cX1_contractAt 14 = .ok (.aload_n 0, 1) := dk_42 (dk_at dksX1_contractAt_0 14 rfl rfl)
theorem dX1_contractAt_15 : decode cX1_contractAt 15 = .ok (.getfield 35, 3) := dk_180 0 35 (dk_at dksX1_contractAt_0 15 rfl rfl)
theorem dX1_contractAt_18 : decode cX1_contractAt 18 = .ok (.getfield 223, 3) := dk_180 0 223 (dk_at dksX1_contractAt_0 18 rfl rfl)
theorem dX1_contractAt_21 : decode cX1_contractAt 21 = .ok (.iload_n 1, 1) := dk_27 (dk_at dksX1_contractAt_0 21 rfl rfl)
theorem dX1_contractAt_22 : decode cX1_contractAt 22 = .ok (.invokeinterface 13 2, 5) := by decide +kernel
theorem dX1_contractAt_27 : decode cX1_contractAt 27 = .ok (.checkcast 229, 3) := dk_192 0 229 (dk_at dksX1_contractAt_1 5 rfl rfl)
theorem dX1_contractAt_30 : decode cX1_contractAt 30 = .ok (.getfield 231, 3) := dk_180 0 231 (dk_at dksX1_contractAt_1 8 rfl rfl)
theorem dX1_contractAt_33 : decode cX1_contractAt 33 = .ok (.ireturn, 1) := dk_172 (dk_at dksX1_contractAt_1 11 rfl rfl)
abbrev cX1_goblinOf : ByteArray := prog_1_method_44_code
def yX1_goblinOf : MethodName := ⟨RX1, "goblinOf", "(I)I"⟩
def dkwX1_goblinOf_0 : List UInt8 := [42, 27, 186, 0, 234, 0, 0, 182, 0, 237, 172]
abbrev dktX1_goblinOf_0 : List UInt8 := dkwX1_goblinOf_0 ++ []
theorem dksX1_goblinOf_0 : cX1_goblinOf.data.toList.drop 0 = dktX1_goblinOf_0 := by decide +kernel
theorem dX1_goblinOf_0 : decode cX1_goblinOf 0 = .ok (.aload_n 0, 1) := dk_42 (dk_at dksX1_goblinOf_0 0 rfl rfl)
theorem dX1_goblinOf_1 : decode cX1_goblinOf 1 = .ok (.iload_n 1, 1) := dk_27 (dk_at dksX1_goblinOf_0 1 rfl rfl)
theorem dX1_goblinOf_2 : decode cX1_goblinOf 2 = .ok (.invokedynamic 234, 5) := by decide +kernel
theorem dX1_goblinOf_7 : decode cX1_goblinOf 7 = .ok (.invokevirtual 237, 3) := dk_182 0 237 (dk_at dksX1_goblinOf_0 7 rfl rfl)
theorem dX1_goblinOf_10 : decode cX1_goblinOf 10 = .ok (.ireturn, 1) := dk_172 (dk_at dksX1_goblinOf_0 10 rfl rfl)
abbrev cX1_lambda_goblinOf_12 : ByteArray := prog_1_method_77_code
def yX1_lambda_goblinOf_12 : MethodName := ⟨RX1, "lambda$goblinOf$12", "(LGoblinHousehold$Contract;)I"⟩
theorem dX1_lambda_goblinOf_12_0 : decode cX1_lambda_goblinOf_12 0 = .ok (.aload_n 0, 1) := by decide +kernel
theorem dX1_lambda_goblinOf_12_1 : decode cX1_lambda_goblinOf_12 1 = .ok (.getfield 377, 3) := by decide +kernel
theorem dX1_lambda_goblinOf_12_4 : decode cX1_lambda_goblinOf_12 4 = .ok (.ireturn, 1) := by decide +kernel
abbrev cX1_about : ByteArray := prog_1_method_41_code
def yX1_about : MethodName := ⟨RX1, "about", "(ILGoblinHousehold$Question;)I"⟩
def dkwX1_about_1 : List UInt8 := [185, 0, 217, 2, 0, 172]
abbrev dktX1_about_1 : List UInt8 := dkwX1_about_1 ++ []
def dkwX1_about_0 : List UInt8 := [42, 180, 0, 35, 27, 182, 0, 213, 78, 45, 198, 0, 7, 4, 167, 0, 4, 3, 184, 0, 129, 44, 45]
abbrev dktX1_about_0 : List UInt8 := dkwX1_about_0 ++ dktX1_about_1
theorem dksX1_about_0 : cX1_about.data.toList.drop 0 = dktX1_about_0 := by decide +kernel
theorem dksX1_about_1 : cX1_about.data.toList.drop 23 = dktX1_about_1 := dk_seg dksX1_about_0 23 rfl rfl
theorem dX1_about_0 : decode cX1_about 0 = .ok (.aload_n 0, 1) := dk_42 (dk_at dksX1_about_0 0 rfl rfl)
theorem dX1_about_1 : decode cX1_about 1 = .ok (.getfield 35, 3) := dk_180 0 35 (dk_at dksX1_about_0 1 rfl rfl)
theorem dX1_about_4 : decode cX1_about 4 = .ok (.iload_n 1, 1) := dk_27 (dk_at dksX1_about_0 4 rfl rfl)
theorem dX1_about_5 : decode cX1_about 5 = .ok (.invokevirtual 213, 3) := dk_182 0 213 (dk_at dksX1_about_0 5 rfl rfl)
theorem dX1_about_8 : decode cX1_about 8 = .ok (.astore_n 3, 1) := dk_78 (dk_at dksX1_about_0 8 rfl rfl)
theorem dX1_about_9 : decode cX1_about 9 = .ok (.aload_n 3, 1) := dk_45 (dk_at dksX1_about_0 9 rfl rfl)
theorem dX1_about_10 : decode cX1_about 10 = .ok (.ifnull 7, 3) := dk_198 0 7 (dk_at dksX1_about_0 10 rfl rfl)
theorem dX1_about_13 : decode cX1_about 13 = .ok (.iconst 1, 1) := dk_4 (dk_at dksX1_about_0 13 rfl rfl)
theorem dX1_about_14 : decode cX1_about 14 = .ok (.goto 4, 3) := dk_167 0 4 (dk_at dksX1_about_0 14 rfl rfl)
theorem dX1_about_17 : decode cX1_about 17 = .ok (.iconst 0, 1) := dk_3 (dk_at dksX1_about_0 17 rfl rfl)
theorem dX1_about_18 : decode cX1_about 18 = .ok (.invokestatic 129, 3) := dk_184 0 129 (dk_at dksX1_about_0 18 rfl rfl)
theorem dX1_about_21 : decode cX1_about 21 = .ok (.aload_n 2, 1) := dk_44 (dk_at dksX1_about_0 21 rfl rfl)
theorem dX1_about_22 : decode cX1_about 22 = .ok (.aload_n 3, 1) := dk_45 (dk_at dksX1_about_0 22 rfl rfl)
theorem dX1_about_23 : decode cX1_about 23 = .ok (.invokeinterface 217 2, 5) := by decide +kernel
theorem dX1_about_28 : decode cX1_about 28 = .ok (.ireturn, 1) := dk_172 (dk_at dksX1_about_1 5 rfl rfl)
abbrev cX1_roomOf : ByteArray := prog_1_method_45_code
def yX1_roomOf : MethodName := ⟨RX1, "roomOf", "(I)I"⟩
def dkwX1_roomOf_0 : List UInt8 := [42, 27, 186, 0, 241, 0, 0, 182, 0, 237, 172]
abbrev dktX1_roomOf_0 : List UInt8 := dkwX1_roomOf_0 ++ []
theorem dksX1_roomOf_0 : cX1_roomOf.data.toList.drop 0 = dktX1_roomOf_0 := by decide +kernel
theorem dX1_roomOf_0 : decode cX1_roomOf 0 = .ok (.aload_n 0, 1) := dk_42 (dk_at dksX1_roomOf_0 0 rfl rfl)
theorem dX1_roomOf_1 : decode cX1_roomOf 1 = .ok (.iload_n 1, 1) := dk_27 (dk_at dksX1_roomOf_0 1 rfl rfl)
theorem dX1_roomOf_2 : decode cX1_roomOf 2 = .ok (.invokedynamic 241, 5) := by decide +kernel
theorem dX1_roomOf_7 : decode cX1_roomOf 7 = .ok (.invokevirtual 237, 3) := dk_182 0 237 (dk_at dksX1_roomOf_0 7 rfl rfl)
theorem dX1_roomOf_10 : decode cX1_roomOf 10 = .ok (.ireturn, 1) := dk_172 (dk_at dksX1_roomOf_0 10 rfl rfl)
abbrev cX1_lambda_roomOf_13 : ByteArray := prog_1_method_76_code
def yX1_lambda_roomOf_13 : MethodName := ⟨RX1, "lambda$roomOf$13", "(LGoblinHousehold$Contract;)I"⟩
theorem dX1_lambda_roomOf_13_0 : decode cX1_lambda_roomOf_13 0 = .ok (.aload_n 0, 1) := by decide +kernel
theorem dX1_lambda_roomOf_13_1 : decode cX1_lambda_roomOf_13 1 = .ok (.getfield 374, 3) := by decide +kernel
theorem dX1_lambda_roomOf_13_4 : decode cX1_lambda_roomOf_13 4 = .ok (.ireturn, 1) := by decide +kernel
abbrev cX1_wage : ByteArray := prog_1_method_46_code
def yX1_wage : MethodName := ⟨RX1, "wage", "(I)I"⟩
def dkwX1_wage_0 : List UInt8 := [42, 27, 186, 0, 242, 0, 0, 182, 0, 237, 172]
abbrev dktX1_wage_0 : List UInt8 := dkwX1_wage_0 ++ []
theorem dksX1_wage_0 : cX1_wage.data.toList.drop 0 = dktX1_wage_0 := by decide +kernel
theorem dX1_wage_0 : decode cX1_wage 0 = .ok (.aload_n 0, 1) := dk_42 (dk_at dksX1_wage_0 0 rfl rfl)
theorem dX1_wage_1 : decode cX1_wage 1 = .ok (.iload_n 1, 1) := dk_27 (dk_at dksX1_wage_0 1 rfl rfl)
theorem dX1_wage_2 : decode cX1_wage 2 = .ok (.invokedynamic 242, 5) := by decide +kernel
theorem dX1_wage_7 : decode cX1_wage 7 = .ok (.invokevirtual 237, 3) := dk_182 0 237 (dk_at dksX1_wage_0 7 rfl rfl)
theorem dX1_wage_10 : decode cX1_wage 10 = .ok (.ireturn, 1) := dk_172 (dk_at dksX1_wage_0 10 rfl rfl)
abbrev cX1_lambda_wage_14 : ByteArray := prog_1_method_75_code
def yX1_lambda_wage_14 : MethodName := ⟨RX1, "lambda$wage$14", "(LGoblinHousehold$Contract;)I"⟩
theorem dX1_lambda_wage_14_0 : decode cX1_lambda_wage_14 0 = .ok (.aload_n 0, 1) := by decide +kernel
theorem dX1_lambda_wage_14_1 : decode cX1_lambda_wage_14 1 = .ok (.getfield 371, 3) := by decide +kernel
theorem dX1_lambda_wage_14_4 : decode cX1_lambda_wage_14 4 = .ok (.ireturn, 1) := by decide +kernel
abbrev cX1_effort : ByteArray := prog_1_method_47_code
def yX1_effort : MethodName := ⟨RX1, "effort", "(I)I"⟩
def dkwX1_effort_0 : List UInt8 := [42, 27, 186, 0, 243, 0, 0, 182, 0, 237, 172]
abbrev dktX1_effort_0 : List UInt8 := dkwX1_effort_0 ++ []
theorem dksX1_effort_0 : cX1_effort.data.toList.drop 0 = dktX1_effort_0 := by decide +kernel
theorem dX1_effort_0 : decode cX1_effort 0 = .ok (.aload_n 0, 1) := dk_42 (dk_at dksX1_effort_0 0 rfl rfl)
theorem dX1_effort_1 : decode cX1_effort 1 = .ok (.iload_n 1, 1) := dk_27 (dk_at dksX1_effort_0 1 rfl rfl)
theorem dX1_effort_2 : decode cX1_effort 2 = .ok (.invokedynamic 243, 5) := by decide +kernel
theorem dX1_effort_7 : decode cX1_effort 7 = .ok (.invokevirtual 237, 3) := dk_182 0 237 (dk_at dksX1_effort_0 7 rfl rfl)
theorem dX1_effort_10 : decode cX1_effort 10 = .ok (.ireturn, 1) := dk_172 (dk_at dksX1_effort_0 10 rfl rfl)
abbrev cX1_lambda_effort_15 : ByteArray := prog_1_method_74_code
def yX1_lambda_effort_15 : MethodName := ⟨RX1, "lambda$effort$15", "(LGoblinHousehold$Contract;)I"⟩
theorem dX1_lambda_effort_15_0 : decode cX1_lambda_effort_15 0 = .ok (.aload_n 0, 1) := by decide +kernel
theorem dX1_lambda_effort_15_1 : decode cX1_lambda_effort_15 1 = .ok (.getfield 368, 3) := by decide +kernel
theorem dX1_lambda_effort_15_4 : decode cX1_lambda_effort_15 4 = .ok (.ireturn, 1) := by decide +kernel
abbrev cX1_nightsUntilDone : ByteArray := prog_1_method_48_code
def yX1_nightsUntilDone : MethodName := ⟨RX1, "nightsUntilDone", "(I)I"⟩
def dkwX1_nightsUntilDone_1 : List UInt8 := [182, 0, 244, 61, 28, 2, 159, 0, 7, 4, 167, 0, 4, 3, 184, 0, 247, 28, 172]
abbrev dktX1_nightsUntilDone_1 : List UInt8 := dkwX1_nightsUntilDone_1 ++ []
def dkwX1_nightsUntilDone_0 : List UInt8 := [42, 180, 0, 35, 27, 182, 0, 213, 198, 0, 7, 4, 167, 0, 4, 3, 184, 0, 129, 42, 180, 0, 35, 27]
abbrev dktX1_nightsUntilDone_0 : List UInt8 := dkwX1_nightsUntilDone_0 ++ dktX1_nightsUntilDone_1
theorem dksX1_nightsUntilDone_0 : cX1_nightsUntilDone.data.toList.drop 0 = dktX1_nightsUntilDone_0 := by decide +kernel
theorem dksX1_nightsUntilDone_1 : cX1_nightsUntilDone.data.toList.drop 24 = dktX1_nightsUntilDone_1 := dk_seg dksX1_nightsUntilDone_0 24 rfl rfl
theorem dX1_nightsUntilDone_0 : decode cX1_nightsUntilDone 0 = .ok (.aload_n 0, 1) := dk_42 (dk_at dksX1_nightsUntilDone_0 0 rfl rfl)
theorem dX1_nightsUntilDone_1 : decode cX1_nightsUntilDone 1 = .ok (.getfield 35, 3) := dk_180 0 35 (dk_at dksX1_nightsUntilDone_0 1 rfl rfl)
theorem dX1_nightsUntilDone_4 : decode cX1_nightsUntilDone 4 = .ok (.iload_n 1, 1) := dk_27 (dk_at dksX1_nightsUntilDone_0 4 rfl rfl)
theorem dX1_nightsUntilDone_5 : decode cX1_nightsUntilDone 5 = .ok (.invokevirtual 213, 3) := dk_182 0 213 (dk_at dksX1_nightsUntilDone_0 5 rfl rfl)
theorem dX1_nightsUntilDone_8 : decode cX1_nightsUntilDone 8 = .ok (.ifnull 7, 3) := dk_198 0 7 (dk_at dksX1_nightsUntilDone_0 8 rfl rfl)
theorem dX1_nightsUntilDone_11 : decode cX1_nightsUntilDone 11 = .ok (.iconst 1, 1) := dk_4 (dk_at dksX1_nightsUntilDone_0 11 rfl rfl)
theorem dX1_nightsUntilDone_12 : decode cX1_nightsUntilDone 12 = .ok (.goto 4, 3) := dk_167 0 4 (dk_at dksX1_nightsUntilDone_0 12 rfl rfl)
theorem dX1_nightsUntilDone_15 : decode cX1_nightsUntilDone 15 = .ok (.iconst 0, 1) := dk_3 (dk_at dksX1_nightsUntilDone_0 15 rfl rfl)
theorem dX1_nightsUntilDone_16 : decode cX1_nightsUntilDone 16 = .ok (.invokestatic 129, 3) := dk_184 0 129 (dk_at dksX1_nightsUntilDone_0 16 rfl rfl)
theorem dX1_nightsUntilDone_19 : decode cX1_nightsUntilDone 19 = .ok (.aload_n 0, 1) := dk_42 (dk_at dksX1_nightsUntilDone_0 19 rfl rfl)
theorem dX1_nightsUntilDone_20 : decode cX1_nightsUntilDone 20 = .ok (.getfield 35, 3) := dk_180 0 35 (dk_at dksX1_nightsUntilDone_0 20 rfl rfl)
theorem dX1_nightsUntilDone_23 : decode cX1_nightsUntilDone 23 = .ok (.iload_n 1, 1) := dk_27 (dk_at dksX1_nightsUntilDone_0 23 rfl rfl)
theorem dX1_nightsUntilDone_24 : decode cX1_nightsUntilDone 24 = .ok (.invokevirtual 244, 3) := dk_182 0 244 (dk_at dksX1_nightsUntilDone_1 0 rfl rfl)
theorem dX1_nightsUntilDone_27 : decode cX1_nightsUntilDone 27 = .ok (.istore_n 2, 1) := dk_61 (dk_at dksX1_nightsUntilDone_1 3 rfl rfl)
theorem dX1_nightsUntilDone_28 : decode cX1_nightsUntilDone 28 = .ok (.iload_n 2, 1) := dk_28 (dk_at dksX1_nightsUntilDone_1 4 rfl rfl)
theorem dX1_nightsUntilDone_29 : decode cX1_nightsUntilDone 29 = .ok (.iconst (-1), 1) := dk_2 (dk_at dksX1_nightsUntilDone_1 5 rfl rfl)
theorem dX1_nightsUntilDone_30 : decode cX1_nightsUntilDone 30 = .ok (.if_icmp .eq 7, 3) := dk_159 0 7 (dk_at dksX1_nightsUntilDone_1 6 rfl rfl)
theorem dX1_nightsUntilDone_33 : decode cX1_nightsUntilDone 33 = .ok (.iconst 1, 1) := dk_4 (dk_at dksX1_nightsUntilDone_1 9 rfl rfl)
theorem dX1_nightsUntilDone_34 : decode cX1_nightsUntilDone 34 = .ok (.goto 4, 3) := dk_167 0 4 (dk_at dksX1_nightsUntilDone_1 10 rfl rfl)
theorem dX1_nightsUntilDone_37 : decode cX1_nightsUntilDone 37 = .ok (.iconst 0, 1) := dk_3 (dk_at dksX1_nightsUntilDone_1 13 rfl rfl)
theorem dX1_nightsUntilDone_38 : decode cX1_nightsUntilDone 38 = .ok (.invokestatic 247, 3) := dk_184 0 247 (dk_at dksX1_nightsUntilDone_1 14 rfl rfl)
theorem dX1_nightsUntilDone_41 : decode cX1_nightsUntilDone 41 = .ok (.iload_n 2, 1) := dk_28 (dk_at dksX1_nightsUntilDone_1 17 rfl rfl)
theorem dX1_nightsUntilDone_42 : decode cX1_nightsUntilDone 42 = .ok (.ireturn, 1) := dk_172 (dk_at dksX1_nightsUntilDone_1 18 rfl rfl)
abbrev cX1_checkState : ByteArray := prog_1_method_22_code
def yX1_checkState : MethodName := ⟨RX1, "checkState", "(Z)V"⟩
def dkwX1_checkState_0 : List UInt8 := [26, 154, 0, 11, 187, 0, 126, 89, 183, 0, 128, 191, 177]
abbrev dktX1_checkState_0 : List UInt8 := dkwX1_checkState_0 ++ []
theorem dksX1_checkState_0 : cX1_checkState.data.toList.drop 0 = dktX1_checkState_0 := by decide +kernel
theorem dX1_checkState_0 : decode cX1_checkState 0 = .ok (.iload_n 0, 1) := dk_26 (dk_at dksX1_checkState_0 0 rfl rfl)
theorem dX1_checkState_1 : decode cX1_checkState 1 = .ok (.ifCond .ne 11, 3) := dk_154 0 11 (dk_at dksX1_checkState_0 1 rfl rfl)
theorem dX1_checkState_4 : decode cX1_checkState 4 = .ok (.new 126, 3) := dk_187 0 126 (dk_at dksX1_checkState_0 4 rfl rfl)
theorem dX1_checkState_7 : decode cX1_checkState 7 = .ok (.dup, 1) := dk_89 (dk_at dksX1_checkState_0 7 rfl rfl)
theorem dX1_checkState_8 : decode cX1_checkState 8 = .ok (.invokespecial 128, 3) := dk_183 0 128 (dk_at dksX1_checkState_0 8 rfl rfl)
theorem dX1_checkState_11 : decode cX1_checkState 11 = .ok (.athrow, 1) := dk_191 (dk_at dksX1_checkState_0 11 rfl rfl)
theorem dX1_checkState_12 : decode cX1_checkState 12 = .ok (.return_, 1) := dk_177 (dk_at dksX1_checkState_0 12 rfl rfl)
abbrev cX1_chestAfter : ByteArray := prog_1_method_49_code
def yX1_chestAfter : MethodName := ⟨RX1, "chestAfter", "(I)I"⟩
def dkwX1_chestAfter_0 : List UInt8 := [27, 3, 16, 60, 184, 0, 146, 184, 0, 250, 42, 180, 0, 35, 27, 182, 0, 253, 180, 1, 1, 172]
abbrev dktX1_chestAfter_0 : List UInt8 := dkwX1_chestAfter_0 ++ []
theorem dksX1_chestAfter_0 : cX1_chestAfter.data.toList.drop 0 = dktX1_chestAfter_0 := by decide +kernel
theorem dX1_chestAfter_0 : decode cX1_chestAfter 0 = .ok (.iload_n 1, 1) := dk_27 (dk_at dksX1_chestAfter_0 0 rfl rfl)
theorem dX1_chestAfter_1 : decode cX1_chestAfter 1 = .ok (.iconst 0, 1) := dk_3 (dk_at dksX1_chestAfter_0 1 rfl rfl)
theorem dX1_chestAfter_2 : decode cX1_chestAfter 2 = .ok (.bipush 60, 2) := dk_16 60 (dk_at dksX1_chestAfter_0 2 rfl rfl)
theorem dX1_chestAfter_4 : decode cX1_chestAfter 4 = .ok (.invokestatic 146, 3) := dk_184 0 146 (dk_at dksX1_chestAfter_0 4 rfl rfl)
theorem dX1_chestAfter_7 : decode cX1_chestAfter 7 = .ok (.invokestatic 250, 3) := dk_184 0 250 (dk_at dksX1_chestAfter_0 7 rfl rfl)
theorem dX1_chestAfter_10 : decode cX1_chestAfter 10 = .ok (.aload_n 0, 1) := dk_42 (dk_at dksX1_chestAfter_0 10 rfl rfl)
theorem dX1_chestAfter_11 : decode cX1_chestAfter 11 = .ok (.getfield 35, 3) := dk_180 0 35 (dk_at dksX1_chestAfter_0 11 rfl rfl)
theorem dX1_chestAfter_14 : decode cX1_chestAfter 14 = .ok (.iload_n 1, 1) := dk_27 (dk_at dksX1_chestAfter_0 14 rfl rfl)
theorem dX1_chestAfter_15 : decode cX1_chestAfter 15 = .ok (.invokevirtual 253, 3) := dk_182 0 253 (dk_at dksX1_chestAfter_0 15 rfl rfl)
theorem dX1_chestAfter_18 : decode cX1_chestAfter 18 = .ok (.getfield 257, 3) := dk_180 1 1 (dk_at dksX1_chestAfter_0 18 rfl rfl)
theorem dX1_chestAfter_21 : decode cX1_chestAfter 21 = .ok (.ireturn, 1) := dk_172 (dk_at dksX1_chestAfter_0 21 rfl rfl)
abbrev cX1_checkArgument : ByteArray := prog_1_method_20_code
def yX1_checkArgument : MethodName := ⟨RX1, "checkArgument", "(Z)V"⟩
def dkwX1_checkArgument_0 : List UInt8 := [26, 154, 0, 11, 187, 0, 120, 89, 183, 0, 122, 191, 177]
abbrev dktX1_checkArgument_0 : List UInt8 := dkwX1_checkArgument_0 ++ []
theorem dksX1_checkArgument_0 : cX1_checkArgument.data.toList.drop 0 = dktX1_checkArgument_0 := by decide +kernel
theorem dX1_checkArgument_0 : decode cX1_checkArgument 0 = .ok (.iload_n 0, 1) := dk_26 (dk_at dksX1_checkArgument_0 0 rfl rfl)
theorem dX1_checkArgument_1 : decode cX1_checkArgument 1 = .ok (.ifCond .ne 11, 3) := dk_154 0 11 (dk_at dksX1_checkArgument_0 1 rfl rfl)
theorem dX1_checkArgument_4 : decode cX1_checkArgument 4 = .ok (.new 120, 3) := dk_187 0 120 (dk_at dksX1_checkArgument_0 4 rfl rfl)
theorem dX1_checkArgument_7 : decode cX1_checkArgument 7 = .ok (.dup, 1) := dk_89 (dk_at dksX1_checkArgument_0 7 rfl rfl)
theorem dX1_checkArgument_8 : decode cX1_checkArgument 8 = .ok (.invokespecial 122, 3) := dk_183 0 122 (dk_at dksX1_checkArgument_0 8 rfl rfl)
theorem dX1_checkArgument_11 : decode cX1_checkArgument 11 = .ok (.athrow, 1) := dk_191 (dk_at dksX1_checkArgument_0 11 rfl rfl)
theorem dX1_checkArgument_12 : decode cX1_checkArgument 12 = .ok (.return_, 1) := dk_177 (dk_at dksX1_checkArgument_0 12 rfl rfl)
abbrev cX1_debtAfter : ByteArray := prog_1_method_50_code
def yX1_debtAfter : MethodName := ⟨RX1, "debtAfter", "(II)I"⟩
def dkwX1_debtAfter_1 : List UInt8 := [180, 0, 35, 28, 182, 0, 253, 180, 0, 175, 27, 185, 0, 13, 2, 0, 192, 0, 178, 182, 0, 190, 172]
abbrev dktX1_debtAfter_1 : List UInt8 := dkwX1_debtAfter_1 ++ []
def dkwX1_debtAfter_0 : List UInt8 := [42, 180, 0, 35, 27, 182, 0, 172, 184, 0, 137, 28, 3, 16, 60, 184, 0, 146, 184, 0, 250, 42]
abbrev dktX1_debtAfter_0 : List UInt8 := dkwX1_debtAfter_0 ++ dktX1_debtAfter_1
theorem dksX1_debtAfter_0 : cX1_debtAfter.data.toList.drop 0 = dktX1_debtAfter_0 := by decide +kernel
theorem dksX1_debtAfter_1 : cX1_debtAfter.data.toList.drop 22 = dktX1_debtAfter_1 := dk_seg dksX1_debtAfter_0 22 rfl rfl
theorem dX1_debtAfter_0 : decode cX1_debtAfter 0 = .ok (.aload_n 0, 1) := dk_42 (dk_at dksX1_debtAfter_0 0 rfl rfl)
theorem dX1_debtAfter_1 : decode cX1_debtAfter 1 = .ok (.getfield 35, 3) := dk_180 0 35 (dk_at dksX1_debtAfter_0 1 rfl rfl)
theorem dX1_debtAfter_4 : decode cX1_debtAfter 4 = .ok (.iload_n 1, 1) := dk_27 (dk_at dksX1_debtAfter_0 4 rfl rfl)
theorem dX1_debtAfter_5 : decode cX1_debtAfter 5 = .ok (.invokevirtual 172, 3) := dk_182 0 172 (dk_at dksX1_debtAfter_0 5 rfl rfl)
theorem dX1_debtAfter_8 : decode cX1_debtAfter 8 = .ok (.invokestatic 137, 3) := dk_184 0 137 (dk_at dksX1_debtAfter_0 8 rfl rfl)
theorem dX1_debtAfter_11 : decode cX1_debtAfter 11 = .ok (.iload_n 2, 1) := dk_28 (dk_at dksX1_debtAfter_0 11 rfl rfl)
theorem dX1_debtAfter_12 : decode cX1_debtAfter 12 = .ok (.iconst 0, 1) := dk_3 (dk_at dksX1_debtAfter_0 12 rfl rfl)
theorem dX1_debtAfter_13 : decode cX1_debtAfter 13 = .ok (.bipush 60, 2) := dk_16 60 (dk_at dksX1_debtAfter_0 13 rfl rfl)
theorem dX1_debtAfter_15 : decode cX1_debtAfter 15 = .ok (.invokestatic 146, 3) := dk_184 0 146 (dk_at dksX1_debtAfter_0 15 rfl rfl)
theorem dX1_debtAfter_18 : decode cX1_debtAfter 18 = .ok (.invokestatic 250, 3) := dk_184 0 250 (dk_at dksX1_debtAfter_0 18 rfl rfl)
theorem dX1_debtAfter_21 : decode cX1_debtAfter 21 = .ok (.aload_n 0, 1) := dk_42 (dk_at dksX1_debtAfter_0 21 rfl rfl)
theorem dX1_debtAfter_22 : decode cX1_debtAfter 22 = .ok (.getfield 35, 3) := dk_180 0 35 (dk_at dksX1_debtAfter_1 0 rfl rfl)
theorem dX1_debtAfter_25 : decode cX1_debtAfter 25 = .ok (.iload_n 2, 1) := dk_28 (dk_at dksX1_debtAfter_1 3 rfl rfl)
theorem dX1_debtAfter_26 : decode cX1_debtAfter 26 = .ok (.invokevirtual 253, 3) := dk_182 0 253 (dk_at dksX1_debtAfter_1 4 rfl rfl)
theorem dX1_debtAfter_29 : decode cX1_debtAfter 29 = .ok (.getfield 175, 3) := dk_180 0 175 (dk_at dksX1_debtAfter_1 7 rfl rfl)
theorem dX1_debtAfter_32 : decode cX1_debtAfter 32 = .ok (.iload_n 1, 1) := dk_27 (dk_at dksX1_debtAfter_1 10 rfl rfl)
theorem dX1_debtAfter_33 : decode cX1_debtAfter 33 = .ok (.invokeinterface 13 2, 5) := by decide +kernel
theorem dX1_debtAfter_38 : decode cX1_debtAfter 38 = .ok (.checkcast 178, 3) := dk_192 0 178 (dk_at dksX1_debtAfter_1 16 rfl rfl)
theorem dX1_debtAfter_41 : decode cX1_debtAfter 41 = .ok (.invokevirtual 190, 3) := dk_182 0 190 (dk_at dksX1_debtAfter_1 19 rfl rfl)
theorem dX1_debtAfter_44 : decode cX1_debtAfter 44 = .ok (.ireturn, 1) := dk_172 (dk_at dksX1_debtAfter_1 22 rfl rfl)
abbrev cX1_reliability : ByteArray := prog_1_method_60_code
def yX1_reliability : MethodName := ⟨RX1, "reliability", "()F"⟩
def dkwX1_reliability_1 : List UInt8 := [183, 1, 32, 191, 42, 180, 0, 35, 180, 1, 13, 134, 27, 134, 110, 174]
abbrev dktX1_reliability_1 : List UInt8 := dkwX1_reliability_1 ++ []
def dkwX1_reliability_0 : List UInt8 := [42, 180, 0, 35, 180, 1, 13, 42, 180, 0, 35, 180, 1, 16, 96, 60, 27, 154, 0, 11, 187, 1, 30, 89]
abbrev dktX1_reliability_0 : List UInt8 := dkwX1_reliability_0 ++ dktX1_reliability_1
theorem dksX1_reliability_0 : cX1_reliability.data.toList.drop 0 = dktX1_reliability_0 := by decide +kernel
theorem dksX1_reliability_1 : cX1_reliability.data.toList.drop 24 = dktX1_reliability_1 := dk_seg dksX1_reliability_0 24 rfl rfl
theorem dX1_reliability_0 : decode cX1_reliability 0 = .ok (.aload_n 0, 1) := dk_42 (dk_at dksX1_reliability_0 0 rfl rfl)
theorem dX1_reliability_1 : decode cX1_reliability 1 = .ok (.getfield 35, 3) := dk_180 0 35 (dk_at dksX1_reliability_0 1 rfl rfl)
theorem dX1_reliability_4 : decode cX1_reliability 4 = .ok (.getfield 269, 3) := dk_180 1 13 (dk_at dksX1_reliability_0 4 rfl rfl)
theorem dX1_reliability_7 : decode cX1_reliability 7 = .ok (.aload_n 0, 1) := dk_42 (dk_at dksX1_reliability_0 7 rfl rfl)
theorem dX1_reliability_8 : decode cX1_reliability 8 = .ok (.getfield 35, 3) := dk_180 0 35 (dk_at dksX1_reliability_0 8 rfl rfl)
theorem dX1_reliability_11 : decode cX1_reliability 11 = .ok (.getfield 272, 3) := dk_180 1 16 (dk_at dksX1_reliability_0 11 rfl rfl)
theorem dX1_reliability_14 : decode cX1_reliability 14 = .ok (.iadd, 1) := dk_96 (dk_at dksX1_reliability_0 14 rfl rfl)
theorem dX1_reliability_15 : decode cX1_reliability 15 = .ok (.istore_n 1, 1) := dk_60 (dk_at dksX1_reliability_0 15 rfl rfl)
theorem dX1_reliability_16 : decode cX1_reliability 16 = .ok (.iload_n 1, 1) := dk_27 (dk_at dksX1_reliability_0 16 rfl rfl)
theorem dX1_reliability_17 : decode cX1_reliability 17 = .ok (.ifCond .ne 11, 3) := dk_154 0 11 (dk_at dksX1_reliability_0 17 rfl rfl)
theorem dX1_reliability_20 : decode cX1_reliability 20 = .ok (.new 286, 3) := dk_187 1 30 (dk_at dksX1_reliability_0 20 rfl rfl)
theorem dX1_reliability_23 : decode cX1_reliability 23 = .ok (.dup, 1) := dk_89 (dk_at dksX1_reliability_0 23 rfl rfl)
theorem dX1_reliability_24 : decode cX1_reliability 24 = .ok (.invokespecial 288, 3) := dk_183 1 32 (dk_at dksX1_reliability_1 0 rfl rfl)
theorem dX1_reliability_27 : decode cX1_reliability 27 = .ok (.athrow, 1) := dk_191 (dk_at dksX1_reliability_1 3 rfl rfl)
theorem dX1_reliability_28 : decode cX1_reliability 28 = .ok (.aload_n 0, 1) := dk_42 (dk_at dksX1_reliability_1 4 rfl rfl)
theorem dX1_reliability_29 : decode cX1_reliability 29 = .ok (.getfield 35, 3) := dk_180 0 35 (dk_at dksX1_reliability_1 5 rfl rfl)
theorem dX1_reliability_32 : decode cX1_reliability 32 = .ok (.getfield 269, 3) := dk_180 1 13 (dk_at dksX1_reliability_1 8 rfl rfl)
theorem dX1_reliability_35 : decode cX1_reliability 35 = .ok (.i2f, 1) := dk_134 (dk_at dksX1_reliability_1 11 rfl rfl)
theorem dX1_reliability_36 : decode cX1_reliability 36 = .ok (.iload_n 1, 1) := dk_27 (dk_at dksX1_reliability_1 12 rfl rfl)
theorem dX1_reliability_37 : decode cX1_reliability 37 = .ok (.i2f, 1) := dk_134 (dk_at dksX1_reliability_1 13 rfl rfl)
theorem dX1_reliability_38 : decode cX1_reliability 38 = .ok (.fdiv, 1) := dk_110 (dk_at dksX1_reliability_1 14 rfl rfl)
theorem dX1_reliability_39 : decode cX1_reliability 39 = .ok (.freturn, 1) := dk_174 (dk_at dksX1_reliability_1 15 rfl rfl)
abbrev cX1_renderGoblin : ByteArray := prog_1_method_63_code
def yX1_renderGoblin : MethodName := ⟨RX1, "renderGoblin", "(I)I"⟩
def dkwX1_renderGoblin_0 : List UInt8 := [42, 42, 27, 182, 0, 180, 182, 1, 41, 182, 1, 45, 172]
abbrev dktX1_renderGoblin_0 : List UInt8 := dkwX1_renderGoblin_0 ++ []
theorem dksX1_renderGoblin_0 : cX1_renderGoblin.data.toList.drop 0 = dktX1_renderGoblin_0 := by decide +kernel
theorem dX1_renderGoblin_0 : decode cX1_renderGoblin 0 = .ok (.aload_n 0, 1) := dk_42 (dk_at dksX1_renderGoblin_0 0 rfl rfl)
theorem dX1_renderGoblin_1 : decode cX1_renderGoblin 1 = .ok (.aload_n 0, 1) := dk_42 (dk_at dksX1_renderGoblin_0 1 rfl rfl)
theorem dX1_renderGoblin_2 : decode cX1_renderGoblin 2 = .ok (.iload_n 1, 1) := dk_27 (dk_at dksX1_renderGoblin_0 2 rfl rfl)
theorem dX1_renderGoblin_3 : decode cX1_renderGoblin 3 = .ok (.invokevirtual 180, 3) := dk_182 0 180 (dk_at dksX1_renderGoblin_0 3 rfl rfl)
theorem dX1_renderGoblin_6 : decode cX1_renderGoblin 6 = .ok (.invokevirtual 297, 3) := dk_182 1 41 (dk_at dksX1_renderGoblin_0 6 rfl rfl)
theorem dX1_renderGoblin_9 : decode cX1_renderGoblin 9 = .ok (.invokevirtual 301, 3) := dk_182 1 45 (dk_at dksX1_renderGoblin_0 9 rfl rfl)
theorem dX1_renderGoblin_12 : decode cX1_renderGoblin 12 = .ok (.ireturn, 1) := dk_172 (dk_at dksX1_renderGoblin_0 12 rfl rfl)
abbrev cX1_outputAt : ByteArray := prog_1_method_65_code
def yX1_outputAt : MethodName := ⟨RX1, "outputAt", "(I)C"⟩
def dkwX1_outputAt_1 : List UInt8 := [182, 1, 52, 172]
abbrev dktX1_outputAt_1 : List UInt8 := dkwX1_outputAt_1 ++ []
def dkwX1_outputAt_0 : List UInt8 := [27, 3, 42, 180, 0, 64, 182, 1, 36, 4, 100, 184, 0, 146, 184, 0, 137, 42, 180, 0, 64, 27]
abbrev dktX1_outputAt_0 : List UInt8 := dkwX1_outputAt_0 ++ dktX1_outputAt_1
theorem dksX1_outputAt_0 : cX1_outputAt.data.toList.drop 0 = dktX1_outputAt_0 := by decide +kernel
theorem dksX1_outputAt_1 : cX1_outputAt.data.toList.drop 22 = dktX1_outputAt_1 := dk_seg dksX1_outputAt_0 22 rfl rfl
theorem dX1_outputAt_0 : decode cX1_outputAt 0 = .ok (.iload_n 1, 1) := dk_27 (dk_at dksX1_outputAt_0 0 rfl rfl)
theorem dX1_outputAt_1 : decode cX1_outputAt 1 = .ok (.iconst 0, 1) := dk_3 (dk_at dksX1_outputAt_0 1 rfl rfl)
theorem dX1_outputAt_2 : decode cX1_outputAt 2 = .ok (.aload_n 0, 1) := dk_42 (dk_at dksX1_outputAt_0 2 rfl rfl)
theorem dX1_outputAt_3 : decode cX1_outputAt 3 = .ok (.getfield 64, 3) := dk_180 0 64 (dk_at dksX1_outputAt_0 3 rfl rfl)
theorem dX1_outputAt_6 : decode cX1_outputAt 6 = .ok (.invokevirtual 292, 3) := dk_182 1 36 (dk_at dksX1_outputAt_0 6 rfl rfl)
theorem dX1_outputAt_9 : decode cX1_outputAt 9 = .ok (.iconst 1, 1) := dk_4 (dk_at dksX1_outputAt_0 9 rfl rfl)
theorem dX1_outputAt_10 : decode cX1_outputAt 10 = .ok (.isub, 1) := dk_100 (dk_at dksX1_outputAt_0 10 rfl rfl)
theorem dX1_outputAt_11 : decode cX1_outputAt 11 = .ok (.invokestatic 146, 3) := dk_184 0 146 (dk_at dksX1_outputAt_0 11 rfl rfl)
theorem dX1_outputAt_14 : decode cX1_outputAt 14 = .ok (.invokestatic 137, 3) := dk_184 0 137 (dk_at dksX1_outputAt_0 14 rfl rfl)
theorem dX1_outputAt_17 : decode cX1_outputAt 17 = .ok (.aload_n 0, 1) := dk_42 (dk_at dksX1_outputAt_0 17 rfl rfl)
theorem dX1_outputAt_18 : decode cX1_outputAt 18 = .ok (.getfield 64, 3) := dk_180 0 64 (dk_at dksX1_outputAt_0 18 rfl rfl)
theorem dX1_outputAt_21 : decode cX1_outputAt 21 = .ok (.iload_n 1, 1) := dk_27 (dk_at dksX1_outputAt_0 21 rfl rfl)
theorem dX1_outputAt_22 : decode cX1_outputAt 22 = .ok (.invokevirtual 308, 3) := dk_182 1 52 (dk_at dksX1_outputAt_1 0 rfl rfl)
theorem dX1_outputAt_25 : decode cX1_outputAt 25 = .ok (.ireturn, 1) := dk_172 (dk_at dksX1_outputAt_1 3 rfl rfl)
abbrev cX1_type : ByteArray := prog_1_method_66_code
def yX1_type : MethodName := ⟨RX1, "type", "(C)I"⟩
def dkwX1_type_1 : List UInt8 := [167, 0, 4, 3, 184, 0, 247, 42, 180, 0, 51, 27, 182, 1, 57, 87, 42, 180, 0, 51, 182, 1, 56, 172]
abbrev dktX1_type_1 : List UInt8 := dkwX1_type_1 ++ []
def dkwX1_type_0 : List UInt8 := [27, 16, 32, 16, 126, 184, 0, 146, 184, 0, 250, 42, 180, 0, 51, 182, 1, 56, 16, 60, 162, 0, 7, 4]
abbrev dktX1_type_0 : List UInt8 := dkwX1_type_0 ++ dktX1_type_1
theorem dksX1_type_0 : cX1_type.data.toList.drop 0 = dktX1_type_0 := by decide +kernel
theorem dksX1_type_1 : cX1_type.data.toList.drop 24 = dktX1_type_1 := dk_seg dksX1_type_0 24 rfl rfl
theorem dX1_type_0 : decode cX1_type 0 = .ok (.iload_n 1, 1) := dk_27 (dk_at dksX1_type_0 0 rfl rfl)
theorem dX1_type_1 : decode cX1_type 1 = .ok (.bipush 32, 2) := dk_16 32 (dk_at dksX1_type_0 1 rfl rfl)
theorem dX1_type_3 : decode cX1_type 3 = .ok (.bipush 126, 2) := dk_16 126 (dk_at dksX1_type_0 3 rfl rfl)
theorem dX1_type_5 : decode cX1_type 5 = .ok (.invokestatic 146, 3) := dk_184 0 146 (dk_at dksX1_type_0 5 rfl rfl)
theorem dX1_type_8 : decode cX1_type 8 = .ok (.invokestatic 250, 3) := dk_184 0 250 (dk_at dksX1_type_0 8 rfl rfl)
theorem dX1_type_11 : decode cX1_type 11 = .ok (.aload_n 0, 1) := dk_42 (dk_at dksX1_type_0 11 rfl rfl)
theorem dX1_type_12 : decode cX1_type 12 = .ok (.getfield 51, 3) := dk_180 0 51 (dk_at dksX1_type_0 12 rfl rfl)
theorem dX1_type_15 : decode cX1_type 15 = .ok (.invokevirtual 312, 3) := dk_182 1 56 (dk_at dksX1_type_0 15 rfl rfl)
theorem dX1_type_18 : decode cX1_type 18 = .ok (.bipush 60, 2) := dk_16 60 (dk_at dksX1_type_0 18 rfl rfl)
theorem dX1_type_20 : decode cX1_type 20 = .ok (.if_icmp .ge 7, 3) := dk_162 0 7 (dk_at dksX1_type_0 20 rfl rfl)
theorem dX1_type_23 : decode cX1_type 23 = .ok (.iconst 1, 1) := dk_4 (dk_at dksX1_type_0 23 rfl rfl)
theorem dX1_type_24 : decode cX1_type 24 = .ok (.goto 4, 3) := dk_167 0 4 (dk_at dksX1_type_1 0 rfl rfl)
theorem dX1_type_27 : decode cX1_type 27 = .ok (.iconst 0, 1) := dk_3 (dk_at dksX1_type_1 3 rfl rfl)
theorem dX1_type_28 : decode cX1_type 28 = .ok (.invokestatic 247, 3) := dk_184 0 247 (dk_at dksX1_type_1 4 rfl rfl)
theorem dX1_type_31 : decode cX1_type 31 = .ok (.aload_n 0, 1) := dk_42 (dk_at dksX1_type_1 7 rfl rfl)
theorem dX1_type_32 : decode cX1_type 32 = .ok (.getfield 51, 3) := dk_180 0 51 (dk_at dksX1_type_1 8 rfl rfl)
theorem dX1_type_35 : decode cX1_type 35 = .ok (.iload_n 1, 1) := dk_27 (dk_at dksX1_type_1 11 rfl rfl)
theorem dX1_type_36 : decode cX1_type 36 = .ok (.invokevirtual 313, 3) := dk_182 1 57 (dk_at dksX1_type_1 12 rfl rfl)
theorem dX1_type_39 : decode cX1_type 39 = .ok (.pop, 1) := dk_87 (dk_at dksX1_type_1 15 rfl rfl)
theorem dX1_type_40 : decode cX1_type 40 = .ok (.aload_n 0, 1) := dk_42 (dk_at dksX1_type_1 16 rfl rfl)
theorem dX1_type_41 : decode cX1_type 41 = .ok (.getfield 51, 3) := dk_180 0 51 (dk_at dksX1_type_1 17 rfl rfl)
theorem dX1_type_44 : decode cX1_type 44 = .ok (.invokevirtual 312, 3) := dk_182 1 56 (dk_at dksX1_type_1 20 rfl rfl)
theorem dX1_type_47 : decode cX1_type 47 = .ok (.ireturn, 1) := dk_172 (dk_at dksX1_type_1 23 rfl rfl)
abbrev cX1_runScript : ByteArray := prog_1_method_68_code
def yX1_runScript : MethodName := ⟨RX1, "runScript", "()I"⟩
def dkwX1_runScript_2 : List UInt8 := [42, 43, 182, 1, 96, 181, 0, 59, 43, 182, 1, 99, 191, 77, 42, 180, 0, 51, 3, 182, 1, 86, 44, 191]
abbrev dktX1_runScript_2 : List UInt8 := dkwX1_runScript_2 ++ []
def dkwX1_runScript_1 : List UInt8 := [180, 0, 51, 3, 182, 1, 86, 27, 172, 76, 42, 43, 182, 1, 92, 181, 0, 55, 43, 182, 1, 95, 191, 76]
abbrev dktX1_runScript_1 : List UInt8 := dkwX1_runScript_1 ++ dktX1_runScript_2
def dkwX1_runScript_0 : List UInt8 := [42, 187, 1, 72, 89, 42, 180, 0, 51, 182, 1, 74, 183, 1, 77, 182, 1, 78, 182, 1, 82, 60, 42]
abbrev dktX1_runScript_0 : List UInt8 := dkwX1_runScript_0 ++ dktX1_runScript_1
theorem dksX1_runScript_0 : cX1_runScript.data.toList.drop 0 = dktX1_runScript_0 := by decide +kernel
theorem dksX1_runScript_1 : cX1_runScript.data.toList.drop 23 = dktX1_runScript_1 := dk_seg dksX1_runScript_0 23 rfl rfl
theorem dksX1_runScript_2 : cX1_runScript.data.toList.drop 47 = dktX1_runScript_2 := dk_seg dksX1_runScript_1 24 rfl rfl
theorem dX1_runScript_0 : decode cX1_runScript 0 = .ok (.aload_n 0, 1) := dk_42 (dk_at dksX1_runScript_0 0 rfl rfl)
theorem dX1_runScript_1 : decode cX1_runScript 1 = .ok (.new 328, 3) := dk_187 1 72 (dk_at dksX1_runScript_0 1 rfl rfl)
theorem dX1_runScript_4 : decode cX1_runScript 4 = .ok (.dup, 1) := dk_89 (dk_at dksX1_runScript_0 4 rfl rfl)
theorem dX1_runScript_5 : decode cX1_runScript 5 = .ok (.aload_n 0, 1) := dk_42 (dk_at dksX1_runScript_0 5 rfl rfl)
theorem dX1_runScript_6 : decode cX1_runScript 6 = .ok (.getfield 51, 3) := dk_180 0 51 (dk_at dksX1_runScript_0 6 rfl rfl)
theorem dX1_runScript_9 : decode cX1_runScript 9 = .ok (.invokevirtual 330, 3) := dk_182 1 74 (dk_at dksX1_runScript_0 9 rfl rfl)
theorem dX1_runScript_12 : decode cX1_runScript 12 = .ok (.invokespecial 333, 3) := dk_183 1 77 (dk_at dksX1_runScript_0 12 rfl rfl)
theorem dX1_runScript_15 : decode cX1_runScript 15 = .ok (.invokevirtual 334, 3) := dk_182 1 78 (dk_at dksX1_runScript_0 15 rfl rfl)
theorem dX1_runScript_18 : decode cX1_runScript 18 = .ok (.invokevirtual 338, 3) := dk_182 1 82 (dk_at dksX1_runScript_0 18 rfl rfl)
theorem dX1_runScript_21 : decode cX1_runScript 21 = .ok (.istore_n 1, 1) := dk_60 (dk_at dksX1_runScript_0 21 rfl rfl)
theorem dX1_runScript_22 : decode cX1_runScript 22 = .ok (.aload_n 0, 1) := dk_42 (dk_at dksX1_runScript_0 22 rfl rfl)
theorem dX1_runScript_23 : decode cX1_runScript 23 = .ok (.getfield 51, 3) := dk_180 0 51 (dk_at dksX1_runScript_1 0 rfl rfl)
theorem dX1_runScript_26 : decode cX1_runScript 26 = .ok (.iconst 0, 1) := dk_3 (dk_at dksX1_runScript_1 3 rfl rfl)
theorem dX1_runScript_27 : decode cX1_runScript 27 = .ok (.invokevirtual 342, 3) := dk_182 1 86 (dk_at dksX1_runScript_1 4 rfl rfl)
theorem dX1_runScript_30 : decode cX1_runScript 30 = .ok (.iload_n 1, 1) := dk_27 (dk_at dksX1_runScript_1 7 rfl rfl)
theorem dX1_runScript_31 : decode cX1_runScript 31 = .ok (.ireturn, 1) := dk_172 (dk_at dksX1_runScript_1 8 rfl rfl)
theorem dX1_runScript_32 : decode cX1_runScript 32 = .ok (.astore_n 1, 1) := dk_76 (dk_at dksX1_runScript_1 9 rfl rfl)
theorem dX1_runScript_33 : decode cX1_runScript 33 = .ok (.aload_n 0, 1) := dk_42 (dk_at dksX1_runScript_1 10 rfl rfl)
theorem dX1_runScript_34 : decode cX1_runScript 34 = .ok (.aload_n 1, 1) := dk_43 (dk_at dksX1_runScript_1 11 rfl rfl)
theorem dX1_runScript_35 : decode cX1_runScript 35 = .ok (.invokevirtual 348, 3) := dk_182 1 92 (dk_at dksX1_runScript_1 12 rfl rfl)
theorem dX1_runScript_38 : decode cX1_runScript 38 = .ok (.putfield 55, 3) := dk_181 0 55 (dk_at dksX1_runScript_1 15 rfl rfl)
theorem dX1_runScript_41 : decode cX1_runScript 41 = .ok (.aload_n 1, 1) := dk_43 (dk_at dksX1_runScript_1 18 rfl rfl)
theorem dX1_runScript_42 : decode cX1_runScript 42 = .ok (.invokevirtual 351, 3) := dk_182 1 95 (dk_at dksX1_runScript_1 19 rfl rfl)
theorem dX1_runScript_45 : decode cX1_runScript 45 = .ok (.athrow, 1) := dk_191 (dk_at dksX1_runScript_1 22 rfl rfl)
theorem dX1_runScript_46 : decode cX1_runScript 46 = .ok (.astore_n 1, 1) := dk_76 (dk_at dksX1_runScript_1 23 rfl rfl)
theorem dX1_runScript_47 : decode cX1_runScript 47 = .ok (.aload_n 0, 1) := dk_42 (dk_at dksX1_runScript_2 0 rfl rfl)
theorem dX1_runScript_48 : decode cX1_runScript 48 = .ok (.aload_n 1, 1) := dk_43 (dk_at dksX1_runScript_2 1 rfl rfl)
theorem dX1_runScript_49 : decode cX1_runScript 49 = .ok (.invokevirtual 352, 3) := dk_182 1 96 (dk_at dksX1_runScript_2 2 rfl rfl)
theorem dX1_runScript_52 : decode cX1_runScript 52 = .ok (.putfield 59, 3) := dk_181 0 59 (dk_at dksX1_runScript_2 5 rfl rfl)
theorem dX1_runScript_55 : decode cX1_runScript 55 = .ok (.aload_n 1, 1) := dk_43 (dk_at dksX1_runScript_2 8 rfl rfl)
theorem dX1_runScript_56 : decode cX1_runScript 56 = .ok (.invokevirtual 355, 3) := dk_182 1 99 (dk_at dksX1_runScript_2 9 rfl rfl)
theorem dX1_runScript_59 : decode cX1_runScript 59 = .ok (.athrow, 1) := dk_191 (dk_at dksX1_runScript_2 12 rfl rfl)
theorem dX1_runScript_60 : decode cX1_runScript 60 = .ok (.astore_n 2, 1) := dk_77 (dk_at dksX1_runScript_2 13 rfl rfl)
theorem dX1_runScript_61 : decode cX1_runScript 61 = .ok (.aload_n 0, 1) := dk_42 (dk_at dksX1_runScript_2 14 rfl rfl)
theorem dX1_runScript_62 : decode cX1_runScript 62 = .ok (.getfield 51, 3) := dk_180 0 51 (dk_at dksX1_runScript_2 15 rfl rfl)
theorem dX1_runScript_65 : decode cX1_runScript 65 = .ok (.iconst 0, 1) := dk_3 (dk_at dksX1_runScript_2 18 rfl rfl)
theorem dX1_runScript_66 : decode cX1_runScript 66 = .ok (.invokevirtual 342, 3) := dk_182 1 86 (dk_at dksX1_runScript_2 19 rfl rfl)
theorem dX1_runScript_69 : decode cX1_runScript 69 = .ok (.aload_n 2, 1) := dk_44 (dk_at dksX1_runScript_2 22 rfl rfl)
theorem dX1_runScript_70 : decode cX1_runScript 70 = .ok (.athrow, 1) := dk_191 (dk_at dksX1_runScript_2 23 rfl rfl)
abbrev cX1_execute : ByteArray := prog_1_method_67_code
def yX1_execute : MethodName := ⟨RX1, "execute", "(Ljava/util/List;)I"⟩
def dkwX1_execute_3 : List UInt8 := [185, 0, 7, 1, 0, 182, 0, 85, 172]
abbrev dktX1_execute_3 : List UInt8 := dkwX1_execute_3 ++ []
def dkwX1_execute_2 : List UInt8 := [187, 1, 67, 89, 29, 25, 4, 183, 1, 69, 191, 132, 3, 1, 167, 255, 207, 42, 44, 43]
abbrev dktX1_execute_2 : List UInt8 := dkwX1_execute_2 ++ dktX1_execute_3
def dkwX1_execute_1 : List UInt8 := [185, 0, 13, 2, 0, 192, 1, 61, 182, 1, 63, 44, 185, 0, 79, 2, 0, 87, 167, 0, 16, 58, 4]
abbrev dktX1_execute_1 : List UInt8 := dkwX1_execute_1 ++ dktX1_execute_2
def dkwX1_execute_0 : List UInt8 := [42, 180, 0, 35, 182, 0, 76, 77, 3, 62, 29, 43, 185, 0, 7, 1, 0, 162, 0, 45, 43, 29]
abbrev dktX1_execute_0 : List UInt8 := dkwX1_execute_0 ++ dktX1_execute_1
theorem dksX1_execute_0 : cX1_execute.data.toList.drop 0 = dktX1_execute_0 := by decide +kernel
theorem dksX1_execute_1 : cX1_execute.data.toList.drop 22 = dktX1_execute_1 := dk_seg dksX1_execute_0 22 rfl rfl
theorem dksX1_execute_2 : cX1_execute.data.toList.drop 45 = dktX1_execute_2 := dk_seg dksX1_execute_1 23 rfl rfl
theorem dksX1_execute_3 : cX1_execute.data.toList.drop 65 = dktX1_execute_3 := dk_seg dksX1_execute_2 20 rfl rfl
theorem dX1_execute_0 : decode cX1_execute 0 = .ok (.aload_n 0, 1) := dk_42 (dk_at dksX1_execute_0 0 rfl rfl)
theorem dX1_execute_1 : decode cX1_execute 1 = .ok (.getfield 35, 3) := dk_180 0 35 (dk_at dksX1_execute_0 1 rfl rfl)
theorem dX1_execute_4 : decode cX1_execute 4 = .ok (.invokevirtual 76, 3) := dk_182 0 76 (dk_at dksX1_execute_0 4 rfl rfl)
theorem dX1_execute_7 : decode cX1_execute 7 = .ok (.astore_n 2, 1) := dk_77 (dk_at dksX1_execute_0 7 rfl rfl)
theorem dX1_execute_8 : decode cX1_execute 8 = .ok (.iconst 0, 1) := dk_3 (dk_at dksX1_execute_0 8 rfl rfl)
theorem dX1_execute_9 : decode cX1_execute 9 = .ok (.istore_n 3, 1) := dk_62 (dk_at dksX1_execute_0 9 rfl rfl)
theorem dX1_execute_10 : decode cX1_execute 10 = .ok (.iload_n 3, 1) := dk_29 (dk_at dksX1_execute_0 10 rfl rfl)
theorem dX1_execute_11 : decode cX1_execute 11 = .ok (.aload_n 1, 1) := dk_43 (dk_at dksX1_execute_0 11 rfl rfl)
theorem dX1_execute_12 : decode cX1_execute 12 = .ok (.invokeinterface 7 1, 5) := by decide +kernel
theorem dX1_execute_17 : decode cX1_execute 17 = .ok (.if_icmp .ge 45, 3) := dk_162 0 45 (dk_at dksX1_execute_0 17 rfl rfl)
theorem dX1_execute_20 : decode cX1_execute 20 = .ok (.aload_n 1, 1) := dk_43 (dk_at dksX1_execute_0 20 rfl rfl)
theorem dX1_execute_21 : decode cX1_execute 21 = .ok (.iload_n 3, 1) := dk_29 (dk_at dksX1_execute_0 21 rfl rfl)
theorem dX1_execute_22 : decode cX1_execute 22 = .ok (.invokeinterface 13 2, 5) := by decide +kernel
theorem dX1_execute_27 : decode cX1_execute 27 = .ok (.checkcast 317, 3) := dk_192 1 61 (dk_at dksX1_execute_1 5 rfl rfl)
theorem dX1_execute_30 : decode cX1_execute 30 = .ok (.invokevirtual 319, 3) := dk_182 1 63 (dk_at dksX1_execute_1 8 rfl rfl)
theorem dX1_execute_33 : decode cX1_execute 33 = .ok (.aload_n 2, 1) := dk_44 (dk_at dksX1_execute_1 11 rfl rfl)
theorem dX1_execute_34 : decode cX1_execute 34 = .ok (.invokeinterface 79 2, 5) := by decide +kernel
theorem dX1_execute_39 : decode cX1_execute 39 = .ok (.pop, 1) := dk_87 (dk_at dksX1_execute_1 17 rfl rfl)
theorem dX1_execute_40 : decode cX1_execute 40 = .ok (.goto 16, 3) := dk_167 0 16 (dk_at dksX1_execute_1 18 rfl rfl)
theorem dX1_execute_43 : decode cX1_execute 43 = .ok (.astore 4, 2) := dk_58 4 (dk_at dksX1_execute_1 21 rfl rfl)
theorem dX1_execute_45 : decode cX1_execute 45 = .ok (.new 323, 3) := dk_187 1 67 (dk_at dksX1_execute_2 0 rfl rfl)
theorem dX1_execute_48 : decode cX1_execute 48 = .ok (.dup, 1) := dk_89 (dk_at dksX1_execute_2 3 rfl rfl)
theorem dX1_execute_49 : decode cX1_execute 49 = .ok (.iload_n 3, 1) := dk_29 (dk_at dksX1_execute_2 4 rfl rfl)
theorem dX1_execute_50 : decode cX1_execute 50 = .ok (.aload 4, 2) := dk_25 4 (dk_at dksX1_execute_2 5 rfl rfl)
theorem dX1_execute_52 : decode cX1_execute 52 = .ok (.invokespecial 325, 3) := dk_183 1 69 (dk_at dksX1_execute_2 7 rfl rfl)
theorem dX1_execute_55 : decode cX1_execute 55 = .ok (.athrow, 1) := dk_191 (dk_at dksX1_execute_2 10 rfl rfl)
theorem dX1_execute_56 : decode cX1_execute 56 = .ok (.iinc 3 1, 3) := dk_132 3 1 (dk_at dksX1_execute_2 11 rfl rfl)
theorem dX1_execute_59 : decode cX1_execute 59 = .ok (.goto (-49), 3) := dk_167 255 207 (dk_at dksX1_execute_2 14 rfl rfl)
theorem dX1_execute_62 : decode cX1_execute 62 = .ok (.aload_n 0, 1) := dk_42 (dk_at dksX1_execute_2 17 rfl rfl)
theorem dX1_execute_63 : decode cX1_execute 63 = .ok (.aload_n 2, 1) := dk_44 (dk_at dksX1_execute_2 18 rfl rfl)
theorem dX1_execute_64 : decode cX1_execute 64 = .ok (.aload_n 1, 1) := dk_43 (dk_at dksX1_execute_2 19 rfl rfl)
theorem dX1_execute_65 : decode cX1_execute 65 = .ok (.invokeinterface 7 1, 5) := by decide +kernel
theorem dX1_execute_70 : decode cX1_execute 70 = .ok (.invokevirtual 85, 3) := dk_182 0 85 (dk_at dksX1_execute_3 5 rfl rfl)
theorem dX1_execute_73 : decode cX1_execute 73 = .ok (.ireturn, 1) := dk_172 (dk_at dksX1_execute_3 8 rfl rfl)
abbrev cX1_errorPosition : ByteArray := prog_1_method_69_code
def yX1_errorPosition : MethodName := ⟨RX1, "errorPosition", "()I"⟩
def dkwX1_errorPosition_0 : List UInt8 := [42, 180, 0, 55, 184, 0, 158, 172]
abbrev dktX1_errorPosition_0 : List UInt8 := dkwX1_errorPosition_0 ++ []
theorem dksX1_errorPosition_0 : cX1_errorPosition.data.toList.drop 0 = dktX1_errorPosition_0 := by decide +kernel
theorem dX1_errorPosition_0 : decode cX1_errorPosition 0 = .ok (.aload_n 0, 1) := dk_42 (dk_at dksX1_errorPosition_0 0 rfl rfl)
theorem dX1_errorPosition_1 : decode cX1_errorPosition 1 = .ok (.getfield 55, 3) := dk_180 0 55 (dk_at dksX1_errorPosition_0 1 rfl rfl)
theorem dX1_errorPosition_4 : decode cX1_errorPosition 4 = .ok (.invokestatic 158, 3) := dk_184 0 158 (dk_at dksX1_errorPosition_0 4 rfl rfl)
theorem dX1_errorPosition_7 : decode cX1_errorPosition 7 = .ok (.ireturn, 1) := dk_172 (dk_at dksX1_errorPosition_0 7 rfl rfl)
abbrev cX1_failedCommand : ByteArray := prog_1_method_70_code
def yX1_failedCommand : MethodName := ⟨RX1, "failedCommand", "()I"⟩
def dkwX1_failedCommand_0 : List UInt8 := [42, 180, 0, 59, 184, 0, 158, 172]
abbrev dktX1_failedCommand_0 : List UInt8 := dkwX1_failedCommand_0 ++ []
theorem dksX1_failedCommand_0 : cX1_failedCommand.data.toList.drop 0 = dktX1_failedCommand_0 := by decide +kernel
theorem dX1_failedCommand_0 : decode cX1_failedCommand 0 = .ok (.aload_n 0, 1) := dk_42 (dk_at dksX1_failedCommand_0 0 rfl rfl)
theorem dX1_failedCommand_1 : decode cX1_failedCommand 1 = .ok (.getfield 59, 3) := dk_180 0 59 (dk_at dksX1_failedCommand_0 1 rfl rfl)
theorem dX1_failedCommand_4 : decode cX1_failedCommand 4 = .ok (.invokestatic 158, 3) := dk_184 0 158 (dk_at dksX1_failedCommand_0 4 rfl rfl)
theorem dX1_failedCommand_7 : decode cX1_failedCommand 7 = .ok (.ireturn, 1) := dk_172 (dk_at dksX1_failedCommand_0 7 rfl rfl)
abbrev cX1_undo : ByteArray := prog_1_method_71_code
def yX1_undo : MethodName := ⟨RX1, "undo", "()I"⟩
def dkwX1_undo_1 : List UInt8 := [182, 1, 103, 192, 0, 32, 181, 0, 35, 42, 180, 0, 44, 182, 0, 68, 172]
abbrev dktX1_undo_1 : List UInt8 := dkwX1_undo_1 ++ []
def dkwX1_undo_0 : List UInt8 := [42, 180, 0, 44, 182, 1, 100, 154, 0, 7, 4, 167, 0, 4, 3, 184, 0, 129, 42, 42, 180, 0, 44]
abbrev dktX1_undo_0 : List UInt8 := dkwX1_undo_0 ++ dktX1_undo_1
theorem dksX1_undo_0 : cX1_undo.data.toList.drop 0 = dktX1_undo_0 := by decide +kernel
theorem dksX1_undo_1 : cX1_undo.data.toList.drop 23 = dktX1_undo_1 := dk_seg dksX1_undo_0 23 rfl rfl
theorem dX1_undo_0 : decode cX1_undo 0 = .ok (.aload_n 0, 1) := dk_42 (dk_at dksX1_undo_0 0 rfl rfl)
theorem dX1_undo_1 : decode cX1_undo 1 = .ok (.getfield 44, 3) := dk_180 0 44 (dk_at dksX1_undo_0 1 rfl rfl)
theorem dX1_undo_4 : decode cX1_undo 4 = .ok (.invokevirtual 356, 3) := dk_182 1 100 (dk_at dksX1_undo_0 4 rfl rfl)
theorem dX1_undo_7 : decode cX1_undo 7 = .ok (.ifCond .ne 7, 3) := dk_154 0 7 (dk_at dksX1_undo_0 7 rfl rfl)
theorem dX1_undo_10 : decode cX1_undo 10 = .ok (.iconst 1, 1) := dk_4 (dk_at dksX1_undo_0 10 rfl rfl)
theorem dX1_undo_11 : decode cX1_undo 11 = .ok (.goto 4, 3) := dk_167 0 4 (dk_at dksX1_undo_0 11 rfl rfl)
theorem dX1_undo_14 : decode cX1_undo 14 = .ok (.iconst 0, 1) := dk_3 (dk_at dksX1_undo_0 14 rfl rfl)
theorem dX1_undo_15 : decode cX1_undo 15 = .ok (.invokestatic 129, 3) := dk_184 0 129 (dk_at dksX1_undo_0 15 rfl rfl)
theorem dX1_undo_18 : decode cX1_undo 18 = .ok (.aload_n 0, 1) := dk_42 (dk_at dksX1_undo_0 18 rfl rfl)
theorem dX1_undo_19 : decode cX1_undo 19 = .ok (.aload_n 0, 1) := dk_42 (dk_at dksX1_undo_0 19 rfl rfl)
theorem dX1_undo_20 : decode cX1_undo 20 = .ok (.getfield 44, 3) := dk_180 0 44 (dk_at dksX1_undo_0 20 rfl rfl)
theorem dX1_undo_23 : decode cX1_undo 23 = .ok (.invokevirtual 359, 3) := dk_182 1 103 (dk_at dksX1_undo_1 0 rfl rfl)
theorem dX1_undo_26 : decode cX1_undo 26 = .ok (.checkcast 32, 3) := dk_192 0 32 (dk_at dksX1_undo_1 3 rfl rfl)
theorem dX1_undo_29 : decode cX1_undo 29 = .ok (.putfield 35, 3) := dk_181 0 35 (dk_at dksX1_undo_1 6 rfl rfl)
theorem dX1_undo_32 : decode cX1_undo 32 = .ok (.aload_n 0, 1) := dk_42 (dk_at dksX1_undo_1 9 rfl rfl)
theorem dX1_undo_33 : decode cX1_undo 33 = .ok (.getfield 44, 3) := dk_180 0 44 (dk_at dksX1_undo_1 10 rfl rfl)
theorem dX1_undo_36 : decode cX1_undo 36 = .ok (.invokevirtual 68, 3) := dk_182 0 68 (dk_at dksX1_undo_1 13 rfl rfl)
theorem dX1_undo_39 : decode cX1_undo 39 = .ok (.ireturn, 1) := dk_172 (dk_at dksX1_undo_1 16 rfl rfl)
abbrev cX1_restore : ByteArray := prog_1_method_73_code
def yX1_restore : MethodName := ⟨RX1, "restore", "()I"⟩
def dkwX1_restore_1 : List UInt8 := [180, 0, 44, 182, 1, 109, 42, 182, 0, 226, 172]
abbrev dktX1_restore_1 : List UInt8 := dkwX1_restore_1 ++ []
def dkwX1_restore_0 : List UInt8 := [42, 180, 1, 106, 198, 0, 7, 4, 167, 0, 4, 3, 184, 0, 247, 42, 42, 180, 1, 106, 181, 0, 35, 42]
abbrev dktX1_restore_0 : List UInt8 := dkwX1_restore_0 ++ dktX1_restore_1
theorem dksX1_restore_0 : cX1_restore.data.toList.drop 0 = dktX1_restore_0 := by decide +kernel
theorem dksX1_restore_1 : cX1_restore.data.toList.drop 24 = dktX1_restore_1 := dk_seg dksX1_restore_0 24 rfl rfl
theorem dX1_restore_0 : decode cX1_restore 0 = .ok (.aload_n 0, 1) := dk_42 (dk_at dksX1_restore_0 0 rfl rfl)
theorem dX1_restore_1 : decode cX1_restore 1 = .ok (.getfield 362, 3) := dk_180 1 106 (dk_at dksX1_restore_0 1 rfl rfl)
theorem dX1_restore_4 : decode cX1_restore 4 = .ok (.ifnull 7, 3) := dk_198 0 7 (dk_at dksX1_restore_0 4 rfl rfl)
theorem dX1_restore_7 : decode cX1_restore 7 = .ok (.iconst 1, 1) := dk_4 (dk_at dksX1_restore_0 7 rfl rfl)
theorem dX1_restore_8 : decode cX1_restore 8 = .ok (.goto 4, 3) := dk_167 0 4 (dk_at dksX1_restore_0 8 rfl rfl)
theorem dX1_restore_11 : decode cX1_restore 11 = .ok (.iconst 0, 1) := dk_3 (dk_at dksX1_restore_0 11 rfl rfl)
theorem dX1_restore_12 : decode cX1_restore 12 = .ok (.invokestatic 247, 3) := dk_184 0 247 (dk_at dksX1_restore_0 12 rfl rfl)
theorem dX1_restore_15 : decode cX1_restore 15 = .ok (.aload_n 0, 1) := dk_42 (dk_at dksX1_restore_0 15 rfl rfl)
theorem dX1_restore_16 : decode cX1_restore 16 = .ok (.aload_n 0, 1) := dk_42 (dk_at dksX1_restore_0 16 rfl rfl)
theorem dX1_restore_17 : decode cX1_restore 17 = .ok (.getfield 362, 3) := dk_180 1 106 (dk_at dksX1_restore_0 17 rfl rfl)
theorem dX1_restore_20 : decode cX1_restore 20 = .ok (.putfield 35, 3) := dk_181 0 35 (dk_at dksX1_restore_0 20 rfl rfl)
theorem dX1_restore_23 : decode cX1_restore 23 = .ok (.aload_n 0, 1) := dk_42 (dk_at dksX1_restore_0 23 rfl rfl)
theorem dX1_restore_24 : decode cX1_restore 24 = .ok (.getfield 44, 3) := dk_180 0 44 (dk_at dksX1_restore_1 0 rfl rfl)
theorem dX1_restore_27 : decode cX1_restore 27 = .ok (.invokevirtual 365, 3) := dk_182 1 109 (dk_at dksX1_restore_1 3 rfl rfl)
theorem dX1_restore_30 : decode cX1_restore 30 = .ok (.aload_n 0, 1) := dk_42 (dk_at dksX1_restore_1 6 rfl rfl)
theorem dX1_restore_31 : decode cX1_restore 31 = .ok (.invokevirtual 226, 3) := dk_182 0 226 (dk_at dksX1_restore_1 7 rfl rfl)
theorem dX1_restore_34 : decode cX1_restore 34 = .ok (.ireturn, 1) := dk_172 (dk_at dksX1_restore_1 10 rfl rfl)
theorem q94 : (Jvm.Cond.initialized "GoblinHousehold") ∈ lw_all := lw_g (lw_at lw_m1 1 rfl) rfl
theorem q146 : (Jvm.Cond.instantiable "GoblinHousehold" (7 : Nat)) ∈ lw_all := lw_g (lw_at lw_m1 53 rfl) rfl
theorem q148 : (Jvm.Cond.instanceMethod ({ cls := "GoblinHousehold", name := "<init>", desc := "()V" } : Jvm.MethodName)) ∈ lw_all := lw_g (lw_at lw_m1 55 rfl) rfl
theorem q149 : (Jvm.Cond.code ({ cls := "GoblinHousehold", name := "<init>", desc := "()V" } : Jvm.MethodName) prog_1_method_4_code (1 : Nat) (Option.none : Option Jvm.ClassFile.FieldType)) ∈ lw_all := lw_g (lw_at lw_m1 56 rfl) rfl
theorem q150 : (Jvm.Cond.methodLink "GoblinHousehold" (27 : Nat) ({ cls := "java/lang/Object", name := "<init>", desc := "()V" } : Jvm.MethodName)) ∈ lw_all := lw_g (lw_at lw_m1 57 rfl) rfl
theorem q153 : (Jvm.Cond.classLink "GoblinHousehold" (32 : Nat) "GoblinHousehold$Household") ∈ lw_all := lw_g (lw_at lw_m1 60 rfl) rfl
theorem q155 : (Jvm.Cond.methodLinkNest "GoblinHousehold" (34 : Nat) ({ cls := "GoblinHousehold$Household", name := "<init>", desc := "()V" } : Jvm.MethodName) "GoblinHousehold") ∈ lw_tbl := lw_at lw_m1 62 rfl
theorem q189 : (Jvm.Cond.fieldLinkNest "GoblinHousehold" (150 : Nat) "GoblinHousehold$Household" "dust" "[I" "GoblinHousehold") ∈ lw_tbl := lw_at lw_m1 96 rfl
theorem q191 : (Jvm.Cond.fieldLinkNest "GoblinHousehold" (140 : Nat) "GoblinHousehold$Household" "brooms" "Ljava/util/List;" "GoblinHousehold") ∈ lw_tbl := lw_at lw_m1 98 rfl
theorem q193 : (Jvm.Cond.fieldLinkNest "GoblinHousehold" (175 : Nat) "GoblinHousehold$Household" "goblins" "Ljava/util/List;" "GoblinHousehold") ∈ lw_tbl := lw_at lw_m1 100 rfl
theorem q195 : (Jvm.Cond.fieldLinkNest "GoblinHousehold" (223 : Nat) "GoblinHousehold$Household" "contracts" "Ljava/util/List;" "GoblinHousehold") ∈ lw_tbl := lw_at lw_m1 102 rfl
theorem q198 : (Jvm.Cond.fieldLinkNest "GoblinHousehold" (257 : Nat) "GoblinHousehold$Household" "chest" "I" "GoblinHousehold") ∈ lw_tbl := lw_at lw_m1 105 rfl
theorem q200 : (Jvm.Cond.fieldLinkNest "GoblinHousehold" (260 : Nat) "GoblinHousehold$Household" "night" "I" "GoblinHousehold") ∈ lw_tbl := lw_at lw_m1 107 rfl
theorem q204 : (Jvm.Cond.fieldLinkNest "GoblinHousehold" (269 : Nat) "GoblinHousehold$Household" "done" "I" "GoblinHousehold") ∈ lw_tbl := lw_at lw_m1 111 rfl
theorem q206 : (Jvm.Cond.fieldLinkNest "GoblinHousehold" (272 : Nat) "GoblinHousehold$Household" "broken" "I" "GoblinHousehold") ∈ lw_tbl := lw_at lw_m1 113 rfl
theorem q208 : (Jvm.Cond.fieldLinkNest "GoblinHousehold" (275 : Nat) "GoblinHousehold$Household" "unpaid" "I" "GoblinHousehold") ∈ lw_tbl := lw_at lw_m1 115 rfl
theorem q210 : (Jvm.Cond.fieldLinkNest "GoblinHousehold" (278 : Nat) "GoblinHousehold$Household" "interest" "I" "GoblinHousehold") ∈ lw_tbl := lw_at lw_m1 117 rfl
theorem q238 : (Jvm.Cond.classLink "GoblinHousehold" (41 : Nat) "java/util/LinkedList") ∈ lw_all := lw_g (lw_at lw_m1 145 rfl) rfl
theorem q240 : (Jvm.Cond.methodLink "GoblinHousehold" (43 : Nat) ({ cls := "java/util/LinkedList", name := "<init>", desc := "()V" } : Jvm.MethodName)) ∈ lw_all := lw_g (lw_at lw_m1 147 rfl) rfl
theorem q258 : (Jvm.Cond.classLink "GoblinHousehold" (48 : Nat) "java/lang/StringBuilder") ∈ lw_all := lw_g (lw_at lw_m1 165 rfl) rfl
theorem q260 : (Jvm.Cond.methodLink "GoblinHousehold" (50 : Nat) ({ cls := "java/lang/StringBuilder", name := "<init>", desc := "()V" } : Jvm.MethodName)) ∈ lw_all := lw_g (lw_at lw_m1 167 rfl) rfl
theorem q291 : (Jvm.Cond.stringRef "GoblinHousehold" (62 : Nat) "") ∈ lw_tbl := lw_at lw_m1 198 rfl
theorem q292 : (Jvm.Cond.fieldLink "GoblinHousehold" (35 : Nat) "GoblinHousehold" "household" "LGoblinHousehold$Household;") ∈ lw_all := lw_g (lw_at lw_m1 199 rfl) rfl
theorem q293 : (Jvm.Cond.fieldLink "GoblinHousehold" (362 : Nat) "GoblinHousehold" "snapshot" "LGoblinHousehold$Household;") ∈ lw_all := lw_g (lw_at lw_m1 200 rfl) rfl
theorem q294 : (Jvm.Cond.fieldLink "GoblinHousehold" (44 : Nat) "GoblinHousehold" "history" "Ljava/util/LinkedList;") ∈ lw_all := lw_g (lw_at lw_m1 201 rfl) rfl
theorem q295 : (Jvm.Cond.fieldLink "GoblinHousehold" (51 : Nat) "GoblinHousehold" "script" "Ljava/lang/StringBuilder;") ∈ lw_all := lw_g (lw_at lw_m1 202 rfl) rfl
theorem q296 : (Jvm.Cond.fieldLink "GoblinHousehold" (55 : Nat) "GoblinHousehold" "errorPosition" "I") ∈ lw_all := lw_g (lw_at lw_m1 203 rfl) rfl
theorem q297 : (Jvm.Cond.fieldLink "GoblinHousehold" (59 : Nat) "GoblinHousehold" "failedCommand" "I") ∈ lw_all := lw_g (lw_at lw_m1 204 rfl) rfl
theorem q298 : (Jvm.Cond.fieldLink "GoblinHousehold" (64 : Nat) "GoblinHousehold" "output" "Ljava/lang/String;") ∈ lw_all := lw_g (lw_at lw_m1 205 rfl) rfl
theorem q299 : (Jvm.Cond.lays "GoblinHousehold" "GoblinHousehold" "household" "LGoblinHousehold$Household;") ∈ lw_all := lw_g (lw_at lw_m1 206 rfl) rfl
theorem q300 : (Jvm.Cond.soleField "GoblinHousehold" "household") ∈ lw_all := lw_g (lw_at lw_m1 207 rfl) rfl
theorem q301 : (Jvm.Cond.lays "GoblinHousehold" "GoblinHousehold" "snapshot" "LGoblinHousehold$Household;") ∈ lw_all := lw_g (lw_at lw_m1 208 rfl) rfl
theorem q302 : (Jvm.Cond.soleField "GoblinHousehold" "snapshot") ∈ lw_all := lw_g (lw_at lw_m1 209 rfl) rfl
theorem q303 : (Jvm.Cond.laysFinal "GoblinHousehold" "GoblinHousehold" "history" "Ljava/util/LinkedList;") ∈ lw_all := lw_g (lw_at lw_m1 210 rfl) rfl
theorem q304 : (Jvm.Cond.soleField "GoblinHousehold" "history") ∈ lw_all := lw_g (lw_at lw_m1 211 rfl) rfl
theorem q305 : (Jvm.Cond.laysFinal "GoblinHousehold" "GoblinHousehold" "script" "Ljava/lang/StringBuilder;") ∈ lw_all := lw_g (lw_at lw_m1 212 rfl) rfl
theorem q306 : (Jvm.Cond.soleField "GoblinHousehold" "script") ∈ lw_all := lw_g (lw_at lw_m1 213 rfl) rfl
theorem q307 : (Jvm.Cond.lays "GoblinHousehold" "GoblinHousehold" "errorPosition" "I") ∈ lw_all := lw_g (lw_at lw_m1 214 rfl) rfl
theorem q308 : (Jvm.Cond.soleField "GoblinHousehold" "errorPosition") ∈ lw_all := lw_g (lw_at lw_m1 215 rfl) rfl
theorem q309 : (Jvm.Cond.lays "GoblinHousehold" "GoblinHousehold" "failedCommand" "I") ∈ lw_all := lw_g (lw_at lw_m1 216 rfl) rfl
theorem q310 : (Jvm.Cond.soleField "GoblinHousehold" "failedCommand") ∈ lw_all := lw_g (lw_at lw_m1 217 rfl) rfl
theorem q311 : (Jvm.Cond.lays "GoblinHousehold" "GoblinHousehold" "output" "Ljava/lang/String;") ∈ lw_all := lw_g (lw_at lw_m1 218 rfl) rfl
theorem q312 : (Jvm.Cond.soleField "GoblinHousehold" "output") ∈ lw_all := lw_g (lw_at lw_m1 219 rfl) rfl
theorem q313 : (Jvm.Cond.superclass "GoblinHousehold" "java/lang/Object") ∈ lw_all := lw_g (lw_at lw_m1 220 rfl) rfl
theorem q315 : (Jvm.Cond.instanceMethod ({ cls := "GoblinHousehold", name := "broomCount", desc := "()I" } : Jvm.MethodName)) ∈ lw_all := lw_g (lw_at lw_m1 222 rfl) rfl
theorem q316 : (Jvm.Cond.selects "GoblinHousehold" ({ cls := "GoblinHousehold", name := "broomCount", desc := "()I" } : Jvm.MethodName) ({ cls := "GoblinHousehold", name := "broomCount", desc := "()I" } : Jvm.MethodName)) ∈ lw_all := lw_g (lw_at lw_m1 223 rfl) rfl
theorem q317 : (Jvm.Cond.code ({ cls := "GoblinHousehold", name := "broomCount", desc := "()I" } : Jvm.MethodName) prog_1_method_27_code (1 : Nat) (Option.some Jvm.ClassFile.FieldType.int)) ∈ lw_all := lw_g (lw_at lw_m1 224 rfl) rfl
theorem q318 : (Jvm.Cond.interfaceEntry "GoblinHousehold" (7 : Nat)) ∈ lw_tbl := lw_at lw_m1 225 rfl
theorem q319 : (Jvm.Cond.methodLink "GoblinHousehold" (7 : Nat) ({ cls := "java/util/List", name := "size", desc := "()I" } : Jvm.MethodName)) ∈ lw_all := lw_g (lw_at lw_m1 226 rfl) rfl
theorem q335 : (Jvm.Cond.instanceMethod ({ cls := "GoblinHousehold", name := "goblinCount", desc := "()I" } : Jvm.MethodName)) ∈ lw_all := lw_g (lw_at lw_m2 2 rfl) rfl
theorem q336 : (Jvm.Cond.selects "GoblinHousehold" ({ cls := "GoblinHousehold", name := "goblinCount", desc := "()I" } : Jvm.MethodName) ({ cls := "GoblinHousehold", name := "goblinCount", desc := "()I" } : Jvm.MethodName)) ∈ lw_all := lw_g (lw_at lw_m2 3 rfl) rfl
theorem q337 : (Jvm.Cond.code ({ cls := "GoblinHousehold", name := "goblinCount", desc := "()I" } : Jvm.MethodName) prog_1_method_31_code (1 : Nat) (Option.some Jvm.ClassFile.FieldType.int)) ∈ lw_all := lw_g (lw_at lw_m2 4 rfl) rfl
theorem q339 : (Jvm.Cond.instanceMethod ({ cls := "GoblinHousehold", name := "openContracts", desc := "()I" } : Jvm.MethodName)) ∈ lw_all := lw_g (lw_at lw_m2 6 rfl) rfl
theorem q340 : (Jvm.Cond.selects "GoblinHousehold" ({ cls := "GoblinHousehold", name := "openContracts", desc := "()I" } : Jvm.MethodName) ({ cls := "GoblinHousehold", name := "openContracts", desc := "()I" } : Jvm.MethodName)) ∈ lw_all := lw_g (lw_at lw_m2 7 rfl) rfl
theorem q341 : (Jvm.Cond.code ({ cls := "GoblinHousehold", name := "openContracts", desc := "()I" } : Jvm.MethodName) prog_1_method_42_code (1 : Nat) (Option.some Jvm.ClassFile.FieldType.int)) ∈ lw_all := lw_g (lw_at lw_m2 8 rfl) rfl
theorem q343 : (Jvm.Cond.instanceMethod ({ cls := "GoblinHousehold", name := "night", desc := "()I" } : Jvm.MethodName)) ∈ lw_all := lw_g (lw_at lw_m2 10 rfl) rfl
theorem q344 : (Jvm.Cond.selects "GoblinHousehold" ({ cls := "GoblinHousehold", name := "night", desc := "()I" } : Jvm.MethodName) ({ cls := "GoblinHousehold", name := "night", desc := "()I" } : Jvm.MethodName)) ∈ lw_all := lw_g (lw_at lw_m2 11 rfl) rfl
theorem q345 : (Jvm.Cond.code ({ cls := "GoblinHousehold", name := "night", desc := "()I" } : Jvm.MethodName) prog_1_method_51_code (1 : Nat) (Option.some Jvm.ClassFile.FieldType.int)) ∈ lw_all := lw_g (lw_at lw_m2 12 rfl) rfl
theorem q347 : (Jvm.Cond.instanceMethod ({ cls := "GoblinHousehold", name := "chest", desc := "()I" } : Jvm.MethodName)) ∈ lw_all := lw_g (lw_at lw_m2 14 rfl) rfl
theorem q348 : (Jvm.Cond.selects "GoblinHousehold" ({ cls := "GoblinHousehold", name := "chest", desc := "()I" } : Jvm.MethodName) ({ cls := "GoblinHousehold", name := "chest", desc := "()I" } : Jvm.MethodName)) ∈ lw_all := lw_g (lw_at lw_m2 15 rfl) rfl
theorem q349 : (Jvm.Cond.code ({ cls := "GoblinHousehold", name := "chest", desc := "()I" } : Jvm.MethodName) prog_1_method_52_code (1 : Nat) (Option.some Jvm.ClassFile.FieldType.int)) ∈ lw_all := lw_g (lw_at lw_m2 16 rfl) rfl
theorem q351 : (Jvm.Cond.instanceMethod ({ cls := "GoblinHousehold", name := "allCrumbs", desc := "()I" } : Jvm.MethodName)) ∈ lw_all := lw_g (lw_at lw_m2 18 rfl) rfl
theorem q352 : (Jvm.Cond.selects "GoblinHousehold" ({ cls := "GoblinHousehold", name := "allCrumbs", desc := "()I" } : Jvm.MethodName) ({ cls := "GoblinHousehold", name := "allCrumbs", desc := "()I" } : Jvm.MethodName)) ∈ lw_all := lw_g (lw_at lw_m2 19 rfl) rfl
theorem q353 : (Jvm.Cond.code ({ cls := "GoblinHousehold", name := "allCrumbs", desc := "()I" } : Jvm.MethodName) prog_1_method_53_code (1 : Nat) (Option.some Jvm.ClassFile.FieldType.int)) ∈ lw_all := lw_g (lw_at lw_m2 20 rfl) rfl
theorem q354 : (Jvm.Cond.methodLink "GoblinHousehold" (263 : Nat) ({ cls := "GoblinHousehold$Household", name := "allCrumbs", desc := "()I" } : Jvm.MethodName)) ∈ lw_all := lw_g (lw_at lw_m2 21 rfl) rfl
theorem q714 : (Jvm.Cond.instanceMethod ({ cls := "GoblinHousehold", name := "allCrumbsByAccounts", desc := "()I" } : Jvm.MethodName)) ∈ lw_all := lw_g (lw_at lw_m3 141 rfl) rfl
theorem q715 : (Jvm.Cond.selects "GoblinHousehold" ({ cls := "GoblinHousehold", name := "allCrumbsByAccounts", desc := "()I" } : Jvm.MethodName) ({ cls := "GoblinHousehold", name := "allCrumbsByAccounts", desc := "()I" } : Jvm.MethodName)) ∈ lw_all := lw_g (lw_at lw_m3 142 rfl) rfl
theorem q716 : (Jvm.Cond.code ({ cls := "GoblinHousehold", name := "allCrumbsByAccounts", desc := "()I" } : Jvm.MethodName) prog_1_method_54_code (1 : Nat) (Option.some Jvm.ClassFile.FieldType.int)) ∈ lw_all := lw_g (lw_at lw_m3 143 rfl) rfl
theorem q717 : (Jvm.Cond.methodLink "GoblinHousehold" (266 : Nat) ({ cls := "GoblinHousehold$Household", name := "allCrumbsByAccounts", desc := "()I" } : Jvm.MethodName)) ∈ lw_all := lw_g (lw_at lw_m3 144 rfl) rfl
theorem q722 : (Jvm.Cond.instanceMethod ({ cls := "GoblinHousehold", name := "doneTotal", desc := "()I" } : Jvm.MethodName)) ∈ lw_all := lw_g (lw_at lw_m3 149 rfl) rfl
theorem q723 : (Jvm.Cond.selects "GoblinHousehold" ({ cls := "GoblinHousehold", name := "doneTotal", desc := "()I" } : Jvm.MethodName) ({ cls := "GoblinHousehold", name := "doneTotal", desc := "()I" } : Jvm.MethodName)) ∈ lw_all := lw_g (lw_at lw_m3 150 rfl) rfl
theorem q724 : (Jvm.Cond.code ({ cls := "GoblinHousehold", name := "doneTotal", desc := "()I" } : Jvm.MethodName) prog_1_method_55_code (1 : Nat) (Option.some Jvm.ClassFile.FieldType.int)) ∈ lw_all := lw_g (lw_at lw_m3 151 rfl) rfl
theorem q726 : (Jvm.Cond.instanceMethod ({ cls := "GoblinHousehold", name := "brokenTotal", desc := "()I" } : Jvm.MethodName)) ∈ lw_all := lw_g (lw_at lw_m3 153 rfl) rfl
theorem q727 : (Jvm.Cond.selects "GoblinHousehold" ({ cls := "GoblinHousehold", name := "brokenTotal", desc := "()I" } : Jvm.MethodName) ({ cls := "GoblinHousehold", name := "brokenTotal", desc := "()I" } : Jvm.MethodName)) ∈ lw_all := lw_g (lw_at lw_m3 154 rfl) rfl
theorem q728 : (Jvm.Cond.code ({ cls := "GoblinHousehold", name := "brokenTotal", desc := "()I" } : Jvm.MethodName) prog_1_method_56_code (1 : Nat) (Option.some Jvm.ClassFile.FieldType.int)) ∈ lw_all := lw_g (lw_at lw_m3 155 rfl) rfl
theorem q730 : (Jvm.Cond.instanceMethod ({ cls := "GoblinHousehold", name := "unpaidTotal", desc := "()I" } : Jvm.MethodName)) ∈ lw_all := lw_g (lw_at lw_m3 157 rfl) rfl
theorem q731 : (Jvm.Cond.selects "GoblinHousehold" ({ cls := "GoblinHousehold", name := "unpaidTotal", desc := "()I" } : Jvm.MethodName) ({ cls := "GoblinHousehold", name := "unpaidTotal", desc := "()I" } : Jvm.MethodName)) ∈ lw_all := lw_g (lw_at lw_m3 158 rfl) rfl
theorem q732 : (Jvm.Cond.code ({ cls := "GoblinHousehold", name := "unpaidTotal", desc := "()I" } : Jvm.MethodName) prog_1_method_57_code (1 : Nat) (Option.some Jvm.ClassFile.FieldType.int)) ∈ lw_all := lw_g (lw_at lw_m3 159 rfl) rfl
theorem q734 : (Jvm.Cond.instanceMethod ({ cls := "GoblinHousehold", name := "interestTotal", desc := "()I" } : Jvm.MethodName)) ∈ lw_all := lw_g (lw_at lw_m3 161 rfl) rfl
theorem q735 : (Jvm.Cond.selects "GoblinHousehold" ({ cls := "GoblinHousehold", name := "interestTotal", desc := "()I" } : Jvm.MethodName) ({ cls := "GoblinHousehold", name := "interestTotal", desc := "()I" } : Jvm.MethodName)) ∈ lw_all := lw_g (lw_at lw_m3 162 rfl) rfl
theorem q736 : (Jvm.Cond.code ({ cls := "GoblinHousehold", name := "interestTotal", desc := "()I" } : Jvm.MethodName) prog_1_method_58_code (1 : Nat) (Option.some Jvm.ClassFile.FieldType.int)) ∈ lw_all := lw_g (lw_at lw_m3 163 rfl) rfl
theorem q738 : (Jvm.Cond.instanceMethod ({ cls := "GoblinHousehold", name := "meanDust", desc := "()D" } : Jvm.MethodName)) ∈ lw_all := lw_g (lw_at lw_m3 165 rfl) rfl
theorem q739 : (Jvm.Cond.selects "GoblinHousehold" ({ cls := "GoblinHousehold", name := "meanDust", desc := "()D" } : Jvm.MethodName) ({ cls := "GoblinHousehold", name := "meanDust", desc := "()D" } : Jvm.MethodName)) ∈ lw_all := lw_g (lw_at lw_m3 166 rfl) rfl
theorem q740 : (Jvm.Cond.code ({ cls := "GoblinHousehold", name := "meanDust", desc := "()D" } : Jvm.MethodName) prog_1_method_59_code (1 : Nat) (Option.some Jvm.ClassFile.FieldType.double)) ∈ lw_all := lw_g (lw_at lw_m3 167 rfl) rfl
theorem q741 : (Jvm.Cond.methodLink "GoblinHousehold" (281 : Nat) ({ cls := "GoblinHousehold$Household", name := "allDust", desc := "()I" } : Jvm.MethodName)) ∈ lw_all := lw_g (lw_at lw_m3 168 rfl) rfl
theorem q745 : (Jvm.Cond.constantDouble "GoblinHousehold" (284 : Nat) (4618441417868443648 : UInt64)) ∈ lw_all := lw_g (lw_at lw_m3 172 rfl) rfl
theorem q747 : (Jvm.Cond.instanceMethod ({ cls := "GoblinHousehold", name := "isConsistent", desc := "()Z" } : Jvm.MethodName)) ∈ lw_all := lw_g (lw_at lw_m3 174 rfl) rfl
theorem q748 : (Jvm.Cond.selects "GoblinHousehold" ({ cls := "GoblinHousehold", name := "isConsistent", desc := "()Z" } : Jvm.MethodName) ({ cls := "GoblinHousehold", name := "isConsistent", desc := "()Z" } : Jvm.MethodName)) ∈ lw_all := lw_g (lw_at lw_m3 175 rfl) rfl
theorem q749 : (Jvm.Cond.code ({ cls := "GoblinHousehold", name := "isConsistent", desc := "()Z" } : Jvm.MethodName) prog_1_method_61_code (1 : Nat) (Option.some Jvm.ClassFile.FieldType.boolean)) ∈ lw_all := lw_g (lw_at lw_m3 176 rfl) rfl
theorem q750 : (Jvm.Cond.methodLink "GoblinHousehold" (289 : Nat) ({ cls := "GoblinHousehold$Household", name := "isConsistent", desc := "()Z" } : Jvm.MethodName)) ∈ lw_all := lw_g (lw_at lw_m3 177 rfl) rfl
theorem q832 : (Jvm.Cond.instanceMethod ({ cls := "GoblinHousehold", name := "renderContracts", desc := "()I" } : Jvm.MethodName)) ∈ lw_all := lw_g (lw_at lw_m4 19 rfl) rfl
theorem q833 : (Jvm.Cond.selects "GoblinHousehold" ({ cls := "GoblinHousehold", name := "renderContracts", desc := "()I" } : Jvm.MethodName) ({ cls := "GoblinHousehold", name := "renderContracts", desc := "()I" } : Jvm.MethodName)) ∈ lw_all := lw_g (lw_at lw_m4 20 rfl) rfl
theorem q834 : (Jvm.Cond.code ({ cls := "GoblinHousehold", name := "renderContracts", desc := "()I" } : Jvm.MethodName) prog_1_method_64_code (1 : Nat) (Option.some Jvm.ClassFile.FieldType.int)) ∈ lw_all := lw_g (lw_at lw_m4 21 rfl) rfl
theorem q835 : (Jvm.Cond.methodLink "GoblinHousehold" (305 : Nat) ({ cls := "GoblinHousehold$Household", name := "contractsText", desc := "()Ljava/lang/String;" } : Jvm.MethodName)) ∈ lw_all := lw_g (lw_at lw_m4 22 rfl) rfl
theorem q858 : (Jvm.Cond.methodLink "GoblinHousehold" (301 : Nat) ({ cls := "GoblinHousehold", name := "write", desc := "(Ljava/lang/String;)I" } : Jvm.MethodName)) ∈ lw_all := lw_g (lw_at lw_m4 45 rfl) rfl
theorem q859 : (Jvm.Cond.privateMethod ({ cls := "GoblinHousehold", name := "write", desc := "(Ljava/lang/String;)I" } : Jvm.MethodName)) ∈ lw_tbl := lw_at lw_m4 46 rfl
theorem q860 : (Jvm.Cond.instanceMethod ({ cls := "GoblinHousehold", name := "write", desc := "(Ljava/lang/String;)I" } : Jvm.MethodName)) ∈ lw_all := lw_g (lw_at lw_m4 47 rfl) rfl
theorem q861 : (Jvm.Cond.code ({ cls := "GoblinHousehold", name := "write", desc := "(Ljava/lang/String;)I" } : Jvm.MethodName) prog_1_method_62_code (2 : Nat) (Option.some Jvm.ClassFile.FieldType.int)) ∈ lw_all := lw_g (lw_at lw_m4 48 rfl) rfl
theorem q862 : (Jvm.Cond.methodLink "GoblinHousehold" (292 : Nat) ({ cls := "java/lang/String", name := "length", desc := "()I" } : Jvm.MethodName)) ∈ lw_all := lw_g (lw_at lw_m4 49 rfl) rfl
theorem q864 : (Jvm.Cond.instanceMethod ({ cls := "GoblinHousehold", name := "save", desc := "()I" } : Jvm.MethodName)) ∈ lw_all := lw_g (lw_at lw_m4 51 rfl) rfl
theorem q865 : (Jvm.Cond.selects "GoblinHousehold" ({ cls := "GoblinHousehold", name := "save", desc := "()I" } : Jvm.MethodName) ({ cls := "GoblinHousehold", name := "save", desc := "()I" } : Jvm.MethodName)) ∈ lw_all := lw_g (lw_at lw_m4 52 rfl) rfl
theorem q866 : (Jvm.Cond.code ({ cls := "GoblinHousehold", name := "save", desc := "()I" } : Jvm.MethodName) prog_1_method_72_code (1 : Nat) (Option.some Jvm.ClassFile.FieldType.int)) ∈ lw_all := lw_g (lw_at lw_m4 53 rfl) rfl
theorem q867 : (Jvm.Cond.methodLink "GoblinHousehold" (226 : Nat) ({ cls := "GoblinHousehold", name := "openContracts", desc := "()I" } : Jvm.MethodName)) ∈ lw_all := lw_g (lw_at lw_m4 54 rfl) rfl
theorem q874 : (Jvm.Cond.instanceMethod ({ cls := "GoblinHousehold", name := "addGoblin", desc := "(I)I" } : Jvm.MethodName)) ∈ lw_all := lw_g (lw_at lw_m4 61 rfl) rfl
theorem q875 : (Jvm.Cond.selects "GoblinHousehold" ({ cls := "GoblinHousehold", name := "addGoblin", desc := "(I)I" } : Jvm.MethodName) ({ cls := "GoblinHousehold", name := "addGoblin", desc := "(I)I" } : Jvm.MethodName)) ∈ lw_all := lw_g (lw_at lw_m4 62 rfl) rfl
theorem q876 : (Jvm.Cond.code ({ cls := "GoblinHousehold", name := "addGoblin", desc := "(I)I" } : Jvm.MethodName) prog_1_method_7_code (2 : Nat) (Option.some Jvm.ClassFile.FieldType.int)) ∈ lw_all := lw_g (lw_at lw_m4 63 rfl) rfl
theorem q877 : (Jvm.Cond.static ({ cls := "GoblinHousehold", name := "lambda$addGoblin$0", desc := "(ILGoblinHousehold$Household;)I" } : Jvm.MethodName)) ∈ lw_all := lw_g (lw_at lw_m4 64 rfl) rfl
theorem q878 : (Jvm.Cond.code ({ cls := "GoblinHousehold", name := "lambda$addGoblin$0", desc := "(ILGoblinHousehold$Household;)I" } : Jvm.MethodName) prog_1_method_89_code (2 : Nat) (Option.some Jvm.ClassFile.FieldType.int)) ∈ lw_all := lw_g (lw_at lw_m4 65 rfl) rfl
theorem q879 : (Jvm.Cond.methodLink "GoblinHousehold" (413 : Nat) ({ cls := "GoblinHousehold$Household", name := "addGoblin", desc := "(I)I" } : Jvm.MethodName)) ∈ lw_all := lw_g (lw_at lw_m4 66 rfl) rfl
theorem q884 : (Jvm.Cond.static ({ cls := "GoblinHousehold", name := "isBetween", desc := "(III)Z" } : Jvm.MethodName)) ∈ lw_all := lw_g (lw_at lw_m4 71 rfl) rfl
theorem q885 : (Jvm.Cond.code ({ cls := "GoblinHousehold", name := "isBetween", desc := "(III)Z" } : Jvm.MethodName) prog_1_method_2_code (3 : Nat) (Option.some Jvm.ClassFile.FieldType.boolean)) ∈ lw_all := lw_g (lw_at lw_m4 72 rfl) rfl
theorem q888 : (Jvm.Cond.static ({ cls := "GoblinHousehold", name := "demand", desc := "(ZLjava/lang/String;)V" } : Jvm.MethodName)) ∈ lw_all := lw_g (lw_at lw_m4 75 rfl) rfl
theorem q889 : (Jvm.Cond.code ({ cls := "GoblinHousehold", name := "demand", desc := "(ZLjava/lang/String;)V" } : Jvm.MethodName) prog_1_method_1_code (2 : Nat) (Option.none : Option Jvm.ClassFile.FieldType)) ∈ lw_all := lw_g (lw_at lw_m4 76 rfl) rfl
theorem q890 : (Jvm.Cond.classLink "GoblinHousehold" (1 : Nat) "GoblinHousehold$ConditionFailure") ∈ lw_all := lw_g (lw_at lw_m4 77 rfl) rfl
theorem q899 : (Jvm.Cond.methodLink "GoblinHousehold" (3 : Nat) ({ cls := "GoblinHousehold$ConditionFailure", name := "<init>", desc := "(Ljava/lang/String;)V" } : Jvm.MethodName)) ∈ lw_all := lw_g (lw_at lw_m4 86 rfl) rfl
theorem q930 : (Jvm.Cond.fieldLinkNest "GoblinHousehold" (184 : Nat) "GoblinHousehold$Goblin" "strength" "I" "GoblinHousehold") ∈ lw_tbl := lw_at lw_m4 117 rfl
theorem q933 : (Jvm.Cond.fieldLinkNest "GoblinHousehold" (196 : Nat) "GoblinHousehold$Goblin" "isResting" "Z" "GoblinHousehold") ∈ lw_tbl := lw_at lw_m4 120 rfl
theorem q936 : (Jvm.Cond.fieldLinkNest "GoblinHousehold" (193 : Nat) "GoblinHousehold$Goblin" "skipped" "I" "GoblinHousehold") ∈ lw_tbl := lw_at lw_m4 123 rfl
theorem q981 : (Jvm.Cond.selects "GoblinHousehold" ({ cls := "java/lang/Object", name := "getClass", desc := "()Ljava/lang/Class;" } : Jvm.MethodName) ({ cls := "java/lang/Object", name := "getClass", desc := "()Ljava/lang/Class;" } : Jvm.MethodName)) ∈ lw_all := lw_g (lw_at lw_m4 168 rfl) rfl
theorem q1049 : (Jvm.Cond.methodLink "GoblinHousehold" (98 : Nat) ({ cls := "GoblinHousehold", name := "apply", desc := "(LGoblinHousehold$Change;)I" } : Jvm.MethodName)) ∈ lw_all := lw_g (lw_at lw_m4 236 rfl) rfl
theorem q1050 : (Jvm.Cond.privateMethod ({ cls := "GoblinHousehold", name := "apply", desc := "(LGoblinHousehold$Change;)I" } : Jvm.MethodName)) ∈ lw_tbl := lw_at lw_m4 237 rfl
theorem q1051 : (Jvm.Cond.instanceMethod ({ cls := "GoblinHousehold", name := "apply", desc := "(LGoblinHousehold$Change;)I" } : Jvm.MethodName)) ∈ lw_all := lw_g (lw_at lw_m4 238 rfl) rfl
theorem q1052 : (Jvm.Cond.codeWith ({ cls := "GoblinHousehold", name := "apply", desc := "(LGoblinHousehold$Change;)I" } : Jvm.MethodName) prog_1_method_6_code (4 : Nat) (Option.some Jvm.ClassFile.FieldType.int) [((8 : Nat), (20 : Nat), (21 : Nat), (89 : Nat))]) ∈ lw_all := lw_g (lw_at lw_m4 239 rfl) rfl
theorem q1053 : (Jvm.Cond.classLink "GoblinHousehold" (89 : Nat) "GoblinHousehold$Failure") ∈ lw_all := lw_g (lw_at lw_m5 0 rfl) rfl
theorem q1054 : (Jvm.Cond.methodLink "GoblinHousehold" (76 : Nat) ({ cls := "GoblinHousehold$Household", name := "copy", desc := "()LGoblinHousehold$Household;" } : Jvm.MethodName)) ∈ lw_all := lw_g (lw_at lw_m5 1 rfl) rfl
theorem q1062 : (Jvm.Cond.static ({ cls := "GoblinHousehold", name := "copyAll", desc := "(Ljava/util/List;Ljava/util/List;)V" } : Jvm.MethodName)) ∈ lw_all := lw_g (lw_at lw_m5 9 rfl) rfl
theorem q1063 : (Jvm.Cond.code ({ cls := "GoblinHousehold", name := "copyAll", desc := "(Ljava/util/List;Ljava/util/List;)V" } : Jvm.MethodName) prog_1_method_3_code (3 : Nat) (Option.none : Option Jvm.ClassFile.FieldType)) ∈ lw_all := lw_g (lw_at lw_m5 10 rfl) rfl
theorem q1064 : (Jvm.Cond.interfaceEntry "GoblinHousehold" (13 : Nat)) ∈ lw_tbl := lw_at lw_m5 11 rfl
theorem q1065 : (Jvm.Cond.methodLink "GoblinHousehold" (13 : Nat) ({ cls := "java/util/List", name := "get", desc := "(I)Ljava/lang/Object;" } : Jvm.MethodName)) ∈ lw_all := lw_g (lw_at lw_m5 12 rfl) rfl
theorem q1066 : (Jvm.Cond.classLink "GoblinHousehold" (17 : Nat) "GoblinHousehold$Copied") ∈ lw_all := lw_g (lw_at lw_m5 13 rfl) rfl
theorem q1067 : (Jvm.Cond.interfaceEntry "GoblinHousehold" (19 : Nat)) ∈ lw_tbl := lw_at lw_m5 14 rfl
theorem q1068 : (Jvm.Cond.methodLink "GoblinHousehold" (19 : Nat) ({ cls := "GoblinHousehold$Copied", name := "copy", desc := "()Ljava/lang/Object;" } : Jvm.MethodName)) ∈ lw_all := lw_g (lw_at lw_m5 15 rfl) rfl
theorem q1088 : (Jvm.Cond.fieldLinkNest "GoblinHousehold" (165 : Nat) "GoblinHousehold$Broom" "power" "I" "GoblinHousehold") ∈ lw_tbl := lw_at lw_m5 35 rfl
theorem q1120 : (Jvm.Cond.interfaceEntry "GoblinHousehold" (23 : Nat)) ∈ lw_tbl := lw_at lw_m5 67 rfl
theorem q1121 : (Jvm.Cond.methodLink "GoblinHousehold" (23 : Nat) ({ cls := "java/util/List", name := "add", desc := "(Ljava/lang/Object;)Z" } : Jvm.MethodName)) ∈ lw_all := lw_g (lw_at lw_m5 68 rfl) rfl
theorem q1122 : (Jvm.Cond.interfaceEntry "GoblinHousehold" (79 : Nat)) ∈ lw_tbl := lw_at lw_m5 69 rfl
theorem q1123 : (Jvm.Cond.methodLink "GoblinHousehold" (79 : Nat) ({ cls := "GoblinHousehold$Change", name := "applyTo", desc := "(LGoblinHousehold$Household;)I" } : Jvm.MethodName)) ∈ lw_all := lw_g (lw_at lw_m5 70 rfl) rfl
theorem q1126 : (Jvm.Cond.methodLink "GoblinHousehold" (85 : Nat) ({ cls := "GoblinHousehold", name := "commit", desc := "(LGoblinHousehold$Household;I)I" } : Jvm.MethodName)) ∈ lw_all := lw_g (lw_at lw_m5 73 rfl) rfl
theorem q1127 : (Jvm.Cond.privateMethod ({ cls := "GoblinHousehold", name := "commit", desc := "(LGoblinHousehold$Household;I)I" } : Jvm.MethodName)) ∈ lw_tbl := lw_at lw_m5 74 rfl
theorem q1128 : (Jvm.Cond.instanceMethod ({ cls := "GoblinHousehold", name := "commit", desc := "(LGoblinHousehold$Household;I)I" } : Jvm.MethodName)) ∈ lw_all := lw_g (lw_at lw_m5 75 rfl) rfl
theorem q1129 : (Jvm.Cond.code ({ cls := "GoblinHousehold", name := "commit", desc := "(LGoblinHousehold$Household;I)I" } : Jvm.MethodName) prog_1_method_5_code (3 : Nat) (Option.some Jvm.ClassFile.FieldType.int)) ∈ lw_all := lw_g (lw_at lw_m5 76 rfl) rfl
theorem q1130 : (Jvm.Cond.methodLink "GoblinHousehold" (68 : Nat) ({ cls := "java/util/LinkedList", name := "size", desc := "()I" } : Jvm.MethodName)) ∈ lw_all := lw_g (lw_at lw_m5 77 rfl) rfl
theorem q1131 : (Jvm.Cond.methodLink "GoblinHousehold" (69 : Nat) ({ cls := "java/util/LinkedList", name := "removeFirst", desc := "()Ljava/lang/Object;" } : Jvm.MethodName)) ∈ lw_all := lw_g (lw_at lw_m5 78 rfl) rfl
theorem q1160 : (Jvm.Cond.methodLink "GoblinHousehold" (72 : Nat) ({ cls := "java/util/LinkedList", name := "addLast", desc := "(Ljava/lang/Object;)V" } : Jvm.MethodName)) ∈ lw_all := lw_g (lw_at lw_m5 107 rfl) rfl
theorem q1164 : (Jvm.Cond.methodLink "GoblinHousehold" (91 : Nat) ({ cls := "GoblinHousehold$Failure", name := "asPublicException", desc := "()Ljava/lang/RuntimeException;" } : Jvm.MethodName)) ∈ lw_all := lw_g (lw_at lw_m5 111 rfl) rfl
theorem q1299 : (Jvm.Cond.instanceMethod ({ cls := "GoblinHousehold", name := "addBroom", desc := "(I)I" } : Jvm.MethodName)) ∈ lw_all := lw_g (lw_at lw_m6 6 rfl) rfl
theorem q1300 : (Jvm.Cond.selects "GoblinHousehold" ({ cls := "GoblinHousehold", name := "addBroom", desc := "(I)I" } : Jvm.MethodName) ({ cls := "GoblinHousehold", name := "addBroom", desc := "(I)I" } : Jvm.MethodName)) ∈ lw_all := lw_g (lw_at lw_m6 7 rfl) rfl
theorem q1301 : (Jvm.Cond.code ({ cls := "GoblinHousehold", name := "addBroom", desc := "(I)I" } : Jvm.MethodName) prog_1_method_8_code (2 : Nat) (Option.some Jvm.ClassFile.FieldType.int)) ∈ lw_all := lw_g (lw_at lw_m6 8 rfl) rfl
theorem q1302 : (Jvm.Cond.static ({ cls := "GoblinHousehold", name := "lambda$addBroom$1", desc := "(ILGoblinHousehold$Household;)I" } : Jvm.MethodName)) ∈ lw_all := lw_g (lw_at lw_m6 9 rfl) rfl
theorem q1303 : (Jvm.Cond.code ({ cls := "GoblinHousehold", name := "lambda$addBroom$1", desc := "(ILGoblinHousehold$Household;)I" } : Jvm.MethodName) prog_1_method_88_code (2 : Nat) (Option.some Jvm.ClassFile.FieldType.int)) ∈ lw_all := lw_g (lw_at lw_m6 10 rfl) rfl
theorem q1304 : (Jvm.Cond.methodLink "GoblinHousehold" (410 : Nat) ({ cls := "GoblinHousehold$Household", name := "addBroom", desc := "(I)I" } : Jvm.MethodName)) ∈ lw_all := lw_g (lw_at lw_m6 11 rfl) rfl
theorem q1329 : (Jvm.Cond.instanceMethod ({ cls := "GoblinHousehold", name := "banishBroom", desc := "(I)I" } : Jvm.MethodName)) ∈ lw_all := lw_g (lw_at lw_m6 36 rfl) rfl
theorem q1330 : (Jvm.Cond.selects "GoblinHousehold" ({ cls := "GoblinHousehold", name := "banishBroom", desc := "(I)I" } : Jvm.MethodName) ({ cls := "GoblinHousehold", name := "banishBroom", desc := "(I)I" } : Jvm.MethodName)) ∈ lw_all := lw_g (lw_at lw_m6 37 rfl) rfl
theorem q1331 : (Jvm.Cond.code ({ cls := "GoblinHousehold", name := "banishBroom", desc := "(I)I" } : Jvm.MethodName) prog_1_method_9_code (2 : Nat) (Option.some Jvm.ClassFile.FieldType.int)) ∈ lw_all := lw_g (lw_at lw_m6 38 rfl) rfl
theorem q1332 : (Jvm.Cond.static ({ cls := "GoblinHousehold", name := "lambda$banishBroom$2", desc := "(ILGoblinHousehold$Household;)I" } : Jvm.MethodName)) ∈ lw_all := lw_g (lw_at lw_m6 39 rfl) rfl
theorem q1333 : (Jvm.Cond.code ({ cls := "GoblinHousehold", name := "lambda$banishBroom$2", desc := "(ILGoblinHousehold$Household;)I" } : Jvm.MethodName) prog_1_method_87_code (2 : Nat) (Option.some Jvm.ClassFile.FieldType.int)) ∈ lw_all := lw_g (lw_at lw_m6 40 rfl) rfl
theorem q1334 : (Jvm.Cond.methodLink "GoblinHousehold" (407 : Nat) ({ cls := "GoblinHousehold$Household", name := "banish", desc := "(I)I" } : Jvm.MethodName)) ∈ lw_all := lw_g (lw_at lw_m6 41 rfl) rfl
theorem q1353 : (Jvm.Cond.instanceMethod ({ cls := "GoblinHousehold", name := "recallBroom", desc := "(I)I" } : Jvm.MethodName)) ∈ lw_all := lw_g (lw_at lw_m6 60 rfl) rfl
theorem q1354 : (Jvm.Cond.selects "GoblinHousehold" ({ cls := "GoblinHousehold", name := "recallBroom", desc := "(I)I" } : Jvm.MethodName) ({ cls := "GoblinHousehold", name := "recallBroom", desc := "(I)I" } : Jvm.MethodName)) ∈ lw_all := lw_g (lw_at lw_m6 61 rfl) rfl
theorem q1355 : (Jvm.Cond.code ({ cls := "GoblinHousehold", name := "recallBroom", desc := "(I)I" } : Jvm.MethodName) prog_1_method_10_code (2 : Nat) (Option.some Jvm.ClassFile.FieldType.int)) ∈ lw_all := lw_g (lw_at lw_m6 62 rfl) rfl
theorem q1356 : (Jvm.Cond.static ({ cls := "GoblinHousehold", name := "lambda$recallBroom$3", desc := "(ILGoblinHousehold$Household;)I" } : Jvm.MethodName)) ∈ lw_all := lw_g (lw_at lw_m6 63 rfl) rfl
theorem q1357 : (Jvm.Cond.code ({ cls := "GoblinHousehold", name := "lambda$recallBroom$3", desc := "(ILGoblinHousehold$Household;)I" } : Jvm.MethodName) prog_1_method_86_code (2 : Nat) (Option.some Jvm.ClassFile.FieldType.int)) ∈ lw_all := lw_g (lw_at lw_m6 64 rfl) rfl
theorem q1358 : (Jvm.Cond.methodLink "GoblinHousehold" (404 : Nat) ({ cls := "GoblinHousehold$Household", name := "recall", desc := "(I)I" } : Jvm.MethodName)) ∈ lw_all := lw_g (lw_at lw_m6 65 rfl) rfl
theorem q1368 : (Jvm.Cond.instanceMethod ({ cls := "GoblinHousehold", name := "hire", desc := "(IIII)I" } : Jvm.MethodName)) ∈ lw_all := lw_g (lw_at lw_m6 75 rfl) rfl
theorem q1369 : (Jvm.Cond.selects "GoblinHousehold" ({ cls := "GoblinHousehold", name := "hire", desc := "(IIII)I" } : Jvm.MethodName) ({ cls := "GoblinHousehold", name := "hire", desc := "(IIII)I" } : Jvm.MethodName)) ∈ lw_all := lw_g (lw_at lw_m6 76 rfl) rfl
theorem q1370 : (Jvm.Cond.code ({ cls := "GoblinHousehold", name := "hire", desc := "(IIII)I" } : Jvm.MethodName) prog_1_method_11_code (5 : Nat) (Option.some Jvm.ClassFile.FieldType.int)) ∈ lw_all := lw_g (lw_at lw_m6 77 rfl) rfl
theorem q1371 : (Jvm.Cond.static ({ cls := "GoblinHousehold", name := "lambda$hire$4", desc := "(IIIILGoblinHousehold$Household;)I" } : Jvm.MethodName)) ∈ lw_all := lw_g (lw_at lw_m6 78 rfl) rfl
theorem q1372 : (Jvm.Cond.code ({ cls := "GoblinHousehold", name := "lambda$hire$4", desc := "(IIIILGoblinHousehold$Household;)I" } : Jvm.MethodName) prog_1_method_85_code (5 : Nat) (Option.some Jvm.ClassFile.FieldType.int)) ∈ lw_all := lw_g (lw_at lw_m6 79 rfl) rfl
theorem q1373 : (Jvm.Cond.methodLink "GoblinHousehold" (400 : Nat) ({ cls := "GoblinHousehold$Household", name := "hire", desc := "(IIII)I" } : Jvm.MethodName)) ∈ lw_all := lw_g (lw_at lw_m6 80 rfl) rfl
theorem q1389 : (Jvm.Cond.fieldLinkNest "GoblinHousehold" (231 : Nat) "GoblinHousehold$Contract" "id" "I" "GoblinHousehold") ∈ lw_tbl := lw_at lw_m6 96 rfl
theorem q1392 : (Jvm.Cond.fieldLinkNest "GoblinHousehold" (377 : Nat) "GoblinHousehold$Contract" "goblin" "I" "GoblinHousehold") ∈ lw_tbl := lw_at lw_m6 99 rfl
theorem q1395 : (Jvm.Cond.fieldLinkNest "GoblinHousehold" (374 : Nat) "GoblinHousehold$Contract" "room" "I" "GoblinHousehold") ∈ lw_tbl := lw_at lw_m6 102 rfl
theorem q1399 : (Jvm.Cond.fieldLinkNest "GoblinHousehold" (371 : Nat) "GoblinHousehold$Contract" "wage" "I" "GoblinHousehold") ∈ lw_tbl := lw_at lw_m6 106 rfl
theorem q1403 : (Jvm.Cond.fieldLinkNest "GoblinHousehold" (368 : Nat) "GoblinHousehold$Contract" "effort" "I" "GoblinHousehold") ∈ lw_tbl := lw_at lw_m6 110 rfl
theorem q1420 : (Jvm.Cond.instanceMethod ({ cls := "GoblinHousehold", name := "cancelContract", desc := "(I)I" } : Jvm.MethodName)) ∈ lw_all := lw_g (lw_at lw_m6 127 rfl) rfl
theorem q1421 : (Jvm.Cond.selects "GoblinHousehold" ({ cls := "GoblinHousehold", name := "cancelContract", desc := "(I)I" } : Jvm.MethodName) ({ cls := "GoblinHousehold", name := "cancelContract", desc := "(I)I" } : Jvm.MethodName)) ∈ lw_all := lw_g (lw_at lw_m6 128 rfl) rfl
theorem q1422 : (Jvm.Cond.code ({ cls := "GoblinHousehold", name := "cancelContract", desc := "(I)I" } : Jvm.MethodName) prog_1_method_12_code (2 : Nat) (Option.some Jvm.ClassFile.FieldType.int)) ∈ lw_all := lw_g (lw_at lw_m6 129 rfl) rfl
theorem q1423 : (Jvm.Cond.static ({ cls := "GoblinHousehold", name := "lambda$cancelContract$5", desc := "(ILGoblinHousehold$Household;)I" } : Jvm.MethodName)) ∈ lw_all := lw_g (lw_at lw_m6 130 rfl) rfl
theorem q1424 : (Jvm.Cond.code ({ cls := "GoblinHousehold", name := "lambda$cancelContract$5", desc := "(ILGoblinHousehold$Household;)I" } : Jvm.MethodName) prog_1_method_84_code (2 : Nat) (Option.some Jvm.ClassFile.FieldType.int)) ∈ lw_all := lw_g (lw_at lw_m6 131 rfl) rfl
theorem q1425 : (Jvm.Cond.methodLink "GoblinHousehold" (397 : Nat) ({ cls := "GoblinHousehold$Household", name := "cancel", desc := "(I)I" } : Jvm.MethodName)) ∈ lw_all := lw_g (lw_at lw_m6 132 rfl) rfl
theorem q1487 : (Jvm.Cond.selects "GoblinHousehold" ({ cls := "java/lang/Object", name := "equals", desc := "(Ljava/lang/Object;)Z" } : Jvm.MethodName) ({ cls := "java/lang/Object", name := "equals", desc := "(Ljava/lang/Object;)Z" } : Jvm.MethodName)) ∈ lw_all := lw_g (lw_at lw_m6 194 rfl) rfl
theorem q1553 : (Jvm.Cond.instanceMethod ({ cls := "GoblinHousehold", name := "rest", desc := "(I)I" } : Jvm.MethodName)) ∈ lw_all := lw_g (lw_at lw_m7 20 rfl) rfl
theorem q1554 : (Jvm.Cond.selects "GoblinHousehold" ({ cls := "GoblinHousehold", name := "rest", desc := "(I)I" } : Jvm.MethodName) ({ cls := "GoblinHousehold", name := "rest", desc := "(I)I" } : Jvm.MethodName)) ∈ lw_all := lw_g (lw_at lw_m7 21 rfl) rfl
theorem q1555 : (Jvm.Cond.code ({ cls := "GoblinHousehold", name := "rest", desc := "(I)I" } : Jvm.MethodName) prog_1_method_13_code (2 : Nat) (Option.some Jvm.ClassFile.FieldType.int)) ∈ lw_all := lw_g (lw_at lw_m7 22 rfl) rfl
theorem q1556 : (Jvm.Cond.static ({ cls := "GoblinHousehold", name := "lambda$rest$6", desc := "(ILGoblinHousehold$Household;)I" } : Jvm.MethodName)) ∈ lw_all := lw_g (lw_at lw_m7 23 rfl) rfl
theorem q1557 : (Jvm.Cond.code ({ cls := "GoblinHousehold", name := "lambda$rest$6", desc := "(ILGoblinHousehold$Household;)I" } : Jvm.MethodName) prog_1_method_83_code (2 : Nat) (Option.some Jvm.ClassFile.FieldType.int)) ∈ lw_all := lw_g (lw_at lw_m7 24 rfl) rfl
theorem q1558 : (Jvm.Cond.methodLink "GoblinHousehold" (393 : Nat) ({ cls := "GoblinHousehold$Household", name := "setResting", desc := "(IZ)I" } : Jvm.MethodName)) ∈ lw_all := lw_g (lw_at lw_m7 25 rfl) rfl
theorem q1570 : (Jvm.Cond.instanceMethod ({ cls := "GoblinHousehold", name := "wake", desc := "(I)I" } : Jvm.MethodName)) ∈ lw_all := lw_g (lw_at lw_m7 37 rfl) rfl
theorem q1571 : (Jvm.Cond.selects "GoblinHousehold" ({ cls := "GoblinHousehold", name := "wake", desc := "(I)I" } : Jvm.MethodName) ({ cls := "GoblinHousehold", name := "wake", desc := "(I)I" } : Jvm.MethodName)) ∈ lw_all := lw_g (lw_at lw_m7 38 rfl) rfl
theorem q1572 : (Jvm.Cond.code ({ cls := "GoblinHousehold", name := "wake", desc := "(I)I" } : Jvm.MethodName) prog_1_method_14_code (2 : Nat) (Option.some Jvm.ClassFile.FieldType.int)) ∈ lw_all := lw_g (lw_at lw_m7 39 rfl) rfl
theorem q1573 : (Jvm.Cond.static ({ cls := "GoblinHousehold", name := "lambda$wake$7", desc := "(ILGoblinHousehold$Household;)I" } : Jvm.MethodName)) ∈ lw_all := lw_g (lw_at lw_m7 40 rfl) rfl
theorem q1574 : (Jvm.Cond.code ({ cls := "GoblinHousehold", name := "lambda$wake$7", desc := "(ILGoblinHousehold$Household;)I" } : Jvm.MethodName) prog_1_method_82_code (2 : Nat) (Option.some Jvm.ClassFile.FieldType.int)) ∈ lw_all := lw_g (lw_at lw_m7 41 rfl) rfl
theorem q1579 : (Jvm.Cond.instanceMethod ({ cls := "GoblinHousehold", name := "lend", desc := "(II)I" } : Jvm.MethodName)) ∈ lw_all := lw_g (lw_at lw_m7 46 rfl) rfl
theorem q1580 : (Jvm.Cond.selects "GoblinHousehold" ({ cls := "GoblinHousehold", name := "lend", desc := "(II)I" } : Jvm.MethodName) ({ cls := "GoblinHousehold", name := "lend", desc := "(II)I" } : Jvm.MethodName)) ∈ lw_all := lw_g (lw_at lw_m7 47 rfl) rfl
theorem q1581 : (Jvm.Cond.code ({ cls := "GoblinHousehold", name := "lend", desc := "(II)I" } : Jvm.MethodName) prog_1_method_15_code (3 : Nat) (Option.some Jvm.ClassFile.FieldType.int)) ∈ lw_all := lw_g (lw_at lw_m7 48 rfl) rfl
theorem q1582 : (Jvm.Cond.static ({ cls := "GoblinHousehold", name := "lambda$lend$8", desc := "(IILGoblinHousehold$Household;)I" } : Jvm.MethodName)) ∈ lw_all := lw_g (lw_at lw_m7 49 rfl) rfl
theorem q1583 : (Jvm.Cond.code ({ cls := "GoblinHousehold", name := "lambda$lend$8", desc := "(IILGoblinHousehold$Household;)I" } : Jvm.MethodName) prog_1_method_81_code (3 : Nat) (Option.some Jvm.ClassFile.FieldType.int)) ∈ lw_all := lw_g (lw_at lw_m7 50 rfl) rfl
theorem q1584 : (Jvm.Cond.methodLink "GoblinHousehold" (389 : Nat) ({ cls := "GoblinHousehold$Household", name := "lend", desc := "(II)I" } : Jvm.MethodName)) ∈ lw_all := lw_g (lw_at lw_m7 51 rfl) rfl
theorem q1598 : (Jvm.Cond.instanceMethod ({ cls := "GoblinHousehold", name := "fund", desc := "(I)I" } : Jvm.MethodName)) ∈ lw_all := lw_g (lw_at lw_m7 65 rfl) rfl
theorem q1599 : (Jvm.Cond.selects "GoblinHousehold" ({ cls := "GoblinHousehold", name := "fund", desc := "(I)I" } : Jvm.MethodName) ({ cls := "GoblinHousehold", name := "fund", desc := "(I)I" } : Jvm.MethodName)) ∈ lw_all := lw_g (lw_at lw_m7 66 rfl) rfl
theorem q1600 : (Jvm.Cond.code ({ cls := "GoblinHousehold", name := "fund", desc := "(I)I" } : Jvm.MethodName) prog_1_method_16_code (2 : Nat) (Option.some Jvm.ClassFile.FieldType.int)) ∈ lw_all := lw_g (lw_at lw_m7 67 rfl) rfl
theorem q1601 : (Jvm.Cond.static ({ cls := "GoblinHousehold", name := "lambda$fund$9", desc := "(ILGoblinHousehold$Household;)I" } : Jvm.MethodName)) ∈ lw_all := lw_g (lw_at lw_m7 68 rfl) rfl
theorem q1602 : (Jvm.Cond.code ({ cls := "GoblinHousehold", name := "lambda$fund$9", desc := "(ILGoblinHousehold$Household;)I" } : Jvm.MethodName) prog_1_method_80_code (2 : Nat) (Option.some Jvm.ClassFile.FieldType.int)) ∈ lw_all := lw_g (lw_at lw_m7 69 rfl) rfl
theorem q1603 : (Jvm.Cond.methodLink "GoblinHousehold" (386 : Nat) ({ cls := "GoblinHousehold$Household", name := "fund", desc := "(I)I" } : Jvm.MethodName)) ∈ lw_all := lw_g (lw_at lw_m7 70 rfl) rfl
theorem q1611 : (Jvm.Cond.instanceMethod ({ cls := "GoblinHousehold", name := "spend", desc := "(I)I" } : Jvm.MethodName)) ∈ lw_all := lw_g (lw_at lw_m7 78 rfl) rfl
theorem q1612 : (Jvm.Cond.selects "GoblinHousehold" ({ cls := "GoblinHousehold", name := "spend", desc := "(I)I" } : Jvm.MethodName) ({ cls := "GoblinHousehold", name := "spend", desc := "(I)I" } : Jvm.MethodName)) ∈ lw_all := lw_g (lw_at lw_m7 79 rfl) rfl
theorem q1613 : (Jvm.Cond.code ({ cls := "GoblinHousehold", name := "spend", desc := "(I)I" } : Jvm.MethodName) prog_1_method_17_code (2 : Nat) (Option.some Jvm.ClassFile.FieldType.int)) ∈ lw_all := lw_g (lw_at lw_m7 80 rfl) rfl
theorem q1614 : (Jvm.Cond.static ({ cls := "GoblinHousehold", name := "lambda$spend$10", desc := "(ILGoblinHousehold$Household;)I" } : Jvm.MethodName)) ∈ lw_all := lw_g (lw_at lw_m7 81 rfl) rfl
theorem q1615 : (Jvm.Cond.code ({ cls := "GoblinHousehold", name := "lambda$spend$10", desc := "(ILGoblinHousehold$Household;)I" } : Jvm.MethodName) prog_1_method_79_code (2 : Nat) (Option.some Jvm.ClassFile.FieldType.int)) ∈ lw_all := lw_g (lw_at lw_m7 82 rfl) rfl
theorem q1616 : (Jvm.Cond.methodLink "GoblinHousehold" (383 : Nat) ({ cls := "GoblinHousehold$Household", name := "spend", desc := "(I)I" } : Jvm.MethodName)) ∈ lw_all := lw_g (lw_at lw_m7 83 rfl) rfl
theorem q1624 : (Jvm.Cond.instanceMethod ({ cls := "GoblinHousehold", name := "passNights", desc := "(I)I" } : Jvm.MethodName)) ∈ lw_all := lw_g (lw_at lw_m7 91 rfl) rfl
theorem q1625 : (Jvm.Cond.selects "GoblinHousehold" ({ cls := "GoblinHousehold", name := "passNights", desc := "(I)I" } : Jvm.MethodName) ({ cls := "GoblinHousehold", name := "passNights", desc := "(I)I" } : Jvm.MethodName)) ∈ lw_all := lw_g (lw_at lw_m7 92 rfl) rfl
theorem q1626 : (Jvm.Cond.code ({ cls := "GoblinHousehold", name := "passNights", desc := "(I)I" } : Jvm.MethodName) prog_1_method_18_code (2 : Nat) (Option.some Jvm.ClassFile.FieldType.int)) ∈ lw_all := lw_g (lw_at lw_m7 93 rfl) rfl
theorem q1627 : (Jvm.Cond.static ({ cls := "GoblinHousehold", name := "lambda$passNights$11", desc := "(ILGoblinHousehold$Household;)I" } : Jvm.MethodName)) ∈ lw_all := lw_g (lw_at lw_m7 94 rfl) rfl
theorem q1628 : (Jvm.Cond.code ({ cls := "GoblinHousehold", name := "lambda$passNights$11", desc := "(ILGoblinHousehold$Household;)I" } : Jvm.MethodName) prog_1_method_78_code (2 : Nat) (Option.some Jvm.ClassFile.FieldType.int)) ∈ lw_all := lw_g (lw_at lw_m7 95 rfl) rfl
theorem q1629 : (Jvm.Cond.methodLink "GoblinHousehold" (380 : Nat) ({ cls := "GoblinHousehold$Household", name := "passNights", desc := "(I)I" } : Jvm.MethodName)) ∈ lw_all := lw_g (lw_at lw_m7 96 rfl) rfl
theorem q1710 : (Jvm.Cond.instanceMethod ({ cls := "GoblinHousehold", name := "dust", desc := "(I)I" } : Jvm.MethodName)) ∈ lw_all := lw_g (lw_at lw_m7 177 rfl) rfl
theorem q1711 : (Jvm.Cond.selects "GoblinHousehold" ({ cls := "GoblinHousehold", name := "dust", desc := "(I)I" } : Jvm.MethodName) ({ cls := "GoblinHousehold", name := "dust", desc := "(I)I" } : Jvm.MethodName)) ∈ lw_all := lw_g (lw_at lw_m7 178 rfl) rfl
theorem q1712 : (Jvm.Cond.code ({ cls := "GoblinHousehold", name := "dust", desc := "(I)I" } : Jvm.MethodName) prog_1_method_25_code (2 : Nat) (Option.some Jvm.ClassFile.FieldType.int)) ∈ lw_all := lw_g (lw_at lw_m7 179 rfl) rfl
theorem q1713 : (Jvm.Cond.methodLink "GoblinHousehold" (146 : Nat) ({ cls := "GoblinHousehold", name := "isBetween", desc := "(III)Z" } : Jvm.MethodName)) ∈ lw_all := lw_g (lw_at lw_m7 180 rfl) rfl
theorem q1714 : (Jvm.Cond.methodLink "GoblinHousehold" (137 : Nat) ({ cls := "GoblinHousehold", name := "checkIndex", desc := "(Z)V" } : Jvm.MethodName)) ∈ lw_all := lw_g (lw_at lw_m7 181 rfl) rfl
theorem q1715 : (Jvm.Cond.static ({ cls := "GoblinHousehold", name := "checkIndex", desc := "(Z)V" } : Jvm.MethodName)) ∈ lw_all := lw_g (lw_at lw_m7 182 rfl) rfl
theorem q1716 : (Jvm.Cond.code ({ cls := "GoblinHousehold", name := "checkIndex", desc := "(Z)V" } : Jvm.MethodName) prog_1_method_19_code (1 : Nat) (Option.none : Option Jvm.ClassFile.FieldType)) ∈ lw_all := lw_g (lw_at lw_m7 183 rfl) rfl
theorem q1717 : (Jvm.Cond.classLink "GoblinHousehold" (117 : Nat) "java/lang/IndexOutOfBoundsException") ∈ lw_all := lw_g (lw_at lw_m7 184 rfl) rfl
theorem q1718 : (Jvm.Cond.methodLink "GoblinHousehold" (119 : Nat) ({ cls := "java/lang/IndexOutOfBoundsException", name := "<init>", desc := "()V" } : Jvm.MethodName)) ∈ lw_all := lw_g (lw_at lw_m7 185 rfl) rfl
theorem q1723 : (Jvm.Cond.instanceMethod ({ cls := "GoblinHousehold", name := "roomByDust", desc := "(I)I" } : Jvm.MethodName)) ∈ lw_all := lw_g (lw_at lw_m7 190 rfl) rfl
theorem q1724 : (Jvm.Cond.selects "GoblinHousehold" ({ cls := "GoblinHousehold", name := "roomByDust", desc := "(I)I" } : Jvm.MethodName) ({ cls := "GoblinHousehold", name := "roomByDust", desc := "(I)I" } : Jvm.MethodName)) ∈ lw_all := lw_g (lw_at lw_m7 191 rfl) rfl
theorem q1725 : (Jvm.Cond.code ({ cls := "GoblinHousehold", name := "roomByDust", desc := "(I)I" } : Jvm.MethodName) prog_1_method_26_code (2 : Nat) (Option.some Jvm.ClassFile.FieldType.int)) ∈ lw_all := lw_g (lw_at lw_m7 192 rfl) rfl
theorem q1726 : (Jvm.Cond.methodLink "GoblinHousehold" (154 : Nat) ({ cls := "GoblinHousehold$Household", name := "roomAt", desc := "(I)I" } : Jvm.MethodName)) ∈ lw_all := lw_g (lw_at lw_m7 193 rfl) rfl
theorem q1730 : (Jvm.Cond.methodLink "GoblinHousehold" (158 : Nat) ({ cls := "GoblinHousehold", name := "found", desc := "(I)I" } : Jvm.MethodName)) ∈ lw_all := lw_g (lw_at lw_m7 197 rfl) rfl
theorem q1731 : (Jvm.Cond.static ({ cls := "GoblinHousehold", name := "found", desc := "(I)I" } : Jvm.MethodName)) ∈ lw_all := lw_g (lw_at lw_m7 198 rfl) rfl
theorem q1732 : (Jvm.Cond.code ({ cls := "GoblinHousehold", name := "found", desc := "(I)I" } : Jvm.MethodName) prog_1_method_23_code (1 : Nat) (Option.some Jvm.ClassFile.FieldType.int)) ∈ lw_all := lw_g (lw_at lw_m7 199 rfl) rfl
theorem q1733 : (Jvm.Cond.methodLink "GoblinHousehold" (129 : Nat) ({ cls := "GoblinHousehold", name := "checkElement", desc := "(Z)V" } : Jvm.MethodName)) ∈ lw_all := lw_g (lw_at lw_m7 200 rfl) rfl
theorem q1734 : (Jvm.Cond.static ({ cls := "GoblinHousehold", name := "checkElement", desc := "(Z)V" } : Jvm.MethodName)) ∈ lw_all := lw_g (lw_at lw_m7 201 rfl) rfl
theorem q1735 : (Jvm.Cond.code ({ cls := "GoblinHousehold", name := "checkElement", desc := "(Z)V" } : Jvm.MethodName) prog_1_method_21_code (1 : Nat) (Option.none : Option Jvm.ClassFile.FieldType)) ∈ lw_all := lw_g (lw_at lw_m7 202 rfl) rfl
theorem q1736 : (Jvm.Cond.classLink "GoblinHousehold" (123 : Nat) "java/util/NoSuchElementException") ∈ lw_all := lw_g (lw_at lw_m7 203 rfl) rfl
theorem q1737 : (Jvm.Cond.methodLink "GoblinHousehold" (125 : Nat) ({ cls := "java/util/NoSuchElementException", name := "<init>", desc := "()V" } : Jvm.MethodName)) ∈ lw_all := lw_g (lw_at lw_m7 204 rfl) rfl
theorem q1742 : (Jvm.Cond.instanceMethod ({ cls := "GoblinHousehold", name := "power", desc := "(I)I" } : Jvm.MethodName)) ∈ lw_all := lw_g (lw_at lw_m7 209 rfl) rfl
theorem q1743 : (Jvm.Cond.selects "GoblinHousehold" ({ cls := "GoblinHousehold", name := "power", desc := "(I)I" } : Jvm.MethodName) ({ cls := "GoblinHousehold", name := "power", desc := "(I)I" } : Jvm.MethodName)) ∈ lw_all := lw_g (lw_at lw_m7 210 rfl) rfl
theorem q1744 : (Jvm.Cond.code ({ cls := "GoblinHousehold", name := "power", desc := "(I)I" } : Jvm.MethodName) prog_1_method_28_code (2 : Nat) (Option.some Jvm.ClassFile.FieldType.int)) ∈ lw_all := lw_g (lw_at lw_m7 211 rfl) rfl
theorem q1745 : (Jvm.Cond.methodLink "GoblinHousehold" (161 : Nat) ({ cls := "GoblinHousehold", name := "broomAt", desc := "(I)LGoblinHousehold$Broom;" } : Jvm.MethodName)) ∈ lw_all := lw_g (lw_at lw_m7 212 rfl) rfl
theorem q1746 : (Jvm.Cond.privateMethod ({ cls := "GoblinHousehold", name := "broomAt", desc := "(I)LGoblinHousehold$Broom;" } : Jvm.MethodName)) ∈ lw_tbl := lw_at lw_m7 213 rfl
theorem q1747 : (Jvm.Cond.instanceMethod ({ cls := "GoblinHousehold", name := "broomAt", desc := "(I)LGoblinHousehold$Broom;" } : Jvm.MethodName)) ∈ lw_all := lw_g (lw_at lw_m7 214 rfl) rfl
theorem q1748 : (Jvm.Cond.code ({ cls := "GoblinHousehold", name := "broomAt", desc := "(I)LGoblinHousehold$Broom;" } : Jvm.MethodName) prog_1_method_24_code (2 : Nat) (Option.some (Jvm.ClassFile.FieldType.object "GoblinHousehold$Broom"))) ∈ lw_all := lw_g (lw_at lw_m7 215 rfl) rfl
theorem q1749 : (Jvm.Cond.methodLink "GoblinHousehold" (133 : Nat) ({ cls := "GoblinHousehold$Household", name := "isBroom", desc := "(I)Z" } : Jvm.MethodName)) ∈ lw_all := lw_g (lw_at lw_m7 216 rfl) rfl
theorem q1750 : (Jvm.Cond.classLink "GoblinHousehold" (144 : Nat) "GoblinHousehold$Broom") ∈ lw_all := lw_g (lw_at lw_m7 217 rfl) rfl
theorem q1755 : (Jvm.Cond.instanceMethod ({ cls := "GoblinHousehold", name := "isBanished", desc := "(I)Z" } : Jvm.MethodName)) ∈ lw_all := lw_g (lw_at lw_m7 222 rfl) rfl
theorem q1756 : (Jvm.Cond.selects "GoblinHousehold" ({ cls := "GoblinHousehold", name := "isBanished", desc := "(I)Z" } : Jvm.MethodName) ({ cls := "GoblinHousehold", name := "isBanished", desc := "(I)Z" } : Jvm.MethodName)) ∈ lw_all := lw_g (lw_at lw_m7 223 rfl) rfl
theorem q1757 : (Jvm.Cond.code ({ cls := "GoblinHousehold", name := "isBanished", desc := "(I)Z" } : Jvm.MethodName) prog_1_method_29_code (2 : Nat) (Option.some Jvm.ClassFile.FieldType.boolean)) ∈ lw_all := lw_g (lw_at lw_m7 224 rfl) rfl
theorem q1758 : (Jvm.Cond.methodLink "GoblinHousehold" (168 : Nat) ({ cls := "GoblinHousehold$Broom", name := "isUsed", desc := "()Z" } : Jvm.MethodName)) ∈ lw_all := lw_g (lw_at lw_m7 225 rfl) rfl
theorem q1763 : (Jvm.Cond.instanceMethod ({ cls := "GoblinHousehold", name := "strength", desc := "(I)I" } : Jvm.MethodName)) ∈ lw_all := lw_g (lw_at lw_m7 230 rfl) rfl
theorem q1764 : (Jvm.Cond.selects "GoblinHousehold" ({ cls := "GoblinHousehold", name := "strength", desc := "(I)I" } : Jvm.MethodName) ({ cls := "GoblinHousehold", name := "strength", desc := "(I)I" } : Jvm.MethodName)) ∈ lw_all := lw_g (lw_at lw_m7 231 rfl) rfl
theorem q1765 : (Jvm.Cond.code ({ cls := "GoblinHousehold", name := "strength", desc := "(I)I" } : Jvm.MethodName) prog_1_method_32_code (2 : Nat) (Option.some Jvm.ClassFile.FieldType.int)) ∈ lw_all := lw_g (lw_at lw_m7 232 rfl) rfl
theorem q1766 : (Jvm.Cond.methodLink "GoblinHousehold" (180 : Nat) ({ cls := "GoblinHousehold", name := "goblinFor", desc := "(I)LGoblinHousehold$Goblin;" } : Jvm.MethodName)) ∈ lw_all := lw_g (lw_at lw_m7 233 rfl) rfl
theorem q1767 : (Jvm.Cond.privateMethod ({ cls := "GoblinHousehold", name := "goblinFor", desc := "(I)LGoblinHousehold$Goblin;" } : Jvm.MethodName)) ∈ lw_tbl := lw_at lw_m7 234 rfl
theorem q1768 : (Jvm.Cond.instanceMethod ({ cls := "GoblinHousehold", name := "goblinFor", desc := "(I)LGoblinHousehold$Goblin;" } : Jvm.MethodName)) ∈ lw_all := lw_g (lw_at lw_m7 235 rfl) rfl
theorem q1769 : (Jvm.Cond.code ({ cls := "GoblinHousehold", name := "goblinFor", desc := "(I)LGoblinHousehold$Goblin;" } : Jvm.MethodName) prog_1_method_30_code (2 : Nat) (Option.some (Jvm.ClassFile.FieldType.object "GoblinHousehold$Goblin"))) ∈ lw_all := lw_g (lw_at lw_m7 236 rfl) rfl
theorem q1770 : (Jvm.Cond.methodLink "GoblinHousehold" (172 : Nat) ({ cls := "GoblinHousehold$Household", name := "isGoblin", desc := "(I)Z" } : Jvm.MethodName)) ∈ lw_all := lw_g (lw_at lw_m7 237 rfl) rfl
theorem q1771 : (Jvm.Cond.classLink "GoblinHousehold" (178 : Nat) "GoblinHousehold$Goblin") ∈ lw_all := lw_g (lw_at lw_m7 238 rfl) rfl
theorem q1776 : (Jvm.Cond.instanceMethod ({ cls := "GoblinHousehold", name := "purse", desc := "(I)I" } : Jvm.MethodName)) ∈ lw_all := lw_g (lw_at lw_m8 3 rfl) rfl
theorem q1777 : (Jvm.Cond.selects "GoblinHousehold" ({ cls := "GoblinHousehold", name := "purse", desc := "(I)I" } : Jvm.MethodName) ({ cls := "GoblinHousehold", name := "purse", desc := "(I)I" } : Jvm.MethodName)) ∈ lw_all := lw_g (lw_at lw_m8 4 rfl) rfl
theorem q1778 : (Jvm.Cond.code ({ cls := "GoblinHousehold", name := "purse", desc := "(I)I" } : Jvm.MethodName) prog_1_method_33_code (2 : Nat) (Option.some Jvm.ClassFile.FieldType.int)) ∈ lw_all := lw_g (lw_at lw_m8 5 rfl) rfl
theorem q1779 : (Jvm.Cond.methodLink "GoblinHousehold" (187 : Nat) ({ cls := "GoblinHousehold$Goblin", name := "purse", desc := "()I" } : Jvm.MethodName)) ∈ lw_all := lw_g (lw_at lw_m8 6 rfl) rfl
theorem q1784 : (Jvm.Cond.instanceMethod ({ cls := "GoblinHousehold", name := "debt", desc := "(I)I" } : Jvm.MethodName)) ∈ lw_all := lw_g (lw_at lw_m8 11 rfl) rfl
theorem q1785 : (Jvm.Cond.selects "GoblinHousehold" ({ cls := "GoblinHousehold", name := "debt", desc := "(I)I" } : Jvm.MethodName) ({ cls := "GoblinHousehold", name := "debt", desc := "(I)I" } : Jvm.MethodName)) ∈ lw_all := lw_g (lw_at lw_m8 12 rfl) rfl
theorem q1786 : (Jvm.Cond.code ({ cls := "GoblinHousehold", name := "debt", desc := "(I)I" } : Jvm.MethodName) prog_1_method_34_code (2 : Nat) (Option.some Jvm.ClassFile.FieldType.int)) ∈ lw_all := lw_g (lw_at lw_m8 13 rfl) rfl
theorem q1787 : (Jvm.Cond.methodLink "GoblinHousehold" (190 : Nat) ({ cls := "GoblinHousehold$Goblin", name := "debt", desc := "()I" } : Jvm.MethodName)) ∈ lw_all := lw_g (lw_at lw_m8 14 rfl) rfl
theorem q1792 : (Jvm.Cond.instanceMethod ({ cls := "GoblinHousehold", name := "skippedNights", desc := "(I)I" } : Jvm.MethodName)) ∈ lw_all := lw_g (lw_at lw_m8 19 rfl) rfl
theorem q1793 : (Jvm.Cond.selects "GoblinHousehold" ({ cls := "GoblinHousehold", name := "skippedNights", desc := "(I)I" } : Jvm.MethodName) ({ cls := "GoblinHousehold", name := "skippedNights", desc := "(I)I" } : Jvm.MethodName)) ∈ lw_all := lw_g (lw_at lw_m8 20 rfl) rfl
theorem q1794 : (Jvm.Cond.code ({ cls := "GoblinHousehold", name := "skippedNights", desc := "(I)I" } : Jvm.MethodName) prog_1_method_35_code (2 : Nat) (Option.some Jvm.ClassFile.FieldType.int)) ∈ lw_all := lw_g (lw_at lw_m8 21 rfl) rfl
theorem q1799 : (Jvm.Cond.instanceMethod ({ cls := "GoblinHousehold", name := "isResting", desc := "(I)Z" } : Jvm.MethodName)) ∈ lw_all := lw_g (lw_at lw_m8 26 rfl) rfl
theorem q1800 : (Jvm.Cond.selects "GoblinHousehold" ({ cls := "GoblinHousehold", name := "isResting", desc := "(I)Z" } : Jvm.MethodName) ({ cls := "GoblinHousehold", name := "isResting", desc := "(I)Z" } : Jvm.MethodName)) ∈ lw_all := lw_g (lw_at lw_m8 27 rfl) rfl
theorem q1801 : (Jvm.Cond.code ({ cls := "GoblinHousehold", name := "isResting", desc := "(I)Z" } : Jvm.MethodName) prog_1_method_36_code (2 : Nat) (Option.some Jvm.ClassFile.FieldType.boolean)) ∈ lw_all := lw_g (lw_at lw_m8 28 rfl) rfl
theorem q1806 : (Jvm.Cond.instanceMethod ({ cls := "GoblinHousehold", name := "energy", desc := "(I)I" } : Jvm.MethodName)) ∈ lw_all := lw_g (lw_at lw_m8 33 rfl) rfl
theorem q1807 : (Jvm.Cond.selects "GoblinHousehold" ({ cls := "GoblinHousehold", name := "energy", desc := "(I)I" } : Jvm.MethodName) ({ cls := "GoblinHousehold", name := "energy", desc := "(I)I" } : Jvm.MethodName)) ∈ lw_all := lw_g (lw_at lw_m8 34 rfl) rfl
theorem q1808 : (Jvm.Cond.code ({ cls := "GoblinHousehold", name := "energy", desc := "(I)I" } : Jvm.MethodName) prog_1_method_37_code (2 : Nat) (Option.some Jvm.ClassFile.FieldType.int)) ∈ lw_all := lw_g (lw_at lw_m8 35 rfl) rfl
theorem q1809 : (Jvm.Cond.methodLink "GoblinHousehold" (200 : Nat) ({ cls := "GoblinHousehold$Household", name := "energy", desc := "(LGoblinHousehold$Goblin;)I" } : Jvm.MethodName)) ∈ lw_all := lw_g (lw_at lw_m8 36 rfl) rfl
theorem q1814 : (Jvm.Cond.instanceMethod ({ cls := "GoblinHousehold", name := "goblinByWealth", desc := "(I)I" } : Jvm.MethodName)) ∈ lw_all := lw_g (lw_at lw_m8 41 rfl) rfl
theorem q1815 : (Jvm.Cond.selects "GoblinHousehold" ({ cls := "GoblinHousehold", name := "goblinByWealth", desc := "(I)I" } : Jvm.MethodName) ({ cls := "GoblinHousehold", name := "goblinByWealth", desc := "(I)I" } : Jvm.MethodName)) ∈ lw_all := lw_g (lw_at lw_m8 42 rfl) rfl
theorem q1816 : (Jvm.Cond.code ({ cls := "GoblinHousehold", name := "goblinByWealth", desc := "(I)I" } : Jvm.MethodName) prog_1_method_38_code (2 : Nat) (Option.some Jvm.ClassFile.FieldType.int)) ∈ lw_all := lw_g (lw_at lw_m8 43 rfl) rfl
theorem q1817 : (Jvm.Cond.methodLink "GoblinHousehold" (204 : Nat) ({ cls := "GoblinHousehold$Household", name := "goblinAt", desc := "(I)I" } : Jvm.MethodName)) ∈ lw_all := lw_g (lw_at lw_m8 44 rfl) rfl
theorem q1835 : (Jvm.Cond.instanceMethod ({ cls := "GoblinHousehold", name := "bestWages", desc := "(I)I" } : Jvm.MethodName)) ∈ lw_all := lw_g (lw_at lw_m8 62 rfl) rfl
theorem q1836 : (Jvm.Cond.selects "GoblinHousehold" ({ cls := "GoblinHousehold", name := "bestWages", desc := "(I)I" } : Jvm.MethodName) ({ cls := "GoblinHousehold", name := "bestWages", desc := "(I)I" } : Jvm.MethodName)) ∈ lw_all := lw_g (lw_at lw_m8 63 rfl) rfl
theorem q1837 : (Jvm.Cond.code ({ cls := "GoblinHousehold", name := "bestWages", desc := "(I)I" } : Jvm.MethodName) prog_1_method_39_code (2 : Nat) (Option.some Jvm.ClassFile.FieldType.int)) ∈ lw_all := lw_g (lw_at lw_m8 64 rfl) rfl
theorem q1838 : (Jvm.Cond.methodLink "GoblinHousehold" (207 : Nat) ({ cls := "GoblinHousehold$Household", name := "bestWages", desc := "(I)I" } : Jvm.MethodName)) ∈ lw_all := lw_g (lw_at lw_m8 65 rfl) rfl
theorem q1843 : (Jvm.Cond.instanceMethod ({ cls := "GoblinHousehold", name := "bestWagesByTable", desc := "(I)I" } : Jvm.MethodName)) ∈ lw_all := lw_g (lw_at lw_m8 70 rfl) rfl
theorem q1844 : (Jvm.Cond.selects "GoblinHousehold" ({ cls := "GoblinHousehold", name := "bestWagesByTable", desc := "(I)I" } : Jvm.MethodName) ({ cls := "GoblinHousehold", name := "bestWagesByTable", desc := "(I)I" } : Jvm.MethodName)) ∈ lw_all := lw_g (lw_at lw_m8 71 rfl) rfl
theorem q1845 : (Jvm.Cond.code ({ cls := "GoblinHousehold", name := "bestWagesByTable", desc := "(I)I" } : Jvm.MethodName) prog_1_method_40_code (2 : Nat) (Option.some Jvm.ClassFile.FieldType.int)) ∈ lw_all := lw_g (lw_at lw_m8 72 rfl) rfl
theorem q1846 : (Jvm.Cond.methodLink "GoblinHousehold" (210 : Nat) ({ cls := "GoblinHousehold$Household", name := "bestWagesByTable", desc := "(I)I" } : Jvm.MethodName)) ∈ lw_all := lw_g (lw_at lw_m8 73 rfl) rfl
theorem q1851 : (Jvm.Cond.instanceMethod ({ cls := "GoblinHousehold", name := "contractAt", desc := "(I)I" } : Jvm.MethodName)) ∈ lw_all := lw_g (lw_at lw_m8 78 rfl) rfl
theorem q1852 : (Jvm.Cond.selects "GoblinHousehold" ({ cls := "GoblinHousehold", name := "contractAt", desc := "(I)I" } : Jvm.MethodName) ({ cls := "GoblinHousehold", name := "contractAt", desc := "(I)I" } : Jvm.MethodName)) ∈ lw_all := lw_g (lw_at lw_m8 79 rfl) rfl
theorem q1853 : (Jvm.Cond.code ({ cls := "GoblinHousehold", name := "contractAt", desc := "(I)I" } : Jvm.MethodName) prog_1_method_43_code (2 : Nat) (Option.some Jvm.ClassFile.FieldType.int)) ∈ lw_all := lw_g (lw_at lw_m8 80 rfl) rfl
theorem q1854 : (Jvm.Cond.classLink "GoblinHousehold" (229 : Nat) "GoblinHousehold$Contract") ∈ lw_all := lw_g (lw_at lw_m8 81 rfl) rfl
theorem q1859 : (Jvm.Cond.instanceMethod ({ cls := "GoblinHousehold", name := "goblinOf", desc := "(I)I" } : Jvm.MethodName)) ∈ lw_all := lw_g (lw_at lw_m8 86 rfl) rfl
theorem q1860 : (Jvm.Cond.selects "GoblinHousehold" ({ cls := "GoblinHousehold", name := "goblinOf", desc := "(I)I" } : Jvm.MethodName) ({ cls := "GoblinHousehold", name := "goblinOf", desc := "(I)I" } : Jvm.MethodName)) ∈ lw_all := lw_g (lw_at lw_m8 87 rfl) rfl
theorem q1861 : (Jvm.Cond.code ({ cls := "GoblinHousehold", name := "goblinOf", desc := "(I)I" } : Jvm.MethodName) prog_1_method_44_code (2 : Nat) (Option.some Jvm.ClassFile.FieldType.int)) ∈ lw_all := lw_g (lw_at lw_m8 88 rfl) rfl
theorem q1862 : (Jvm.Cond.static ({ cls := "GoblinHousehold", name := "lambda$goblinOf$12", desc := "(LGoblinHousehold$Contract;)I" } : Jvm.MethodName)) ∈ lw_all := lw_g (lw_at lw_m8 89 rfl) rfl
theorem q1863 : (Jvm.Cond.code ({ cls := "GoblinHousehold", name := "lambda$goblinOf$12", desc := "(LGoblinHousehold$Contract;)I" } : Jvm.MethodName) prog_1_method_77_code (1 : Nat) (Option.some Jvm.ClassFile.FieldType.int)) ∈ lw_all := lw_g (lw_at lw_m8 90 rfl) rfl
theorem q1864 : (Jvm.Cond.methodLink "GoblinHousehold" (237 : Nat) ({ cls := "GoblinHousehold", name := "about", desc := "(ILGoblinHousehold$Question;)I" } : Jvm.MethodName)) ∈ lw_all := lw_g (lw_at lw_m8 91 rfl) rfl
theorem q1865 : (Jvm.Cond.privateMethod ({ cls := "GoblinHousehold", name := "about", desc := "(ILGoblinHousehold$Question;)I" } : Jvm.MethodName)) ∈ lw_tbl := lw_at lw_m8 92 rfl
theorem q1866 : (Jvm.Cond.instanceMethod ({ cls := "GoblinHousehold", name := "about", desc := "(ILGoblinHousehold$Question;)I" } : Jvm.MethodName)) ∈ lw_all := lw_g (lw_at lw_m8 93 rfl) rfl
theorem q1867 : (Jvm.Cond.code ({ cls := "GoblinHousehold", name := "about", desc := "(ILGoblinHousehold$Question;)I" } : Jvm.MethodName) prog_1_method_41_code (4 : Nat) (Option.some Jvm.ClassFile.FieldType.int)) ∈ lw_all := lw_g (lw_at lw_m8 94 rfl) rfl
theorem q1868 : (Jvm.Cond.methodLink "GoblinHousehold" (213 : Nat) ({ cls := "GoblinHousehold$Household", name := "find", desc := "(I)LGoblinHousehold$Contract;" } : Jvm.MethodName)) ∈ lw_all := lw_g (lw_at lw_m8 95 rfl) rfl
theorem q1869 : (Jvm.Cond.interfaceEntry "GoblinHousehold" (217 : Nat)) ∈ lw_tbl := lw_at lw_m8 96 rfl
theorem q1870 : (Jvm.Cond.methodLink "GoblinHousehold" (217 : Nat) ({ cls := "GoblinHousehold$Question", name := "ask", desc := "(LGoblinHousehold$Contract;)I" } : Jvm.MethodName)) ∈ lw_all := lw_g (lw_at lw_m8 97 rfl) rfl
theorem q1875 : (Jvm.Cond.instanceMethod ({ cls := "GoblinHousehold", name := "roomOf", desc := "(I)I" } : Jvm.MethodName)) ∈ lw_all := lw_g (lw_at lw_m8 102 rfl) rfl
theorem q1876 : (Jvm.Cond.selects "GoblinHousehold" ({ cls := "GoblinHousehold", name := "roomOf", desc := "(I)I" } : Jvm.MethodName) ({ cls := "GoblinHousehold", name := "roomOf", desc := "(I)I" } : Jvm.MethodName)) ∈ lw_all := lw_g (lw_at lw_m8 103 rfl) rfl
theorem q1877 : (Jvm.Cond.code ({ cls := "GoblinHousehold", name := "roomOf", desc := "(I)I" } : Jvm.MethodName) prog_1_method_45_code (2 : Nat) (Option.some Jvm.ClassFile.FieldType.int)) ∈ lw_all := lw_g (lw_at lw_m8 104 rfl) rfl
theorem q1878 : (Jvm.Cond.static ({ cls := "GoblinHousehold", name := "lambda$roomOf$13", desc := "(LGoblinHousehold$Contract;)I" } : Jvm.MethodName)) ∈ lw_all := lw_g (lw_at lw_m8 105 rfl) rfl
theorem q1879 : (Jvm.Cond.code ({ cls := "GoblinHousehold", name := "lambda$roomOf$13", desc := "(LGoblinHousehold$Contract;)I" } : Jvm.MethodName) prog_1_method_76_code (1 : Nat) (Option.some Jvm.ClassFile.FieldType.int)) ∈ lw_all := lw_g (lw_at lw_m8 106 rfl) rfl
theorem q1884 : (Jvm.Cond.instanceMethod ({ cls := "GoblinHousehold", name := "wage", desc := "(I)I" } : Jvm.MethodName)) ∈ lw_all := lw_g (lw_at lw_m8 111 rfl) rfl
theorem q1885 : (Jvm.Cond.selects "GoblinHousehold" ({ cls := "GoblinHousehold", name := "wage", desc := "(I)I" } : Jvm.MethodName) ({ cls := "GoblinHousehold", name := "wage", desc := "(I)I" } : Jvm.MethodName)) ∈ lw_all := lw_g (lw_at lw_m8 112 rfl) rfl
theorem q1886 : (Jvm.Cond.code ({ cls := "GoblinHousehold", name := "wage", desc := "(I)I" } : Jvm.MethodName) prog_1_method_46_code (2 : Nat) (Option.some Jvm.ClassFile.FieldType.int)) ∈ lw_all := lw_g (lw_at lw_m8 113 rfl) rfl
theorem q1887 : (Jvm.Cond.static ({ cls := "GoblinHousehold", name := "lambda$wage$14", desc := "(LGoblinHousehold$Contract;)I" } : Jvm.MethodName)) ∈ lw_all := lw_g (lw_at lw_m8 114 rfl) rfl
theorem q1888 : (Jvm.Cond.code ({ cls := "GoblinHousehold", name := "lambda$wage$14", desc := "(LGoblinHousehold$Contract;)I" } : Jvm.MethodName) prog_1_method_75_code (1 : Nat) (Option.some Jvm.ClassFile.FieldType.int)) ∈ lw_all := lw_g (lw_at lw_m8 115 rfl) rfl
theorem q1893 : (Jvm.Cond.instanceMethod ({ cls := "GoblinHousehold", name := "effort", desc := "(I)I" } : Jvm.MethodName)) ∈ lw_all := lw_g (lw_at lw_m8 120 rfl) rfl
theorem q1894 : (Jvm.Cond.selects "GoblinHousehold" ({ cls := "GoblinHousehold", name := "effort", desc := "(I)I" } : Jvm.MethodName) ({ cls := "GoblinHousehold", name := "effort", desc := "(I)I" } : Jvm.MethodName)) ∈ lw_all := lw_g (lw_at lw_m8 121 rfl) rfl
theorem q1895 : (Jvm.Cond.code ({ cls := "GoblinHousehold", name := "effort", desc := "(I)I" } : Jvm.MethodName) prog_1_method_47_code (2 : Nat) (Option.some Jvm.ClassFile.FieldType.int)) ∈ lw_all := lw_g (lw_at lw_m8 122 rfl) rfl
theorem q1896 : (Jvm.Cond.static ({ cls := "GoblinHousehold", name := "lambda$effort$15", desc := "(LGoblinHousehold$Contract;)I" } : Jvm.MethodName)) ∈ lw_all := lw_g (lw_at lw_m8 123 rfl) rfl
theorem q1897 : (Jvm.Cond.code ({ cls := "GoblinHousehold", name := "lambda$effort$15", desc := "(LGoblinHousehold$Contract;)I" } : Jvm.MethodName) prog_1_method_74_code (1 : Nat) (Option.some Jvm.ClassFile.FieldType.int)) ∈ lw_all := lw_g (lw_at lw_m8 124 rfl) rfl
theorem q1902 : (Jvm.Cond.instanceMethod ({ cls := "GoblinHousehold", name := "nightsUntilDone", desc := "(I)I" } : Jvm.MethodName)) ∈ lw_all := lw_g (lw_at lw_m8 129 rfl) rfl
theorem q1903 : (Jvm.Cond.selects "GoblinHousehold" ({ cls := "GoblinHousehold", name := "nightsUntilDone", desc := "(I)I" } : Jvm.MethodName) ({ cls := "GoblinHousehold", name := "nightsUntilDone", desc := "(I)I" } : Jvm.MethodName)) ∈ lw_all := lw_g (lw_at lw_m8 130 rfl) rfl
theorem q1904 : (Jvm.Cond.code ({ cls := "GoblinHousehold", name := "nightsUntilDone", desc := "(I)I" } : Jvm.MethodName) prog_1_method_48_code (3 : Nat) (Option.some Jvm.ClassFile.FieldType.int)) ∈ lw_all := lw_g (lw_at lw_m8 131 rfl) rfl
theorem q1905 : (Jvm.Cond.methodLink "GoblinHousehold" (244 : Nat) ({ cls := "GoblinHousehold$Household", name := "nightsUntilDone", desc := "(I)I" } : Jvm.MethodName)) ∈ lw_all := lw_g (lw_at lw_m8 132 rfl) rfl
theorem q1918 : (Jvm.Cond.methodLink "GoblinHousehold" (247 : Nat) ({ cls := "GoblinHousehold", name := "checkState", desc := "(Z)V" } : Jvm.MethodName)) ∈ lw_all := lw_g (lw_at lw_m8 145 rfl) rfl
theorem q1919 : (Jvm.Cond.static ({ cls := "GoblinHousehold", name := "checkState", desc := "(Z)V" } : Jvm.MethodName)) ∈ lw_all := lw_g (lw_at lw_m8 146 rfl) rfl
theorem q1920 : (Jvm.Cond.code ({ cls := "GoblinHousehold", name := "checkState", desc := "(Z)V" } : Jvm.MethodName) prog_1_method_22_code (1 : Nat) (Option.none : Option Jvm.ClassFile.FieldType)) ∈ lw_all := lw_g (lw_at lw_m8 147 rfl) rfl
theorem q1921 : (Jvm.Cond.classLink "GoblinHousehold" (126 : Nat) "java/lang/IllegalStateException") ∈ lw_all := lw_g (lw_at lw_m8 148 rfl) rfl
theorem q1922 : (Jvm.Cond.methodLink "GoblinHousehold" (128 : Nat) ({ cls := "java/lang/IllegalStateException", name := "<init>", desc := "()V" } : Jvm.MethodName)) ∈ lw_all := lw_g (lw_at lw_m8 149 rfl) rfl
theorem q1927 : (Jvm.Cond.instanceMethod ({ cls := "GoblinHousehold", name := "chestAfter", desc := "(I)I" } : Jvm.MethodName)) ∈ lw_all := lw_g (lw_at lw_m8 154 rfl) rfl
theorem q1928 : (Jvm.Cond.selects "GoblinHousehold" ({ cls := "GoblinHousehold", name := "chestAfter", desc := "(I)I" } : Jvm.MethodName) ({ cls := "GoblinHousehold", name := "chestAfter", desc := "(I)I" } : Jvm.MethodName)) ∈ lw_all := lw_g (lw_at lw_m8 155 rfl) rfl
theorem q1929 : (Jvm.Cond.code ({ cls := "GoblinHousehold", name := "chestAfter", desc := "(I)I" } : Jvm.MethodName) prog_1_method_49_code (2 : Nat) (Option.some Jvm.ClassFile.FieldType.int)) ∈ lw_all := lw_g (lw_at lw_m8 156 rfl) rfl
theorem q1930 : (Jvm.Cond.methodLink "GoblinHousehold" (250 : Nat) ({ cls := "GoblinHousehold", name := "checkArgument", desc := "(Z)V" } : Jvm.MethodName)) ∈ lw_all := lw_g (lw_at lw_m8 157 rfl) rfl
theorem q1931 : (Jvm.Cond.static ({ cls := "GoblinHousehold", name := "checkArgument", desc := "(Z)V" } : Jvm.MethodName)) ∈ lw_all := lw_g (lw_at lw_m8 158 rfl) rfl
theorem q1932 : (Jvm.Cond.code ({ cls := "GoblinHousehold", name := "checkArgument", desc := "(Z)V" } : Jvm.MethodName) prog_1_method_20_code (1 : Nat) (Option.none : Option Jvm.ClassFile.FieldType)) ∈ lw_all := lw_g (lw_at lw_m8 159 rfl) rfl
theorem q1933 : (Jvm.Cond.classLink "GoblinHousehold" (120 : Nat) "java/lang/IllegalArgumentException") ∈ lw_all := lw_g (lw_at lw_m8 160 rfl) rfl
theorem q1934 : (Jvm.Cond.methodLink "GoblinHousehold" (122 : Nat) ({ cls := "java/lang/IllegalArgumentException", name := "<init>", desc := "()V" } : Jvm.MethodName)) ∈ lw_all := lw_g (lw_at lw_m8 161 rfl) rfl
theorem q1935 : (Jvm.Cond.methodLink "GoblinHousehold" (253 : Nat) ({ cls := "GoblinHousehold$Household", name := "after", desc := "(I)LGoblinHousehold$Household;" } : Jvm.MethodName)) ∈ lw_all := lw_g (lw_at lw_m8 162 rfl) rfl
theorem q1943 : (Jvm.Cond.instanceMethod ({ cls := "GoblinHousehold", name := "debtAfter", desc := "(II)I" } : Jvm.MethodName)) ∈ lw_all := lw_g (lw_at lw_m8 170 rfl) rfl
theorem q1944 : (Jvm.Cond.selects "GoblinHousehold" ({ cls := "GoblinHousehold", name := "debtAfter", desc := "(II)I" } : Jvm.MethodName) ({ cls := "GoblinHousehold", name := "debtAfter", desc := "(II)I" } : Jvm.MethodName)) ∈ lw_all := lw_g (lw_at lw_m8 171 rfl) rfl
theorem q1945 : (Jvm.Cond.code ({ cls := "GoblinHousehold", name := "debtAfter", desc := "(II)I" } : Jvm.MethodName) prog_1_method_50_code (3 : Nat) (Option.some Jvm.ClassFile.FieldType.int)) ∈ lw_all := lw_g (lw_at lw_m8 172 rfl) rfl
theorem q1964 : (Jvm.Cond.instanceMethod ({ cls := "GoblinHousehold", name := "reliability", desc := "()F" } : Jvm.MethodName)) ∈ lw_all := lw_g (lw_at lw_m8 191 rfl) rfl
theorem q1965 : (Jvm.Cond.selects "GoblinHousehold" ({ cls := "GoblinHousehold", name := "reliability", desc := "()F" } : Jvm.MethodName) ({ cls := "GoblinHousehold", name := "reliability", desc := "()F" } : Jvm.MethodName)) ∈ lw_all := lw_g (lw_at lw_m8 192 rfl) rfl
theorem q1966 : (Jvm.Cond.code ({ cls := "GoblinHousehold", name := "reliability", desc := "()F" } : Jvm.MethodName) prog_1_method_60_code (2 : Nat) (Option.some Jvm.ClassFile.FieldType.float)) ∈ lw_all := lw_g (lw_at lw_m8 193 rfl) rfl
theorem q1967 : (Jvm.Cond.classLink "GoblinHousehold" (286 : Nat) "java/lang/ArithmeticException") ∈ lw_all := lw_g (lw_at lw_m8 194 rfl) rfl
theorem q1968 : (Jvm.Cond.methodLink "GoblinHousehold" (288 : Nat) ({ cls := "java/lang/ArithmeticException", name := "<init>", desc := "()V" } : Jvm.MethodName)) ∈ lw_all := lw_g (lw_at lw_m8 195 rfl) rfl
theorem q1976 : (Jvm.Cond.instanceMethod ({ cls := "GoblinHousehold", name := "renderGoblin", desc := "(I)I" } : Jvm.MethodName)) ∈ lw_all := lw_g (lw_at lw_m8 203 rfl) rfl
theorem q1977 : (Jvm.Cond.selects "GoblinHousehold" ({ cls := "GoblinHousehold", name := "renderGoblin", desc := "(I)I" } : Jvm.MethodName) ({ cls := "GoblinHousehold", name := "renderGoblin", desc := "(I)I" } : Jvm.MethodName)) ∈ lw_all := lw_g (lw_at lw_m8 204 rfl) rfl
theorem q1978 : (Jvm.Cond.code ({ cls := "GoblinHousehold", name := "renderGoblin", desc := "(I)I" } : Jvm.MethodName) prog_1_method_63_code (2 : Nat) (Option.some Jvm.ClassFile.FieldType.int)) ∈ lw_all := lw_g (lw_at lw_m8 205 rfl) rfl
theorem q1979 : (Jvm.Cond.methodLink "GoblinHousehold" (297 : Nat) ({ cls := "GoblinHousehold$Goblin", name := "text", desc := "()Ljava/lang/String;" } : Jvm.MethodName)) ∈ lw_all := lw_g (lw_at lw_m8 206 rfl) rfl
theorem q2011 : (Jvm.Cond.instanceMethod ({ cls := "GoblinHousehold", name := "outputAt", desc := "(I)C" } : Jvm.MethodName)) ∈ lw_all := lw_g (lw_at lw_m8 238 rfl) rfl
theorem q2012 : (Jvm.Cond.selects "GoblinHousehold" ({ cls := "GoblinHousehold", name := "outputAt", desc := "(I)C" } : Jvm.MethodName) ({ cls := "GoblinHousehold", name := "outputAt", desc := "(I)C" } : Jvm.MethodName)) ∈ lw_all := lw_g (lw_at lw_m8 239 rfl) rfl
theorem q2013 : (Jvm.Cond.code ({ cls := "GoblinHousehold", name := "outputAt", desc := "(I)C" } : Jvm.MethodName) prog_1_method_65_code (2 : Nat) (Option.some Jvm.ClassFile.FieldType.char)) ∈ lw_all := lw_g (lw_at lw_m9 0 rfl) rfl
theorem q2014 : (Jvm.Cond.methodLink "GoblinHousehold" (308 : Nat) ({ cls := "java/lang/String", name := "charAt", desc := "(I)C" } : Jvm.MethodName)) ∈ lw_all := lw_g (lw_at lw_m9 1 rfl) rfl
theorem q2036 : (Jvm.Cond.instanceMethod ({ cls := "GoblinHousehold", name := "type", desc := "(C)I" } : Jvm.MethodName)) ∈ lw_all := lw_g (lw_at lw_m9 23 rfl) rfl
theorem q2037 : (Jvm.Cond.selects "GoblinHousehold" ({ cls := "GoblinHousehold", name := "type", desc := "(C)I" } : Jvm.MethodName) ({ cls := "GoblinHousehold", name := "type", desc := "(C)I" } : Jvm.MethodName)) ∈ lw_all := lw_g (lw_at lw_m9 24 rfl) rfl
theorem q2038 : (Jvm.Cond.code ({ cls := "GoblinHousehold", name := "type", desc := "(C)I" } : Jvm.MethodName) prog_1_method_66_code (2 : Nat) (Option.some Jvm.ClassFile.FieldType.int)) ∈ lw_all := lw_g (lw_at lw_m9 25 rfl) rfl
theorem q2039 : (Jvm.Cond.methodLink "GoblinHousehold" (312 : Nat) ({ cls := "java/lang/StringBuilder", name := "length", desc := "()I" } : Jvm.MethodName)) ∈ lw_all := lw_g (lw_at lw_m9 26 rfl) rfl
theorem q2040 : (Jvm.Cond.methodLink "GoblinHousehold" (313 : Nat) ({ cls := "java/lang/StringBuilder", name := "append", desc := "(C)Ljava/lang/StringBuilder;" } : Jvm.MethodName)) ∈ lw_all := lw_g (lw_at lw_m9 27 rfl) rfl
theorem q2057 : (Jvm.Cond.instanceMethod ({ cls := "GoblinHousehold", name := "runScript", desc := "()I" } : Jvm.MethodName)) ∈ lw_all := lw_g (lw_at lw_m9 44 rfl) rfl
theorem q2058 : (Jvm.Cond.selects "GoblinHousehold" ({ cls := "GoblinHousehold", name := "runScript", desc := "()I" } : Jvm.MethodName) ({ cls := "GoblinHousehold", name := "runScript", desc := "()I" } : Jvm.MethodName)) ∈ lw_all := lw_g (lw_at lw_m9 45 rfl) rfl
theorem q2059 : (Jvm.Cond.codeWith ({ cls := "GoblinHousehold", name := "runScript", desc := "()I" } : Jvm.MethodName) prog_1_method_68_code (3 : Nat) (Option.some Jvm.ClassFile.FieldType.int) [((0 : Nat), (22 : Nat), (32 : Nat), (346 : Nat)), ((0 : Nat), (22 : Nat), (46 : Nat), (323 : Nat)), ((0 : Nat), (22 : Nat), (60 : Nat), (0 : Nat)), ((32 : Nat), (61 : Nat), (60 : Nat), (0 : Nat))]) ∈ lw_all := lw_g (lw_at lw_m9 46 rfl) rfl
theorem q2060 : (Jvm.Cond.classLink "GoblinHousehold" (346 : Nat) "GoblinHousehold$SyntaxFailure") ∈ lw_all := lw_g (lw_at lw_m9 47 rfl) rfl
theorem q2061 : (Jvm.Cond.classLink "GoblinHousehold" (323 : Nat) "GoblinHousehold$CommandFailure") ∈ lw_all := lw_g (lw_at lw_m9 48 rfl) rfl
theorem q2062 : (Jvm.Cond.classLink "GoblinHousehold" (328 : Nat) "GoblinHousehold$Parser") ∈ lw_all := lw_g (lw_at lw_m9 49 rfl) rfl
theorem q2064 : (Jvm.Cond.methodLink "GoblinHousehold" (330 : Nat) ({ cls := "java/lang/StringBuilder", name := "toString", desc := "()Ljava/lang/String;" } : Jvm.MethodName)) ∈ lw_all := lw_g (lw_at lw_m9 51 rfl) rfl
theorem q2065 : (Jvm.Cond.methodLink "GoblinHousehold" (333 : Nat) ({ cls := "GoblinHousehold$Parser", name := "<init>", desc := "(Ljava/lang/String;)V" } : Jvm.MethodName)) ∈ lw_all := lw_g (lw_at lw_m9 52 rfl) rfl
theorem q2076 : (Jvm.Cond.methodLink "GoblinHousehold" (334 : Nat) ({ cls := "GoblinHousehold$Parser", name := "commands", desc := "()Ljava/util/List;" } : Jvm.MethodName)) ∈ lw_all := lw_g (lw_at lw_m9 63 rfl) rfl
theorem q2115 : (Jvm.Cond.selects "GoblinHousehold" ({ cls := "java/lang/Object", name := "toString", desc := "()Ljava/lang/String;" } : Jvm.MethodName) ({ cls := "java/lang/Object", name := "toString", desc := "()Ljava/lang/String;" } : Jvm.MethodName)) ∈ lw_all := lw_g (lw_at lw_m9 102 rfl) rfl
theorem q2332 : (Jvm.Cond.methodLink "GoblinHousehold" (338 : Nat) ({ cls := "GoblinHousehold", name := "execute", desc := "(Ljava/util/List;)I" } : Jvm.MethodName)) ∈ lw_all := lw_g (lw_at lw_m10 79 rfl) rfl
theorem q2333 : (Jvm.Cond.privateMethod ({ cls := "GoblinHousehold", name := "execute", desc := "(Ljava/util/List;)I" } : Jvm.MethodName)) ∈ lw_tbl := lw_at lw_m10 80 rfl
theorem q2334 : (Jvm.Cond.instanceMethod ({ cls := "GoblinHousehold", name := "execute", desc := "(Ljava/util/List;)I" } : Jvm.MethodName)) ∈ lw_all := lw_g (lw_at lw_m10 81 rfl) rfl
theorem q2335 : (Jvm.Cond.codeWith ({ cls := "GoblinHousehold", name := "execute", desc := "(Ljava/util/List;)I" } : Jvm.MethodName) prog_1_method_67_code (5 : Nat) (Option.some Jvm.ClassFile.FieldType.int) [((20 : Nat), (40 : Nat), (43 : Nat), (89 : Nat))]) ∈ lw_all := lw_g (lw_at lw_m10 82 rfl) rfl
theorem q2336 : (Jvm.Cond.classLink "GoblinHousehold" (317 : Nat) "GoblinHousehold$Command") ∈ lw_all := lw_g (lw_at lw_m10 83 rfl) rfl
theorem q2337 : (Jvm.Cond.methodLink "GoblinHousehold" (319 : Nat) ({ cls := "GoblinHousehold$Command", name := "change", desc := "()LGoblinHousehold$Change;" } : Jvm.MethodName)) ∈ lw_all := lw_g (lw_at lw_m10 84 rfl) rfl
theorem q2349 : (Jvm.Cond.methodLink "GoblinHousehold" (325 : Nat) ({ cls := "GoblinHousehold$CommandFailure", name := "<init>", desc := "(ILGoblinHousehold$Failure;)V" } : Jvm.MethodName)) ∈ lw_all := lw_g (lw_at lw_m10 96 rfl) rfl
theorem q2358 : (Jvm.Cond.methodLink "GoblinHousehold" (342 : Nat) ({ cls := "java/lang/StringBuilder", name := "setLength", desc := "(I)V" } : Jvm.MethodName)) ∈ lw_all := lw_g (lw_at lw_m10 105 rfl) rfl
theorem q2410 : (Jvm.Cond.methodLink "GoblinHousehold" (348 : Nat) ({ cls := "GoblinHousehold$SyntaxFailure", name := "position", desc := "()I" } : Jvm.MethodName)) ∈ lw_all := lw_g (lw_at lw_m10 157 rfl) rfl
theorem q2414 : (Jvm.Cond.methodLink "GoblinHousehold" (351 : Nat) ({ cls := "GoblinHousehold$SyntaxFailure", name := "asPublicException", desc := "()Ljava/lang/RuntimeException;" } : Jvm.MethodName)) ∈ lw_all := lw_g (lw_at lw_m10 161 rfl) rfl
theorem q2415 : (Jvm.Cond.methodLink "GoblinHousehold" (352 : Nat) ({ cls := "GoblinHousehold$CommandFailure", name := "index", desc := "()I" } : Jvm.MethodName)) ∈ lw_all := lw_g (lw_at lw_m10 162 rfl) rfl
theorem q2419 : (Jvm.Cond.methodLink "GoblinHousehold" (355 : Nat) ({ cls := "GoblinHousehold$CommandFailure", name := "asPublicException", desc := "()Ljava/lang/RuntimeException;" } : Jvm.MethodName)) ∈ lw_all := lw_g (lw_at lw_m10 166 rfl) rfl
theorem q2424 : (Jvm.Cond.instanceMethod ({ cls := "GoblinHousehold", name := "errorPosition", desc := "()I" } : Jvm.MethodName)) ∈ lw_all := lw_g (lw_at lw_m10 171 rfl) rfl
theorem q2425 : (Jvm.Cond.selects "GoblinHousehold" ({ cls := "GoblinHousehold", name := "errorPosition", desc := "()I" } : Jvm.MethodName) ({ cls := "GoblinHousehold", name := "errorPosition", desc := "()I" } : Jvm.MethodName)) ∈ lw_all := lw_g (lw_at lw_m10 172 rfl) rfl
theorem q2426 : (Jvm.Cond.code ({ cls := "GoblinHousehold", name := "errorPosition", desc := "()I" } : Jvm.MethodName) prog_1_method_69_code (1 : Nat) (Option.some Jvm.ClassFile.FieldType.int)) ∈ lw_all := lw_g (lw_at lw_m10 173 rfl) rfl
theorem q2431 : (Jvm.Cond.instanceMethod ({ cls := "GoblinHousehold", name := "failedCommand", desc := "()I" } : Jvm.MethodName)) ∈ lw_all := lw_g (lw_at lw_m10 178 rfl) rfl
theorem q2432 : (Jvm.Cond.selects "GoblinHousehold" ({ cls := "GoblinHousehold", name := "failedCommand", desc := "()I" } : Jvm.MethodName) ({ cls := "GoblinHousehold", name := "failedCommand", desc := "()I" } : Jvm.MethodName)) ∈ lw_all := lw_g (lw_at lw_m10 179 rfl) rfl
theorem q2433 : (Jvm.Cond.code ({ cls := "GoblinHousehold", name := "failedCommand", desc := "()I" } : Jvm.MethodName) prog_1_method_70_code (1 : Nat) (Option.some Jvm.ClassFile.FieldType.int)) ∈ lw_all := lw_g (lw_at lw_m10 180 rfl) rfl
theorem q2438 : (Jvm.Cond.instanceMethod ({ cls := "GoblinHousehold", name := "undo", desc := "()I" } : Jvm.MethodName)) ∈ lw_all := lw_g (lw_at lw_m10 185 rfl) rfl
theorem q2439 : (Jvm.Cond.selects "GoblinHousehold" ({ cls := "GoblinHousehold", name := "undo", desc := "()I" } : Jvm.MethodName) ({ cls := "GoblinHousehold", name := "undo", desc := "()I" } : Jvm.MethodName)) ∈ lw_all := lw_g (lw_at lw_m10 186 rfl) rfl
theorem q2440 : (Jvm.Cond.code ({ cls := "GoblinHousehold", name := "undo", desc := "()I" } : Jvm.MethodName) prog_1_method_71_code (1 : Nat) (Option.some Jvm.ClassFile.FieldType.int)) ∈ lw_all := lw_g (lw_at lw_m10 187 rfl) rfl
theorem q2441 : (Jvm.Cond.methodLink "GoblinHousehold" (356 : Nat) ({ cls := "java/util/LinkedList", name := "isEmpty", desc := "()Z" } : Jvm.MethodName)) ∈ lw_all := lw_g (lw_at lw_m10 188 rfl) rfl
theorem q2452 : (Jvm.Cond.methodLink "GoblinHousehold" (359 : Nat) ({ cls := "java/util/LinkedList", name := "removeLast", desc := "()Ljava/lang/Object;" } : Jvm.MethodName)) ∈ lw_all := lw_g (lw_at lw_m10 199 rfl) rfl
theorem q2464 : (Jvm.Cond.instanceMethod ({ cls := "GoblinHousehold", name := "restore", desc := "()I" } : Jvm.MethodName)) ∈ lw_all := lw_g (lw_at lw_m10 211 rfl) rfl
theorem q2465 : (Jvm.Cond.selects "GoblinHousehold" ({ cls := "GoblinHousehold", name := "restore", desc := "()I" } : Jvm.MethodName) ({ cls := "GoblinHousehold", name := "restore", desc := "()I" } : Jvm.MethodName)) ∈ lw_all := lw_g (lw_at lw_m10 212 rfl) rfl
theorem q2466 : (Jvm.Cond.code ({ cls := "GoblinHousehold", name := "restore", desc := "()I" } : Jvm.MethodName) prog_1_method_73_code (1 : Nat) (Option.some Jvm.ClassFile.FieldType.int)) ∈ lw_all := lw_g (lw_at lw_m10 213 rfl) rfl
theorem q2467 : (Jvm.Cond.methodLink "GoblinHousehold" (365 : Nat) ({ cls := "java/util/LinkedList", name := "clear", desc := "()V" } : Jvm.MethodName)) ∈ lw_all := lw_g (lw_at lw_m10 214 rfl) rfl
theorem q3010 : (Jvm.Cond.castable "GoblinHousehold" "java/lang/Object") ∈ lw_tbl := lw_at lw_m13 37 rfl
theorem in_X1 : ∀ w ∈ wsX10, w ∈ lw_all := lw_in wsX10 [299, 301, 303, 305, 307, 309, 311] (by decide +kernel) (by decide +kernel)
/-! GoblinHousehold$Household -/
set_option maxRecDepth 100000
def RX2 : String := "GoblinHousehold$Household"
def TX2 : u_T := fun k => match k with
  | 0 => ("GoblinHousehold$Household", "dust", "[I", true)
  | 1 => ("GoblinHousehold$Household", "brooms", "Ljava/util/List;", true)
  | 2 => ("GoblinHousehold$Household", "goblins", "Ljava/util/List;", true)
  | 3 => ("GoblinHousehold$Household", "contracts", "Ljava/util/List;", true)
  | 4 => ("GoblinHousehold$Household", "nextContract", "I", false)
  | 5 => ("GoblinHousehold$Household", "chest", "I", false)
  | 6 => ("GoblinHousehold$Household", "night", "I", false)
  | 7 => ("GoblinHousehold$Household", "funded", "I", false)
  | 8 => ("GoblinHousehold$Household", "spent", "I", false)
  | 9 => ("GoblinHousehold$Household", "done", "I", false)
  | 10 => ("GoblinHousehold$Household", "broken", "I", false)
  | 11 => ("GoblinHousehold$Household", "unpaid", "I", false)
  | _ => ("GoblinHousehold$Household", "interest", "I", false)
def tyX2 : Nat → FieldType := fun k => match k with
  | 0 => .array .int
  | 1 => .object "java/util/List"
  | 2 => .object "java/util/List"
  | 3 => .object "java/util/List"
  | 4 => .int
  | 5 => .int
  | 6 => .int
  | 7 => .int
  | 8 => .int
  | 9 => .int
  | 10 => .int
  | 11 => .int
  | _ => .int
abbrev wsX20 : List Cond := u_ws RX2 TX2 13
set_option maxRecDepth 100000 in
theorem nmX2 : ∀ a, a < 13 → ∀ b, b < 13 → a ≠ b → (TX2 a).2.1 ≠ (TX2 b).2.1 := by decide +kernel
set_option maxRecDepth 100000 in
theorem tyX2_ok : ∀ k, k < 13 → parseFieldDescriptor (TX2 k).2.2.1 = some (tyX2 k) := by decide +kernel
abbrev cX2_init : ByteArray := prog_18_method_1_code
def yX2_init : MethodName := ⟨RX2, "<init>", "()V"⟩
def dkwX2_init_3 : List UInt8 := [167, 255, 239, 177]
abbrev dktX2_init_3 : List UInt8 := dkwX2_init_3 ++ []
def dkwX2_init_2 : List UInt8 := [181, 0, 28, 3, 60, 27, 16, 6, 162, 0, 17, 42, 180, 0, 9, 27, 16, 20, 79, 132, 1, 1]
abbrev dktX2_init_2 : List UInt8 := dkwX2_init_2 ++ dktX2_init_3
def dkwX2_init_1 : List UInt8 := [187, 0, 15, 89, 183, 0, 17, 181, 0, 22, 42, 187, 0, 15, 89, 183, 0, 17, 181, 0, 25, 42, 16, 100]
abbrev dktX2_init_1 : List UInt8 := dkwX2_init_1 ++ dktX2_init_2
def dkwX2_init_0 : List UInt8 := [42, 183, 0, 3, 42, 16, 6, 188, 10, 181, 0, 9, 42, 187, 0, 15, 89, 183, 0, 17, 181, 0, 18, 42]
abbrev dktX2_init_0 : List UInt8 := dkwX2_init_0 ++ dktX2_init_1
theorem dksX2_init_0 : cX2_init.data.toList.drop 0 = dktX2_init_0 := by decide +kernel
theorem dksX2_init_1 : cX2_init.data.toList.drop 24 = dktX2_init_1 := dk_seg dksX2_init_0 24 rfl rfl
theorem dksX2_init_2 : cX2_init.data.toList.drop 48 = dktX2_init_2 := dk_seg dksX2_init_1 24 rfl rfl
theorem dksX2_init_3 : cX2_init.data.toList.drop 70 = dktX2_init_3 := dk_seg dksX2_init_2 22 rfl rfl
theorem dX2_init_0 : decode cX2_init 0 = .ok (.aload_n 0, 1) := dk_42 (dk_at dksX2_init_0 0 rfl rfl)
theorem dX2_init_1 : decode cX2_init 1 = .ok (.invokespecial 3, 3) := dk_183 0 3 (dk_at dksX2_init_0 1 rfl rfl)
theorem dX2_init_4 : decode cX2_init 4 = .ok (.aload_n 0, 1) := dk_42 (dk_at dksX2_init_0 4 rfl rfl)
theorem dX2_init_5 : decode cX2_init 5 = .ok (.bipush 6, 2) := dk_16 6 (dk_at dksX2_init_0 5 rfl rfl)
theorem dX2_init_7 : decode cX2_init 7 = .ok (.newarray .int, 2) := dk_188_10 (dk_at dksX2_init_0 7 rfl rfl)
theorem dX2_init_9 : decode cX2_init 9 = .ok (.putfield 9, 3) := dk_181 0 9 (dk_at dksX2_init_0 9 rfl rfl)
theorem dX2_init_12 : decode cX2_init 12 = .ok (.aload_n 0, 1) := dk_42 (dk_at dksX2_init_0 12 rfl rfl)
theorem dX2_init_13 : decode cX2_init 13 = .ok (.new 15, 3) := dk_187 0 15 (dk_at dksX2_init_0 13 rfl rfl)
theorem dX2_init_16 : decode cX2_init 16 = .ok (.dup, 1) := dk_89 (dk_at dksX2_init_0 16 rfl rfl)
theorem dX2_init_17 : decode cX2_init 17 = .ok (.invokespecial 17, 3) := dk_183 0 17 (dk_at dksX2_init_0 17 rfl rfl)
theorem dX2_init_20 : decode cX2_init 20 = .ok (.putfield 18, 3) := dk_181 0 18 (dk_at dksX2_init_0 20 rfl rfl)
theorem dX2_init_23 : decode cX2_init 23 = .ok (.aload_n 0, 1) := dk_42 (dk_at dksX2_init_0 23 rfl rfl)
theorem dX2_init_24 : decode cX2_init 24 = .ok (.new 15, 3) := dk_187 0 15 (dk_at dksX2_init_1 0 rfl rfl)
theorem dX2_init_27 : decode cX2_init 27 = .ok (.dup, 1) := dk_89 (dk_at dksX2_init_1 3 rfl rfl)
theorem dX2_init_28 : decode cX2_init 28 = .ok (.invokespecial 17, 3) := dk_183 0 17 (dk_at dksX2_init_1 4 rfl rfl)
theorem dX2_init_31 : decode cX2_init 31 = .ok (.putfield 22, 3) := dk_181 0 22 (dk_at dksX2_init_1 7 rfl rfl)
theorem dX2_init_34 : decode cX2_init 34 = .ok (.aload_n 0, 1) := dk_42 (dk_at dksX2_init_1 10 rfl rfl)
theorem dX2_init_35 : decode cX2_init 35 = .ok (.new 15, 3) := dk_187 0 15 (dk_at dksX2_init_1 11 rfl rfl)
theorem dX2_init_38 : decode cX2_init 38 = .ok (.dup, 1) := dk_89 (dk_at dksX2_init_1 14 rfl rfl)
theorem dX2_init_39 : decode cX2_init 39 = .ok (.invokespecial 17, 3) := dk_183 0 17 (dk_at dksX2_init_1 15 rfl rfl)
theorem dX2_init_42 : decode cX2_init 42 = .ok (.putfield 25, 3) := dk_181 0 25 (dk_at dksX2_init_1 18 rfl rfl)
theorem dX2_init_45 : decode cX2_init 45 = .ok (.aload_n 0, 1) := dk_42 (dk_at dksX2_init_1 21 rfl rfl)
theorem dX2_init_46 : decode cX2_init 46 = .ok (.bipush 100, 2) := dk_16 100 (dk_at dksX2_init_1 22 rfl rfl)
theorem dX2_init_48 : decode cX2_init 48 = .ok (.putfield 28, 3) := dk_181 0 28 (dk_at dksX2_init_2 0 rfl rfl)
theorem dX2_init_51 : decode cX2_init 51 = .ok (.iconst 0, 1) := dk_3 (dk_at dksX2_init_2 3 rfl rfl)
theorem dX2_init_52 : decode cX2_init 52 = .ok (.istore_n 1, 1) := dk_60 (dk_at dksX2_init_2 4 rfl rfl)
theorem dX2_init_53 : decode cX2_init 53 = .ok (.iload_n 1, 1) := dk_27 (dk_at dksX2_init_2 5 rfl rfl)
theorem dX2_init_54 : decode cX2_init 54 = .ok (.bipush 6, 2) := dk_16 6 (dk_at dksX2_init_2 6 rfl rfl)
theorem dX2_init_56 : decode cX2_init 56 = .ok (.if_icmp .ge 17, 3) := dk_162 0 17 (dk_at dksX2_init_2 8 rfl rfl)
theorem dX2_init_59 : decode cX2_init 59 = .ok (.aload_n 0, 1) := dk_42 (dk_at dksX2_init_2 11 rfl rfl)
theorem dX2_init_60 : decode cX2_init 60 = .ok (.getfield 9, 3) := dk_180 0 9 (dk_at dksX2_init_2 12 rfl rfl)
theorem dX2_init_63 : decode cX2_init 63 = .ok (.iload_n 1, 1) := dk_27 (dk_at dksX2_init_2 15 rfl rfl)
theorem dX2_init_64 : decode cX2_init 64 = .ok (.bipush 20, 2) := dk_16 20 (dk_at dksX2_init_2 16 rfl rfl)
theorem dX2_init_66 : decode cX2_init 66 = .ok (.iastore, 1) := dk_79 (dk_at dksX2_init_2 18 rfl rfl)
theorem dX2_init_67 : decode cX2_init 67 = .ok (.iinc 1 1, 3) := dk_132 1 1 (dk_at dksX2_init_2 19 rfl rfl)
theorem dX2_init_70 : decode cX2_init 70 = .ok (.goto (-17), 3) := dk_167 255 239 (dk_at dksX2_init_3 0 rfl rfl)
theorem dX2_init_73 : decode cX2_init 73 = .ok (.return_, 1) := dk_177 (dk_at dksX2_init_3 3 rfl rfl)
abbrev cX2_allCrumbs : ByteArray := prog_18_method_39_code
def yX2_allCrumbs : MethodName := ⟨RX2, "allCrumbs", "()I"⟩
def dkwX2_allCrumbs_2 : List UInt8 := [172]
abbrev dktX2_allCrumbs_2 : List UInt8 := dkwX2_allCrumbs_2 ++ []
def dkwX2_allCrumbs_1 : List UInt8 := [180, 0, 22, 28, 185, 0, 49, 2, 0, 192, 0, 106, 182, 1, 31, 96, 60, 132, 2, 1, 167, 255, 221, 27]
abbrev dktX2_allCrumbs_1 : List UInt8 := dkwX2_allCrumbs_1 ++ dktX2_allCrumbs_2
def dkwX2_allCrumbs_0 : List UInt8 := [42, 180, 0, 28, 60, 3, 61, 28, 42, 180, 0, 22, 185, 0, 43, 1, 0, 162, 0, 28, 27, 42]
abbrev dktX2_allCrumbs_0 : List UInt8 := dkwX2_allCrumbs_0 ++ dktX2_allCrumbs_1
theorem dksX2_allCrumbs_0 : cX2_allCrumbs.data.toList.drop 0 = dktX2_allCrumbs_0 := by decide +kernel
theorem dksX2_allCrumbs_1 : cX2_allCrumbs.data.toList.drop 22 = dktX2_allCrumbs_1 := dk_seg dksX2_allCrumbs_0 22 rfl rfl
theorem dksX2_allCrumbs_2 : cX2_allCrumbs.data.toList.drop 46 = dktX2_allCrumbs_2 := dk_seg dksX2_allCrumbs_1 24 rfl rfl
theorem dX2_allCrumbs_0 : decode cX2_allCrumbs 0 = .ok (.aload_n 0, 1) := dk_42 (dk_at dksX2_allCrumbs_0 0 rfl rfl)
theorem dX2_allCrumbs_1 : decode cX2_allCrumbs 1 = .ok (.getfield 28, 3) := dk_180 0 28 (dk_at dksX2_allCrumbs_0 1 rfl rfl)
theorem dX2_allCrumbs_4 : decode cX2_allCrumbs 4 = .ok (.istore_n 1, 1) := dk_60 (dk_at dksX2_allCrumbs_0 4 rfl rfl)
theorem dX2_allCrumbs_5 : decode cX2_allCrumbs 5 = .ok (.iconst 0, 1) := dk_3 (dk_at dksX2_allCrumbs_0 5 rfl rfl)
theorem dX2_allCrumbs_6 : decode cX2_allCrumbs 6 = .ok (.istore_n 2, 1) := dk_61 (dk_at dksX2_allCrumbs_0 6 rfl rfl)
theorem dX2_allCrumbs_7 : decode cX2_allCrumbs 7 = .ok (.iload_n 2, 1) := dk_28 (dk_at dksX2_allCrumbs_0 7 rfl rfl)
theorem dX2_allCrumbs_8 : decode cX2_allCrumbs 8 = .ok (.aload_n 0, 1) := dk_42 (dk_at dksX2_allCrumbs_0 8 rfl rfl)
theorem dX2_allCrumbs_9 : decode cX2_allCrumbs 9 = .ok (.getfield 22, 3) := dk_180 0 22 (dk_at dksX2_allCrumbs_0 9 rfl rfl)
theorem dX2_allCrumbs_12 : decode cX2_allCrumbs 12 = .ok (.invokeinterface 43 1, 5) := by decide +kernel
theorem dX2_allCrumbs_17 : decode cX2_allCrumbs 17 = .ok (.if_icmp .ge 28, 3) := dk_162 0 28 (dk_at dksX2_allCrumbs_0 17 rfl rfl)
theorem dX2_allCrumbs_20 : decode cX2_allCrumbs 20 = .ok (.iload_n 1, 1) := dk_27 (dk_at dksX2_allCrumbs_0 20 rfl rfl)
theorem dX2_allCrumbs_21 : decode cX2_allCrumbs 21 = .ok (.aload_n 0, 1) := dk_42 (dk_at dksX2_allCrumbs_0 21 rfl rfl)
theorem dX2_allCrumbs_22 : decode cX2_allCrumbs 22 = .ok (.getfield 22, 3) := dk_180 0 22 (dk_at dksX2_allCrumbs_1 0 rfl rfl)
theorem dX2_allCrumbs_25 : decode cX2_allCrumbs 25 = .ok (.iload_n 2, 1) := dk_28 (dk_at dksX2_allCrumbs_1 3 rfl rfl)
theorem dX2_allCrumbs_26 : decode cX2_allCrumbs 26 = .ok (.invokeinterface 49 2, 5) := by decide +kernel
theorem dX2_allCrumbs_31 : decode cX2_allCrumbs 31 = .ok (.checkcast 106, 3) := dk_192 0 106 (dk_at dksX2_allCrumbs_1 9 rfl rfl)
theorem dX2_allCrumbs_34 : decode cX2_allCrumbs 34 = .ok (.invokevirtual 287, 3) := dk_182 1 31 (dk_at dksX2_allCrumbs_1 12 rfl rfl)
theorem dX2_allCrumbs_37 : decode cX2_allCrumbs 37 = .ok (.iadd, 1) := dk_96 (dk_at dksX2_allCrumbs_1 15 rfl rfl)
theorem dX2_allCrumbs_38 : decode cX2_allCrumbs 38 = .ok (.istore_n 1, 1) := dk_60 (dk_at dksX2_allCrumbs_1 16 rfl rfl)
theorem dX2_allCrumbs_39 : decode cX2_allCrumbs 39 = .ok (.iinc 2 1, 3) := dk_132 2 1 (dk_at dksX2_allCrumbs_1 17 rfl rfl)
theorem dX2_allCrumbs_42 : decode cX2_allCrumbs 42 = .ok (.goto (-35), 3) := dk_167 255 221 (dk_at dksX2_allCrumbs_1 20 rfl rfl)
theorem dX2_allCrumbs_45 : decode cX2_allCrumbs 45 = .ok (.iload_n 1, 1) := dk_27 (dk_at dksX2_allCrumbs_1 23 rfl rfl)
theorem dX2_allCrumbs_46 : decode cX2_allCrumbs 46 = .ok (.ireturn, 1) := dk_172 (dk_at dksX2_allCrumbs_2 0 rfl rfl)
abbrev cX2_allCrumbsByAccounts : ByteArray := prog_18_method_40_code
def yX2_allCrumbsByAccounts : MethodName := ⟨RX2, "allCrumbsByAccounts", "()I"⟩
def dkwX2_allCrumbsByAccounts_0 : List UInt8 := [16, 100, 42, 180, 0, 65, 96, 42, 180, 0, 68, 100, 172]
abbrev dktX2_allCrumbsByAccounts_0 : List UInt8 := dkwX2_allCrumbsByAccounts_0 ++ []
theorem dksX2_allCrumbsByAccounts_0 : cX2_allCrumbsByAccounts.data.toList.drop 0 = dktX2_allCrumbsByAccounts_0 := by decide +kernel
theorem dX2_allCrumbsByAccounts_0 : decode cX2_allCrumbsByAccounts 0 = .ok (.bipush 100, 2) := dk_16 100 (dk_at dksX2_allCrumbsByAccounts_0 0 rfl rfl)
theorem dX2_allCrumbsByAccounts_2 : decode cX2_allCrumbsByAccounts 2 = .ok (.aload_n 0, 1) := dk_42 (dk_at dksX2_allCrumbsByAccounts_0 2 rfl rfl)
theorem dX2_allCrumbsByAccounts_3 : decode cX2_allCrumbsByAccounts 3 = .ok (.getfield 65, 3) := dk_180 0 65 (dk_at dksX2_allCrumbsByAccounts_0 3 rfl rfl)
theorem dX2_allCrumbsByAccounts_6 : decode cX2_allCrumbsByAccounts 6 = .ok (.iadd, 1) := dk_96 (dk_at dksX2_allCrumbsByAccounts_0 6 rfl rfl)
theorem dX2_allCrumbsByAccounts_7 : decode cX2_allCrumbsByAccounts 7 = .ok (.aload_n 0, 1) := dk_42 (dk_at dksX2_allCrumbsByAccounts_0 7 rfl rfl)
theorem dX2_allCrumbsByAccounts_8 : decode cX2_allCrumbsByAccounts 8 = .ok (.getfield 68, 3) := dk_180 0 68 (dk_at dksX2_allCrumbsByAccounts_0 8 rfl rfl)
theorem dX2_allCrumbsByAccounts_11 : decode cX2_allCrumbsByAccounts 11 = .ok (.isub, 1) := dk_100 (dk_at dksX2_allCrumbsByAccounts_0 11 rfl rfl)
theorem dX2_allCrumbsByAccounts_12 : decode cX2_allCrumbsByAccounts 12 = .ok (.ireturn, 1) := dk_172 (dk_at dksX2_allCrumbsByAccounts_0 12 rfl rfl)
abbrev cX2_allDust : ByteArray := prog_18_method_44_code
def yX2_allDust : MethodName := ⟨RX2, "allDust", "()I"⟩
def dkwX2_allDust_1 : List UInt8 := [54, 5, 27, 21, 5, 96, 60, 132, 4, 1, 167, 255, 236, 27, 172]
abbrev dktX2_allDust_1 : List UInt8 := dkwX2_allDust_1 ++ []
def dkwX2_allDust_0 : List UInt8 := [3, 60, 42, 180, 0, 9, 77, 44, 190, 62, 3, 54, 4, 21, 4, 29, 162, 0, 20, 44, 21, 4, 46]
abbrev dktX2_allDust_0 : List UInt8 := dkwX2_allDust_0 ++ dktX2_allDust_1
theorem dksX2_allDust_0 : cX2_allDust.data.toList.drop 0 = dktX2_allDust_0 := by decide +kernel
theorem dksX2_allDust_1 : cX2_allDust.data.toList.drop 23 = dktX2_allDust_1 := dk_seg dksX2_allDust_0 23 rfl rfl
theorem dX2_allDust_0 : decode cX2_allDust 0 = .ok (.iconst 0, 1) := dk_3 (dk_at dksX2_allDust_0 0 rfl rfl)
theorem dX2_allDust_1 : decode cX2_allDust 1 = .ok (.istore_n 1, 1) := dk_60 (dk_at dksX2_allDust_0 1 rfl rfl)
theorem dX2_allDust_2 : decode cX2_allDust 2 = .ok (.aload_n 0, 1) := dk_42 (dk_at dksX2_allDust_0 2 rfl rfl)
theorem dX2_allDust_3 : decode cX2_allDust 3 = .ok (.getfield 9, 3) := dk_180 0 9 (dk_at dksX2_allDust_0 3 rfl rfl)
theorem dX2_allDust_6 : decode cX2_allDust 6 = .ok (.astore_n 2, 1) := dk_77 (dk_at dksX2_allDust_0 6 rfl rfl)
theorem dX2_allDust_7 : decode cX2_allDust 7 = .ok (.aload_n 2, 1) := dk_44 (dk_at dksX2_allDust_0 7 rfl rfl)
theorem dX2_allDust_8 : decode cX2_allDust 8 = .ok (.arraylength, 1) := dk_190 (dk_at dksX2_allDust_0 8 rfl rfl)
theorem dX2_allDust_9 : decode cX2_allDust 9 = .ok (.istore_n 3, 1) := dk_62 (dk_at dksX2_allDust_0 9 rfl rfl)
theorem dX2_allDust_10 : decode cX2_allDust 10 = .ok (.iconst 0, 1) := dk_3 (dk_at dksX2_allDust_0 10 rfl rfl)
theorem dX2_allDust_11 : decode cX2_allDust 11 = .ok (.istore 4, 2) := dk_54 4 (dk_at dksX2_allDust_0 11 rfl rfl)
theorem dX2_allDust_13 : decode cX2_allDust 13 = .ok (.iload 4, 2) := dk_21 4 (dk_at dksX2_allDust_0 13 rfl rfl)
theorem dX2_allDust_15 : decode cX2_allDust 15 = .ok (.iload_n 3, 1) := dk_29 (dk_at dksX2_allDust_0 15 rfl rfl)
theorem dX2_allDust_16 : decode cX2_allDust 16 = .ok (.if_icmp .ge 20, 3) := dk_162 0 20 (dk_at dksX2_allDust_0 16 rfl rfl)
theorem dX2_allDust_19 : decode cX2_allDust 19 = .ok (.aload_n 2, 1) := dk_44 (dk_at dksX2_allDust_0 19 rfl rfl)
theorem dX2_allDust_20 : decode cX2_allDust 20 = .ok (.iload 4, 2) := dk_21 4 (dk_at dksX2_allDust_0 20 rfl rfl)
theorem dX2_allDust_22 : decode cX2_allDust 22 = .ok (.iaload, 1) := dk_46 (dk_at dksX2_allDust_0 22 rfl rfl)
theorem dX2_allDust_23 : decode cX2_allDust 23 = .ok (.istore 5, 2) := dk_54 5 (dk_at dksX2_allDust_1 0 rfl rfl)
theorem dX2_allDust_25 : decode cX2_allDust 25 = .ok (.iload_n 1, 1) := dk_27 (dk_at dksX2_allDust_1 2 rfl rfl)
theorem dX2_allDust_26 : decode cX2_allDust 26 = .ok (.iload 5, 2) := dk_21 5 (dk_at dksX2_allDust_1 3 rfl rfl)
theorem dX2_allDust_28 : decode cX2_allDust 28 = .ok (.iadd, 1) := dk_96 (dk_at dksX2_allDust_1 5 rfl rfl)
theorem dX2_allDust_29 : decode cX2_allDust 29 = .ok (.istore_n 1, 1) := dk_60 (dk_at dksX2_allDust_1 6 rfl rfl)
theorem dX2_allDust_30 : decode cX2_allDust 30 = .ok (.iinc 4 1, 3) := dk_132 4 1 (dk_at dksX2_allDust_1 7 rfl rfl)
theorem dX2_allDust_33 : decode cX2_allDust 33 = .ok (.goto (-20), 3) := dk_167 255 236 (dk_at dksX2_allDust_1 10 rfl rfl)
theorem dX2_allDust_36 : decode cX2_allDust 36 = .ok (.iload_n 1, 1) := dk_27 (dk_at dksX2_allDust_1 13 rfl rfl)
theorem dX2_allDust_37 : decode cX2_allDust 37 = .ok (.ireturn, 1) := dk_172 (dk_at dksX2_allDust_1 14 rfl rfl)
abbrev cX2_isConsistent : ByteArray := prog_18_method_43_code
def yX2_isConsistent : MethodName := ⟨RX2, "isConsistent", "()Z"⟩
def dkwX2_isConsistent_4 : List UInt8 := [155, 0, 7, 4, 167, 0, 4, 3, 60, 132, 2, 1, 167, 255, 181, 27, 172]
abbrev dktX2_isConsistent_4 : List UInt8 := dkwX2_isConsistent_4 ++ []
def dkwX2_isConsistent_3 : List UInt8 := [160, 0, 29, 42, 28, 182, 1, 59, 153, 0, 21, 45, 182, 1, 31, 155, 0, 14, 45, 182, 0, 201]
abbrev dktX2_isConsistent_3 : List UInt8 := dkwX2_isConsistent_3 ++ dktX2_isConsistent_4
def dkwX2_isConsistent_2 : List UInt8 := [185, 0, 49, 2, 0, 192, 0, 106, 78, 27, 153, 0, 42, 42, 28, 182, 1, 53, 42, 28, 182, 1, 56]
abbrev dktX2_isConsistent_2 : List UInt8 := dkwX2_isConsistent_2 ++ dktX2_isConsistent_3
def dkwX2_isConsistent_1 : List UInt8 := [3, 61, 28, 42, 180, 0, 22, 185, 0, 43, 1, 0, 162, 0, 68, 42, 180, 0, 22, 28]
abbrev dktX2_isConsistent_1 : List UInt8 := dkwX2_isConsistent_1 ++ dktX2_isConsistent_2
def dkwX2_isConsistent_0 : List UInt8 := [42, 182, 1, 47, 42, 182, 1, 50, 160, 0, 14, 42, 180, 0, 28, 155, 0, 7, 4, 167, 0, 4, 3, 60]
abbrev dktX2_isConsistent_0 : List UInt8 := dkwX2_isConsistent_0 ++ dktX2_isConsistent_1
theorem dksX2_isConsistent_0 : cX2_isConsistent.data.toList.drop 0 = dktX2_isConsistent_0 := by decide +kernel
theorem dksX2_isConsistent_1 : cX2_isConsistent.data.toList.drop 24 = dktX2_isConsistent_1 := dk_seg dksX2_isConsistent_0 24 rfl rfl
theorem dksX2_isConsistent_2 : cX2_isConsistent.data.toList.drop 44 = dktX2_isConsistent_2 := dk_seg dksX2_isConsistent_1 20 rfl rfl
theorem dksX2_isConsistent_3 : cX2_isConsistent.data.toList.drop 67 = dktX2_isConsistent_3 := dk_seg dksX2_isConsistent_2 23 rfl rfl
theorem dksX2_isConsistent_4 : cX2_isConsistent.data.toList.drop 89 = dktX2_isConsistent_4 := dk_seg dksX2_isConsistent_3 22 rfl rfl
theorem dX2_isConsistent_0 : decode cX2_isConsistent 0 = .ok (.aload_n 0, 1) := dk_42 (dk_at dksX2_isConsistent_0 0 rfl rfl)
theorem dX2_isConsistent_1 : decode cX2_isConsistent 1 = .ok (.invokevirtual 303, 3) := dk_182 1 47 (dk_at dksX2_isConsistent_0 1 rfl rfl)
theorem dX2_isConsistent_4 : decode cX2_isConsistent 4 = .ok (.aload_n 0, 1) := dk_42 (dk_at dksX2_isConsistent_0 4 rfl rfl)
theorem dX2_isConsistent_5 : decode cX2_isConsistent 5 = .ok (.invokevirtual 306, 3) := dk_182 1 50 (dk_at dksX2_isConsistent_0 5 rfl rfl)
theorem dX2_isConsistent_8 : decode cX2_isConsistent 8 = .ok (.if_icmp .ne 14, 3) := dk_160 0 14 (dk_at dksX2_isConsistent_0 8 rfl rfl)
theorem dX2_isConsistent_11 : decode cX2_isConsistent 11 = .ok (.aload_n 0, 1) := dk_42 (dk_at dksX2_isConsistent_0 11 rfl rfl)
theorem dX2_isConsistent_12 : decode cX2_isConsistent 12 = .ok (.getfield 28, 3) := dk_180 0 28 (dk_at dksX2_isConsistent_0 12 rfl rfl)
theorem dX2_isConsistent_15 : decode cX2_isConsistent 15 = .ok (.ifCond .lt 7, 3) := dk_155 0 7 (dk_at dksX2_isConsistent_0 15 rfl rfl)
theorem dX2_isConsistent_18 : decode cX2_isConsistent 18 = .ok (.iconst 1, 1) := dk_4 (dk_at dksX2_isConsistent_0 18 rfl rfl)
theorem dX2_isConsistent_19 : decode cX2_isConsistent 19 = .ok (.goto 4, 3) := dk_167 0 4 (dk_at dksX2_isConsistent_0 19 rfl rfl)
theorem dX2_isConsistent_22 : decode cX2_isConsistent 22 = .ok (.iconst 0, 1) := dk_3 (dk_at dksX2_isConsistent_0 22 rfl rfl)
theorem dX2_isConsistent_23 : decode cX2_isConsistent 23 = .ok (.istore_n 1, 1) := dk_60 (dk_at dksX2_isConsistent_0 23 rfl rfl)
theorem dX2_isConsistent_24 : decode cX2_isConsistent 24 = .ok (.iconst 0, 1) := dk_3 (dk_at dksX2_isConsistent_1 0 rfl rfl)
theorem dX2_isConsistent_25 : decode cX2_isConsistent 25 = .ok (.istore_n 2, 1) := dk_61 (dk_at dksX2_isConsistent_1 1 rfl rfl)
theorem dX2_isConsistent_26 : decode cX2_isConsistent 26 = .ok (.iload_n 2, 1) := dk_28 (dk_at dksX2_isConsistent_1 2 rfl rfl)
theorem dX2_isConsistent_27 : decode cX2_isConsistent 27 = .ok (.aload_n 0, 1) := dk_42 (dk_at dksX2_isConsistent_1 3 rfl rfl)
theorem dX2_isConsistent_28 : decode cX2_isConsistent 28 = .ok (.getfield 22, 3) := dk_180 0 22 (dk_at dksX2_isConsistent_1 4 rfl rfl)
theorem dX2_isConsistent_31 : decode cX2_isConsistent 31 = .ok (.invokeinterface 43 1, 5) := by decide +kernel
theorem dX2_isConsistent_36 : decode cX2_isConsistent 36 = .ok (.if_icmp .ge 68, 3) := dk_162 0 68 (dk_at dksX2_isConsistent_1 12 rfl rfl)
theorem dX2_isConsistent_39 : decode cX2_isConsistent 39 = .ok (.aload_n 0, 1) := dk_42 (dk_at dksX2_isConsistent_1 15 rfl rfl)
theorem dX2_isConsistent_40 : decode cX2_isConsistent 40 = .ok (.getfield 22, 3) := dk_180 0 22 (dk_at dksX2_isConsistent_1 16 rfl rfl)
theorem dX2_isConsistent_43 : decode cX2_isConsistent 43 = .ok (.iload_n 2, 1) := dk_28 (dk_at dksX2_isConsistent_1 19 rfl rfl)
theorem dX2_isConsistent_44 : decode cX2_isConsistent 44 = .ok (.invokeinterface 49 2, 5) := by decide +kernel
theorem dX2_isConsistent_49 : decode cX2_isConsistent 49 = .ok (.checkcast 106, 3) := dk_192 0 106 (dk_at dksX2_isConsistent_2 5 rfl rfl)
theorem dX2_isConsistent_52 : decode cX2_isConsistent 52 = .ok (.astore_n 3, 1) := dk_78 (dk_at dksX2_isConsistent_2 8 rfl rfl)
theorem dX2_isConsistent_53 : decode cX2_isConsistent 53 = .ok (.iload_n 1, 1) := dk_27 (dk_at dksX2_isConsistent_2 9 rfl rfl)
theorem dX2_isConsistent_54 : decode cX2_isConsistent 54 = .ok (.ifCond .eq 42, 3) := dk_153 0 42 (dk_at dksX2_isConsistent_2 10 rfl rfl)
theorem dX2_isConsistent_57 : decode cX2_isConsistent 57 = .ok (.aload_n 0, 1) := dk_42 (dk_at dksX2_isConsistent_2 13 rfl rfl)
theorem dX2_isConsistent_58 : decode cX2_isConsistent 58 = .ok (.iload_n 2, 1) := dk_28 (dk_at dksX2_isConsistent_2 14 rfl rfl)
theorem dX2_isConsistent_59 : decode cX2_isConsistent 59 = .ok (.invokevirtual 309, 3) := dk_182 1 53 (dk_at dksX2_isConsistent_2 15 rfl rfl)
theorem dX2_isConsistent_62 : decode cX2_isConsistent 62 = .ok (.aload_n 0, 1) := dk_42 (dk_at dksX2_isConsistent_2 18 rfl rfl)
theorem dX2_isConsistent_63 : decode cX2_isConsistent 63 = .ok (.iload_n 2, 1) := dk_28 (dk_at dksX2_isConsistent_2 19 rfl rfl)
theorem dX2_isConsistent_64 : decode cX2_isConsistent 64 = .ok (.invokevirtual 312, 3) := dk_182 1 56 (dk_at dksX2_isConsistent_2 20 rfl rfl)
theorem dX2_isConsistent_67 : decode cX2_isConsistent 67 = .ok (.if_icmp .ne 29, 3) := dk_160 0 29 (dk_at dksX2_isConsistent_3 0 rfl rfl)
theorem dX2_isConsistent_70 : decode cX2_isConsistent 70 = .ok (.aload_n 0, 1) := dk_42 (dk_at dksX2_isConsistent_3 3 rfl rfl)
theorem dX2_isConsistent_71 : decode cX2_isConsistent 71 = .ok (.iload_n 2, 1) := dk_28 (dk_at dksX2_isConsistent_3 4 rfl rfl)
theorem dX2_isConsistent_72 : decode cX2_isConsistent 72 = .ok (.invokevirtual 315, 3) := dk_182 1 59 (dk_at dksX2_isConsistent_3 5 rfl rfl)
theorem dX2_isConsistent_75 : decode cX2_isConsistent 75 = .ok (.ifCond .eq 21, 3) := dk_153 0 21 (dk_at dksX2_isConsistent_3 8 rfl rfl)
theorem dX2_isConsistent_78 : decode cX2_isConsistent 78 = .ok (.aload_n 3, 1) := dk_45 (dk_at dksX2_isConsistent_3 11 rfl rfl)
theorem dX2_isConsistent_79 : decode cX2_isConsistent 79 = .ok (.invokevirtual 287, 3) := dk_182 1 31 (dk_at dksX2_isConsistent_3 12 rfl rfl)
theorem dX2_isConsistent_82 : decode cX2_isConsistent 82 = .ok (.ifCond .lt 14, 3) := dk_155 0 14 (dk_at dksX2_isConsistent_3 15 rfl rfl)
theorem dX2_isConsistent_85 : decode cX2_isConsistent 85 = .ok (.aload_n 3, 1) := dk_45 (dk_at dksX2_isConsistent_3 18 rfl rfl)
theorem dX2_isConsistent_86 : decode cX2_isConsistent 86 = .ok (.invokevirtual 201, 3) := dk_182 0 201 (dk_at dksX2_isConsistent_3 19 rfl rfl)
theorem dX2_isConsistent_89 : decode cX2_isConsistent 89 = .ok (.ifCond .lt 7, 3) := dk_155 0 7 (dk_at dksX2_isConsistent_4 0 rfl rfl)
theorem dX2_isConsistent_92 : decode cX2_isConsistent 92 = .ok (.iconst 1, 1) := dk_4 (dk_at dksX2_isConsistent_4 3 rfl rfl)
theorem dX2_isConsistent_93 : decode cX2_isConsistent 93 = .ok (.goto 4, 3) := dk_167 0 4 (dk_at dksX2_isConsistent_4 4 rfl rfl)
theorem dX2_isConsistent_96 : decode cX2_isConsistent 96 = .ok (.iconst 0, 1) := dk_3 (dk_at dksX2_isConsistent_4 7 rfl rfl)
theorem dX2_isConsistent_97 : decode cX2_isConsistent 97 = .ok (.istore_n 1, 1) := dk_60 (dk_at dksX2_isConsistent_4 8 rfl rfl)
theorem dX2_isConsistent_98 : decode cX2_isConsistent 98 = .ok (.iinc 2 1, 3) := dk_132 2 1 (dk_at dksX2_isConsistent_4 9 rfl rfl)
theorem dX2_isConsistent_101 : decode cX2_isConsistent 101 = .ok (.goto (-75), 3) := dk_167 255 181 (dk_at dksX2_isConsistent_4 12 rfl rfl)
theorem dX2_isConsistent_104 : decode cX2_isConsistent 104 = .ok (.iload_n 1, 1) := dk_27 (dk_at dksX2_isConsistent_4 15 rfl rfl)
theorem dX2_isConsistent_105 : decode cX2_isConsistent 105 = .ok (.ireturn, 1) := dk_172 (dk_at dksX2_isConsistent_4 16 rfl rfl)
abbrev cX2_bestWages : ByteArray := prog_18_method_35_code
def yX2_bestWages : MethodName := ⟨RX2, "bestWages", "(I)I"⟩
def dkwX2_bestWages_1 : List UInt8 := [184, 1, 23, 172]
abbrev dktX2_bestWages_1 : List UInt8 := dkwX2_bestWages_1 ++ []
def dkwX2_bestWages_0 : List UInt8 := [42, 27, 182, 1, 19, 42, 42, 180, 0, 22, 27, 185, 0, 49, 2, 0, 192, 0, 106, 182, 0, 227]
abbrev dktX2_bestWages_0 : List UInt8 := dkwX2_bestWages_0 ++ dktX2_bestWages_1
theorem dksX2_bestWages_0 : cX2_bestWages.data.toList.drop 0 = dktX2_bestWages_0 := by decide +kernel
theorem dksX2_bestWages_1 : cX2_bestWages.data.toList.drop 22 = dktX2_bestWages_1 := dk_seg dksX2_bestWages_0 22 rfl rfl
theorem dX2_bestWages_0 : decode cX2_bestWages 0 = .ok (.aload_n 0, 1) := dk_42 (dk_at dksX2_bestWages_0 0 rfl rfl)
theorem dX2_bestWages_1 : decode cX2_bestWages 1 = .ok (.iload_n 1, 1) := dk_27 (dk_at dksX2_bestWages_0 1 rfl rfl)
theorem dX2_bestWages_2 : decode cX2_bestWages 2 = .ok (.invokevirtual 275, 3) := dk_182 1 19 (dk_at dksX2_bestWages_0 2 rfl rfl)
theorem dX2_bestWages_5 : decode cX2_bestWages 5 = .ok (.aload_n 0, 1) := dk_42 (dk_at dksX2_bestWages_0 5 rfl rfl)
theorem dX2_bestWages_6 : decode cX2_bestWages 6 = .ok (.aload_n 0, 1) := dk_42 (dk_at dksX2_bestWages_0 6 rfl rfl)
theorem dX2_bestWages_7 : decode cX2_bestWages 7 = .ok (.getfield 22, 3) := dk_180 0 22 (dk_at dksX2_bestWages_0 7 rfl rfl)
theorem dX2_bestWages_10 : decode cX2_bestWages 10 = .ok (.iload_n 1, 1) := dk_27 (dk_at dksX2_bestWages_0 10 rfl rfl)
theorem dX2_bestWages_11 : decode cX2_bestWages 11 = .ok (.invokeinterface 49 2, 5) := by decide +kernel
theorem dX2_bestWages_16 : decode cX2_bestWages 16 = .ok (.checkcast 106, 3) := dk_192 0 106 (dk_at dksX2_bestWages_0 16 rfl rfl)
theorem dX2_bestWages_19 : decode cX2_bestWages 19 = .ok (.invokevirtual 227, 3) := dk_182 0 227 (dk_at dksX2_bestWages_0 19 rfl rfl)
theorem dX2_bestWages_22 : decode cX2_bestWages 22 = .ok (.invokestatic 279, 3) := dk_184 1 23 (dk_at dksX2_bestWages_1 0 rfl rfl)
theorem dX2_bestWages_25 : decode cX2_bestWages 25 = .ok (.ireturn, 1) := dk_172 (dk_at dksX2_bestWages_1 3 rfl rfl)
abbrev cX2_chainOf : ByteArray := prog_18_method_34_code
def yX2_chainOf : MethodName := ⟨RX2, "chainOf", "(I)LGoblinHousehold$Chain;"⟩
def dkwX2_chainOf_3 : List UInt8 := [176]
abbrev dktX2_chainOf_3 : List UInt8 := dkwX2_chainOf_3 ++ []
def dkwX2_chainOf_2 : List UInt8 := [185, 0, 49, 2, 0, 192, 0, 53, 44, 183, 1, 16, 167, 0, 4, 44, 77, 132, 3, 1, 167, 255, 194, 44]
abbrev dktX2_chainOf_2 : List UInt8 := dkwX2_chainOf_2 ++ dktX2_chainOf_3
def dkwX2_chainOf_1 : List UInt8 := [185, 0, 49, 2, 0, 192, 0, 53, 180, 0, 149, 27, 160, 0, 27, 187, 1, 14, 89, 42, 180, 0, 25, 29]
abbrev dktX2_chainOf_1 : List UInt8 := dkwX2_chainOf_1 ++ dktX2_chainOf_2
def dkwX2_chainOf_0 : List UInt8 := [1, 77, 3, 62, 29, 42, 180, 0, 25, 185, 0, 43, 1, 0, 162, 0, 55, 42, 180, 0, 25, 29]
abbrev dktX2_chainOf_0 : List UInt8 := dkwX2_chainOf_0 ++ dktX2_chainOf_1
theorem dksX2_chainOf_0 : cX2_chainOf.data.toList.drop 0 = dktX2_chainOf_0 := by decide +kernel
theorem dksX2_chainOf_1 : cX2_chainOf.data.toList.drop 22 = dktX2_chainOf_1 := dk_seg dksX2_chainOf_0 22 rfl rfl
theorem dksX2_chainOf_2 : cX2_chainOf.data.toList.drop 46 = dktX2_chainOf_2 := dk_seg dksX2_chainOf_1 24 rfl rfl
theorem dksX2_chainOf_3 : cX2_chainOf.data.toList.drop 70 = dktX2_chainOf_3 := dk_seg dksX2_chainOf_2 24 rfl rfl
theorem dX2_chainOf_0 : decode cX2_chainOf 0 = .ok (.aconst_null, 1) := dk_1 (dk_at dksX2_chainOf_0 0 rfl rfl)
theorem dX2_chainOf_1 : decode cX2_chainOf 1 = .ok (.astore_n 2, 1) := dk_77 (dk_at dksX2_chainOf_0 1 rfl rfl)
theorem dX2_chainOf_2 : decode cX2_chainOf 2 = .ok (.iconst 0, 1) := dk_3 (dk_at dksX2_chainOf_0 2 rfl rfl)
theorem dX2_chainOf_3 : decode cX2_chainOf 3 = .ok (.istore_n 3, 1) := dk_62 (dk_at dksX2_chainOf_0 3 rfl rfl)
theorem dX2_chainOf_4 : decode cX2_chainOf 4 = .ok (.iload_n 3, 1) := dk_29 (dk_at dksX2_chainOf_0 4 rfl rfl)
theorem dX2_chainOf_5 : decode cX2_chainOf 5 = .ok (.aload_n 0, 1) := dk_42 (dk_at dksX2_chainOf_0 5 rfl rfl)
theorem dX2_chainOf_6 : decode cX2_chainOf 6 = .ok (.getfield 25, 3) := dk_180 0 25 (dk_at dksX2_chainOf_0 6 rfl rfl)
theorem dX2_chainOf_9 : decode cX2_chainOf 9 = .ok (.invokeinterface 43 1, 5) := by decide +kernel
theorem dX2_chainOf_14 : decode cX2_chainOf 14 = .ok (.if_icmp .ge 55, 3) := dk_162 0 55 (dk_at dksX2_chainOf_0 14 rfl rfl)
theorem dX2_chainOf_17 : decode cX2_chainOf 17 = .ok (.aload_n 0, 1) := dk_42 (dk_at dksX2_chainOf_0 17 rfl rfl)
theorem dX2_chainOf_18 : decode cX2_chainOf 18 = .ok (.getfield 25, 3) := dk_180 0 25 (dk_at dksX2_chainOf_0 18 rfl rfl)
theorem dX2_chainOf_21 : decode cX2_chainOf 21 = .ok (.iload_n 3, 1) := dk_29 (dk_at dksX2_chainOf_0 21 rfl rfl)
theorem dX2_chainOf_22 : decode cX2_chainOf 22 = .ok (.invokeinterface 49 2, 5) := by decide +kernel
theorem dX2_chainOf_27 : decode cX2_chainOf 27 = .ok (.checkcast 53, 3) := dk_192 0 53 (dk_at dksX2_chainOf_1 5 rfl rfl)
theorem dX2_chainOf_30 : decode cX2_chainOf 30 = .ok (.getfield 149, 3) := dk_180 0 149 (dk_at dksX2_chainOf_1 8 rfl rfl)
theorem dX2_chainOf_33 : decode cX2_chainOf 33 = .ok (.iload_n 1, 1) := dk_27 (dk_at dksX2_chainOf_1 11 rfl rfl)
theorem dX2_chainOf_34 : decode cX2_chainOf 34 = .ok (.if_icmp .ne 27, 3) := dk_160 0 27 (dk_at dksX2_chainOf_1 12 rfl rfl)
theorem dX2_chainOf_37 : decode cX2_chainOf 37 = .ok (.new 270, 3) := dk_187 1 14 (dk_at dksX2_chainOf_1 15 rfl rfl)
theorem dX2_chainOf_40 : decode cX2_chainOf 40 = .ok (.dup, 1) := dk_89 (dk_at dksX2_chainOf_1 18 rfl rfl)
theorem dX2_chainOf_41 : decode cX2_chainOf 41 = .ok (.aload_n 0, 1) := dk_42 (dk_at dksX2_chainOf_1 19 rfl rfl)
theorem dX2_chainOf_42 : decode cX2_chainOf 42 = .ok (.getfield 25, 3) := dk_180 0 25 (dk_at dksX2_chainOf_1 20 rfl rfl)
theorem dX2_chainOf_45 : decode cX2_chainOf 45 = .ok (.iload_n 3, 1) := dk_29 (dk_at dksX2_chainOf_1 23 rfl rfl)
theorem dX2_chainOf_46 : decode cX2_chainOf 46 = .ok (.invokeinterface 49 2, 5) := by decide +kernel
theorem dX2_chainOf_51 : decode cX2_chainOf 51 = .ok (.checkcast 53, 3) := dk_192 0 53 (dk_at dksX2_chainOf_2 5 rfl rfl)
theorem dX2_chainOf_54 : decode cX2_chainOf 54 = .ok (.aload_n 2, 1) := dk_44 (dk_at dksX2_chainOf_2 8 rfl rfl)
theorem dX2_chainOf_55 : decode cX2_chainOf 55 = .ok (.invokespecial 272, 3) := dk_183 1 16 (dk_at dksX2_chainOf_2 9 rfl rfl)
theorem dX2_chainOf_58 : decode cX2_chainOf 58 = .ok (.goto 4, 3) := dk_167 0 4 (dk_at dksX2_chainOf_2 12 rfl rfl)
theorem dX2_chainOf_61 : decode cX2_chainOf 61 = .ok (.aload_n 2, 1) := dk_44 (dk_at dksX2_chainOf_2 15 rfl rfl)
theorem dX2_chainOf_62 : decode cX2_chainOf 62 = .ok (.astore_n 2, 1) := dk_77 (dk_at dksX2_chainOf_2 16 rfl rfl)
theorem dX2_chainOf_63 : decode cX2_chainOf 63 = .ok (.iinc 3 1, 3) := dk_132 3 1 (dk_at dksX2_chainOf_2 17 rfl rfl)
theorem dX2_chainOf_66 : decode cX2_chainOf 66 = .ok (.goto (-62), 3) := dk_167 255 194 (dk_at dksX2_chainOf_2 20 rfl rfl)
theorem dX2_chainOf_69 : decode cX2_chainOf 69 = .ok (.aload_n 2, 1) := dk_44 (dk_at dksX2_chainOf_2 23 rfl rfl)
theorem dX2_chainOf_70 : decode cX2_chainOf 70 = .ok (.areturn, 1) := dk_176 (dk_at dksX2_chainOf_3 0 rfl rfl)
abbrev cX2_energy : ByteArray := prog_18_method_8_code
def yX2_energy : MethodName := ⟨RX2, "energy", "(LGoblinHousehold$Goblin;)I"⟩
def dkwX2_energy_0 : List UInt8 := [43, 180, 0, 105, 42, 182, 0, 110, 4, 96, 104, 172]
abbrev dktX2_energy_0 : List UInt8 := dkwX2_energy_0 ++ []
theorem dksX2_energy_0 : cX2_energy.data.toList.drop 0 = dktX2_energy_0 := by decide +kernel
theorem dX2_energy_0 : decode cX2_energy 0 = .ok (.aload_n 1, 1) := dk_43 (dk_at dksX2_energy_0 0 rfl rfl)
theorem dX2_energy_1 : decode cX2_energy 1 = .ok (.getfield 105, 3) := dk_180 0 105 (dk_at dksX2_energy_0 1 rfl rfl)
theorem dX2_energy_4 : decode cX2_energy 4 = .ok (.aload_n 0, 1) := dk_42 (dk_at dksX2_energy_0 4 rfl rfl)
theorem dX2_energy_5 : decode cX2_energy 5 = .ok (.invokevirtual 110, 3) := dk_182 0 110 (dk_at dksX2_energy_0 5 rfl rfl)
theorem dX2_energy_8 : decode cX2_energy 8 = .ok (.iconst 1, 1) := dk_4 (dk_at dksX2_energy_0 8 rfl rfl)
theorem dX2_energy_9 : decode cX2_energy 9 = .ok (.iadd, 1) := dk_96 (dk_at dksX2_energy_0 9 rfl rfl)
theorem dX2_energy_10 : decode cX2_energy 10 = .ok (.imul, 1) := dk_104 (dk_at dksX2_energy_0 10 rfl rfl)
theorem dX2_energy_11 : decode cX2_energy 11 = .ok (.ireturn, 1) := dk_172 (dk_at dksX2_energy_0 11 rfl rfl)
abbrev cX2_usedBrooms : ByteArray := prog_18_method_6_code
def yX2_usedBrooms : MethodName := ⟨RX2, "usedBrooms", "()I"⟩
def dkwX2_usedBrooms_2 : List UInt8 := [167, 255, 213, 27, 172]
abbrev dktX2_usedBrooms_2 : List UInt8 := dkwX2_usedBrooms_2 ++ []
def dkwX2_usedBrooms_1 : List UInt8 := [185, 0, 49, 2, 0, 192, 0, 90, 182, 0, 92, 153, 0, 7, 4, 167, 0, 4, 3, 96, 60, 132, 2, 1]
abbrev dktX2_usedBrooms_1 : List UInt8 := dkwX2_usedBrooms_1 ++ dktX2_usedBrooms_2
def dkwX2_usedBrooms_0 : List UInt8 := [3, 60, 3, 61, 28, 42, 180, 0, 18, 185, 0, 43, 1, 0, 162, 0, 36, 27, 42, 180, 0, 18, 28]
abbrev dktX2_usedBrooms_0 : List UInt8 := dkwX2_usedBrooms_0 ++ dktX2_usedBrooms_1
theorem dksX2_usedBrooms_0 : cX2_usedBrooms.data.toList.drop 0 = dktX2_usedBrooms_0 := by decide +kernel
theorem dksX2_usedBrooms_1 : cX2_usedBrooms.data.toList.drop 23 = dktX2_usedBrooms_1 := dk_seg dksX2_usedBrooms_0 23 rfl rfl
theorem dksX2_usedBrooms_2 : cX2_usedBrooms.data.toList.drop 47 = dktX2_usedBrooms_2 := dk_seg dksX2_usedBrooms_1 24 rfl rfl
theorem dX2_usedBrooms_0 : decode cX2_usedBrooms 0 = .ok (.iconst 0, 1) := dk_3 (dk_at dksX2_usedBrooms_0 0 rfl rfl)
theorem dX2_usedBrooms_1 : decode cX2_usedBrooms 1 = .ok (.istore_n 1, 1) := dk_60 (dk_at dksX2_usedBrooms_0 1 rfl rfl)
theorem dX2_usedBrooms_2 : decode cX2_usedBrooms 2 = .ok (.iconst 0, 1) := dk_3 (dk_at dksX2_usedBrooms_0 2 rfl rfl)
theorem dX2_usedBrooms_3 : decode cX2_usedBrooms 3 = .ok (.istore_n 2, 1) := dk_61 (dk_at dksX2_usedBrooms_0 3 rfl rfl)
theorem dX2_usedBrooms_4 : decode cX2_usedBrooms 4 = .ok (.iload_n 2, 1) := dk_28 (dk_at dksX2_usedBrooms_0 4 rfl rfl)
theorem dX2_usedBrooms_5 : decode cX2_usedBrooms 5 = .ok (.aload_n 0, 1) := dk_42 (dk_at dksX2_usedBrooms_0 5 rfl rfl)
theorem dX2_usedBrooms_6 : decode cX2_usedBrooms 6 = .ok (.getfield 18, 3) := dk_180 0 18 (dk_at dksX2_usedBrooms_0 6 rfl rfl)
theorem dX2_usedBrooms_9 : decode cX2_usedBrooms 9 = .ok (.invokeinterface 43 1, 5) := by decide +kernel
theorem dX2_usedBrooms_14 : decode cX2_usedBrooms 14 = .ok (.if_icmp .ge 36, 3) := dk_162 0 36 (dk_at dksX2_usedBrooms_0 14 rfl rfl)
theorem dX2_usedBrooms_17 : decode cX2_usedBrooms 17 = .ok (.iload_n 1, 1) := dk_27 (dk_at dksX2_usedBrooms_0 17 rfl rfl)
theorem dX2_usedBrooms_18 : decode cX2_usedBrooms 18 = .ok (.aload_n 0, 1) := dk_42 (dk_at dksX2_usedBrooms_0 18 rfl rfl)
theorem dX2_usedBrooms_19 : decode cX2_usedBrooms 19 = .ok (.getfield 18, 3) := dk_180 0 18 (dk_at dksX2_usedBrooms_0 19 rfl rfl)
theorem dX2_usedBrooms_22 : decode cX2_usedBrooms 22 = .ok (.iload_n 2, 1) := dk_28 (dk_at dksX2_usedBrooms_0 22 rfl rfl)
theorem dX2_usedBrooms_23 : decode cX2_usedBrooms 23 = .ok (.invokeinterface 49 2, 5) := by decide +kernel
theorem dX2_usedBrooms_28 : decode cX2_usedBrooms 28 = .ok (.checkcast 90, 3) := dk_192 0 90 (dk_at dksX2_usedBrooms_1 5 rfl rfl)
theorem dX2_usedBrooms_31 : decode cX2_usedBrooms 31 = .ok (.invokevirtual 92, 3) := dk_182 0 92 (dk_at dksX2_usedBrooms_1 8 rfl rfl)
theorem dX2_usedBrooms_34 : decode cX2_usedBrooms 34 = .ok (.ifCond .eq 7, 3) := dk_153 0 7 (dk_at dksX2_usedBrooms_1 11 rfl rfl)
theorem dX2_usedBrooms_37 : decode cX2_usedBrooms 37 = .ok (.iconst 1, 1) := dk_4 (dk_at dksX2_usedBrooms_1 14 rfl rfl)
theorem dX2_usedBrooms_38 : decode cX2_usedBrooms 38 = .ok (.goto 4, 3) := dk_167 0 4 (dk_at dksX2_usedBrooms_1 15 rfl rfl)
theorem dX2_usedBrooms_41 : decode cX2_usedBrooms 41 = .ok (.iconst 0, 1) := dk_3 (dk_at dksX2_usedBrooms_1 18 rfl rfl)
theorem dX2_usedBrooms_42 : decode cX2_usedBrooms 42 = .ok (.iadd, 1) := dk_96 (dk_at dksX2_usedBrooms_1 19 rfl rfl)
theorem dX2_usedBrooms_43 : decode cX2_usedBrooms 43 = .ok (.istore_n 1, 1) := dk_60 (dk_at dksX2_usedBrooms_1 20 rfl rfl)
theorem dX2_usedBrooms_44 : decode cX2_usedBrooms 44 = .ok (.iinc 2 1, 3) := dk_132 2 1 (dk_at dksX2_usedBrooms_1 21 rfl rfl)
theorem dX2_usedBrooms_47 : decode cX2_usedBrooms 47 = .ok (.goto (-43), 3) := dk_167 255 213 (dk_at dksX2_usedBrooms_2 0 rfl rfl)
theorem dX2_usedBrooms_50 : decode cX2_usedBrooms 50 = .ok (.iload_n 1, 1) := dk_27 (dk_at dksX2_usedBrooms_2 3 rfl rfl)
theorem dX2_usedBrooms_51 : decode cX2_usedBrooms 51 = .ok (.ireturn, 1) := dk_172 (dk_at dksX2_usedBrooms_2 4 rfl rfl)
abbrev cX2_bestWagesByTable : ByteArray := prog_18_method_36_code
def yX2_bestWagesByTable : MethodName := ⟨RX2, "bestWagesByTable", "(I)I"⟩
def dkwX2_bestWagesByTable_5 : List UInt8 := [190, 4, 100, 46, 172]
abbrev dktX2_bestWagesByTable_5 : List UInt8 := dkwX2_bestWagesByTable_5 ++ []
def dkwX2_bestWagesByTable_4 : List UInt8 := [180, 0, 236, 100, 46, 96, 184, 0, 99, 79, 132, 5, 255, 167, 255, 207, 132, 3, 1, 167, 255, 167, 44, 44]
abbrev dktX2_bestWagesByTable_4 : List UInt8 := dkwX2_bestWagesByTable_4 ++ dktX2_bestWagesByTable_5
def dkwX2_bestWagesByTable_3 : List UInt8 := [180, 0, 149, 27, 160, 0, 36, 44, 21, 5, 44, 21, 5, 46, 25, 4, 180, 0, 173, 44, 21, 5, 25, 4]
abbrev dktX2_bestWagesByTable_3 : List UInt8 := dkwX2_bestWagesByTable_3 ++ dktX2_bestWagesByTable_4
def dkwX2_bestWagesByTable_2 : List UInt8 := [192, 0, 53, 58, 4, 44, 190, 4, 100, 54, 5, 21, 5, 25, 4, 180, 0, 236, 161, 0, 45, 25, 4]
abbrev dktX2_bestWagesByTable_2 : List UInt8 := dkwX2_bestWagesByTable_2 ++ dktX2_bestWagesByTable_3
def dkwX2_bestWagesByTable_1 : List UInt8 := [29, 42, 180, 0, 25, 185, 0, 43, 1, 0, 162, 0, 82, 42, 180, 0, 25, 29, 185, 0, 49, 2, 0]
abbrev dktX2_bestWagesByTable_1 : List UInt8 := dkwX2_bestWagesByTable_1 ++ dktX2_bestWagesByTable_2
def dkwX2_bestWagesByTable_0 : List UInt8 := [42, 42, 180, 0, 22, 27, 185, 0, 49, 2, 0, 192, 0, 106, 182, 0, 227, 4, 96, 188, 10, 77, 3, 62]
abbrev dktX2_bestWagesByTable_0 : List UInt8 := dkwX2_bestWagesByTable_0 ++ dktX2_bestWagesByTable_1
theorem dksX2_bestWagesByTable_0 : cX2_bestWagesByTable.data.toList.drop 0 = dktX2_bestWagesByTable_0 := by decide +kernel
theorem dksX2_bestWagesByTable_1 : cX2_bestWagesByTable.data.toList.drop 24 = dktX2_bestWagesByTable_1 := dk_seg dksX2_bestWagesByTable_0 24 rfl rfl
theorem dksX2_bestWagesByTable_2 : cX2_bestWagesByTable.data.toList.drop 47 = dktX2_bestWagesByTable_2 := dk_seg dksX2_bestWagesByTable_1 23 rfl rfl
theorem dksX2_bestWagesByTable_3 : cX2_bestWagesByTable.data.toList.drop 70 = dktX2_bestWagesByTable_3 := dk_seg dksX2_bestWagesByTable_2 23 rfl rfl
theorem dksX2_bestWagesByTable_4 : cX2_bestWagesByTable.data.toList.drop 94 = dktX2_bestWagesByTable_4 := dk_seg dksX2_bestWagesByTable_3 24 rfl rfl
theorem dksX2_bestWagesByTable_5 : cX2_bestWagesByTable.data.toList.drop 118 = dktX2_bestWagesByTable_5 := dk_seg dksX2_bestWagesByTable_4 24 rfl rfl
theorem dX2_bestWagesByTable_0 : decode cX2_bestWagesByTable 0 = .ok (.aload_n 0, 1) := dk_42 (dk_at dksX2_bestWagesByTable_0 0 rfl rfl)
theorem dX2_bestWagesByTable_1 : decode cX2_bestWagesByTable 1 = .ok (.aload_n 0, 1) := dk_42 (dk_at dksX2_bestWagesByTable_0 1 rfl rfl)
theorem dX2_bestWagesByTable_2 : decode cX2_bestWagesByTable 2 = .ok (.getfield 22, 3) := dk_180 0 22 (dk_at dksX2_bestWagesByTable_0 2 rfl rfl)
theorem dX2_bestWagesByTable_5 : decode cX2_bestWagesByTable 5 = .ok (.iload_n 1, 1) := dk_27 (dk_at dksX2_bestWagesByTable_0 5 rfl rfl)
theorem dX2_bestWagesByTable_6 : decode cX2_bestWagesByTable 6 = .ok (.invokeinterface 49 2, 5) := by decide +kernel
theorem dX2_bestWagesByTable_11 : decode cX2_bestWagesByTable 11 = .ok (.checkcast 106, 3) := dk_192 0 106 (dk_at dksX2_bestWagesByTable_0 11 rfl rfl)
theorem dX2_bestWagesByTable_14 : decode cX2_bestWagesByTable 14 = .ok (.invokevirtual 227, 3) := dk_182 0 227 (dk_at dksX2_bestWagesByTable_0 14 rfl rfl)
theorem dX2_bestWagesByTable_17 : decode cX2_bestWagesByTable 17 = .ok (.iconst 1, 1) := dk_4 (dk_at dksX2_bestWagesByTable_0 17 rfl rfl)
theorem dX2_bestWagesByTable_18 : decode cX2_bestWagesByTable 18 = .ok (.iadd, 1) := dk_96 (dk_at dksX2_bestWagesByTable_0 18 rfl rfl)
theorem dX2_bestWagesByTable_19 : decode cX2_bestWagesByTable 19 = .ok (.newarray .int, 2) := dk_188_10 (dk_at dksX2_bestWagesByTable_0 19 rfl rfl)
theorem dX2_bestWagesByTable_21 : decode cX2_bestWagesByTable 21 = .ok (.astore_n 2, 1) := dk_77 (dk_at dksX2_bestWagesByTable_0 21 rfl rfl)
theorem dX2_bestWagesByTable_22 : decode cX2_bestWagesByTable 22 = .ok (.iconst 0, 1) := dk_3 (dk_at dksX2_bestWagesByTable_0 22 rfl rfl)
theorem dX2_bestWagesByTable_23 : decode cX2_bestWagesByTable 23 = .ok (.istore_n 3, 1) := dk_62 (dk_at dksX2_bestWagesByTable_0 23 rfl rfl)
theorem dX2_bestWagesByTable_24 : decode cX2_bestWagesByTable 24 = .ok (.iload_n 3, 1) := dk_29 (dk_at dksX2_bestWagesByTable_1 0 rfl rfl)
theorem dX2_bestWagesByTable_25 : decode cX2_bestWagesByTable 25 = .ok (.aload_n 0, 1) := dk_42 (dk_at dksX2_bestWagesByTable_1 1 rfl rfl)
theorem dX2_bestWagesByTable_26 : decode cX2_bestWagesByTable 26 = .ok (.getfield 25, 3) := dk_180 0 25 (dk_at dksX2_bestWagesByTable_1 2 rfl rfl)
theorem dX2_bestWagesByTable_29 : decode cX2_bestWagesByTable 29 = .ok (.invokeinterface 43 1, 5) := by decide +kernel
theorem dX2_bestWagesByTable_34 : decode cX2_bestWagesByTable 34 = .ok (.if_icmp .ge 82, 3) := dk_162 0 82 (dk_at dksX2_bestWagesByTable_1 10 rfl rfl)
theorem dX2_bestWagesByTable_37 : decode cX2_bestWagesByTable 37 = .ok (.aload_n 0, 1) := dk_42 (dk_at dksX2_bestWagesByTable_1 13 rfl rfl)
theorem dX2_bestWagesByTable_38 : decode cX2_bestWagesByTable 38 = .ok (.getfield 25, 3) := dk_180 0 25 (dk_at dksX2_bestWagesByTable_1 14 rfl rfl)
theorem dX2_bestWagesByTable_41 : decode cX2_bestWagesByTable 41 = .ok (.iload_n 3, 1) := dk_29 (dk_at dksX2_bestWagesByTable_1 17 rfl rfl)
theorem dX2_bestWagesByTable_42 : decode cX2_bestWagesByTable 42 = .ok (.invokeinterface 49 2, 5) := by decide +kernel
theorem dX2_bestWagesByTable_47 : decode cX2_bestWagesByTable 47 = .ok (.checkcast 53, 3) := dk_192 0 53 (dk_at dksX2_bestWagesByTable_2 0 rfl rfl)
theorem dX2_bestWagesByTable_50 : decode cX2_bestWagesByTable 50 = .ok (.astore 4, 2) := dk_58 4 (dk_at dksX2_bestWagesByTable_2 3 rfl rfl)
theorem dX2_bestWagesByTable_52 : decode cX2_bestWagesByTable 52 = .ok (.aload_n 2, 1) := dk_44 (dk_at dksX2_bestWagesByTable_2 5 rfl rfl)
theorem dX2_bestWagesByTable_53 : decode cX2_bestWagesByTable 53 = .ok (.arraylength, 1) := dk_190 (dk_at dksX2_bestWagesByTable_2 6 rfl rfl)
theorem dX2_bestWagesByTable_54 : decode cX2_bestWagesByTable 54 = .ok (.iconst 1, 1) := dk_4 (dk_at dksX2_bestWagesByTable_2 7 rfl rfl)
theorem dX2_bestWagesByTable_55 : decode cX2_bestWagesByTable 55 = .ok (.isub, 1) := dk_100 (dk_at dksX2_bestWagesByTable_2 8 rfl rfl)
theorem dX2_bestWagesByTable_56 : decode cX2_bestWagesByTable 56 = .ok (.istore 5, 2) := dk_54 5 (dk_at dksX2_bestWagesByTable_2 9 rfl rfl)
theorem dX2_bestWagesByTable_58 : decode cX2_bestWagesByTable 58 = .ok (.iload 5, 2) := dk_21 5 (dk_at dksX2_bestWagesByTable_2 11 rfl rfl)
theorem dX2_bestWagesByTable_60 : decode cX2_bestWagesByTable 60 = .ok (.aload 4, 2) := dk_25 4 (dk_at dksX2_bestWagesByTable_2 13 rfl rfl)
theorem dX2_bestWagesByTable_62 : decode cX2_bestWagesByTable 62 = .ok (.getfield 236, 3) := dk_180 0 236 (dk_at dksX2_bestWagesByTable_2 15 rfl rfl)
theorem dX2_bestWagesByTable_65 : decode cX2_bestWagesByTable 65 = .ok (.if_icmp .lt 45, 3) := dk_161 0 45 (dk_at dksX2_bestWagesByTable_2 18 rfl rfl)
theorem dX2_bestWagesByTable_68 : decode cX2_bestWagesByTable 68 = .ok (.aload 4, 2) := dk_25 4 (dk_at dksX2_bestWagesByTable_2 21 rfl rfl)
theorem dX2_bestWagesByTable_70 : decode cX2_bestWagesByTable 70 = .ok (.getfield 149, 3) := dk_180 0 149 (dk_at dksX2_bestWagesByTable_3 0 rfl rfl)
theorem dX2_bestWagesByTable_73 : decode cX2_bestWagesByTable 73 = .ok (.iload_n 1, 1) := dk_27 (dk_at dksX2_bestWagesByTable_3 3 rfl rfl)
theorem dX2_bestWagesByTable_74 : decode cX2_bestWagesByTable 74 = .ok (.if_icmp .ne 36, 3) := dk_160 0 36 (dk_at dksX2_bestWagesByTable_3 4 rfl rfl)
theorem dX2_bestWagesByTable_77 : decode cX2_bestWagesByTable 77 = .ok (.aload_n 2, 1) := dk_44 (dk_at dksX2_bestWagesByTable_3 7 rfl rfl)
theorem dX2_bestWagesByTable_78 : decode cX2_bestWagesByTable 78 = .ok (.iload 5, 2) := dk_21 5 (dk_at dksX2_bestWagesByTable_3 8 rfl rfl)
theorem dX2_bestWagesByTable_80 : decode cX2_bestWagesByTable 80 = .ok (.aload_n 2, 1) := dk_44 (dk_at dksX2_bestWagesByTable_3 10 rfl rfl)
theorem dX2_bestWagesByTable_81 : decode cX2_bestWagesByTable 81 = .ok (.iload 5, 2) := dk_21 5 (dk_at dksX2_bestWagesByTable_3 11 rfl rfl)
theorem dX2_bestWagesByTable_83 : decode cX2_bestWagesByTable 83 = .ok (.iaload, 1) := dk_46 (dk_at dksX2_bestWagesByTable_3 13 rfl rfl)
theorem dX2_bestWagesByTable_84 : decode cX2_bestWagesByTable 84 = .ok (.aload 4, 2) := dk_25 4 (dk_at dksX2_bestWagesByTable_3 14 rfl rfl)
theorem dX2_bestWagesByTable_86 : decode cX2_bestWagesByTable 86 = .ok (.getfield 173, 3) := dk_180 0 173 (dk_at dksX2_bestWagesByTable_3 16 rfl rfl)
theorem dX2_bestWagesByTable_89 : decode cX2_bestWagesByTable 89 = .ok (.aload_n 2, 1) := dk_44 (dk_at dksX2_bestWagesByTable_3 19 rfl rfl)
theorem dX2_bestWagesByTable_90 : decode cX2_bestWagesByTable 90 = .ok (.iload 5, 2) := dk_21 5 (dk_at dksX2_bestWagesByTable_3 20 rfl rfl)
theorem dX2_bestWagesByTable_92 : decode cX2_bestWagesByTable 92 = .ok (.aload 4, 2) := dk_25 4 (dk_at dksX2_bestWagesByTable_3 22 rfl rfl)
theorem dX2_bestWagesByTable_94 : decode cX2_bestWagesByTable 94 = .ok (.getfield 236, 3) := dk_180 0 236 (dk_at dksX2_bestWagesByTable_4 0 rfl rfl)
theorem dX2_bestWagesByTable_97 : decode cX2_bestWagesByTable 97 = .ok (.isub, 1) := dk_100 (dk_at dksX2_bestWagesByTable_4 3 rfl rfl)
theorem dX2_bestWagesByTable_98 : decode cX2_bestWagesByTable 98 = .ok (.iaload, 1) := dk_46 (dk_at dksX2_bestWagesByTable_4 4 rfl rfl)
theorem dX2_bestWagesByTable_99 : decode cX2_bestWagesByTable 99 = .ok (.iadd, 1) := dk_96 (dk_at dksX2_bestWagesByTable_4 5 rfl rfl)
theorem dX2_bestWagesByTable_100 : decode cX2_bestWagesByTable 100 = .ok (.invokestatic 99, 3) := dk_184 0 99 (dk_at dksX2_bestWagesByTable_4 6 rfl rfl)
theorem dX2_bestWagesByTable_103 : decode cX2_bestWagesByTable 103 = .ok (.iastore, 1) := dk_79 (dk_at dksX2_bestWagesByTable_4 9 rfl rfl)
theorem dX2_bestWagesByTable_104 : decode cX2_bestWagesByTable 104 = .ok (.iinc 5 (-1), 3) := dk_132 5 255 (dk_at dksX2_bestWagesByTable_4 10 rfl rfl)
theorem dX2_bestWagesByTable_107 : decode cX2_bestWagesByTable 107 = .ok (.goto (-49), 3) := dk_167 255 207 (dk_at dksX2_bestWagesByTable_4 13 rfl rfl)
theorem dX2_bestWagesByTable_110 : decode cX2_bestWagesByTable 110 = .ok (.iinc 3 1, 3) := dk_132 3 1 (dk_at dksX2_bestWagesByTable_4 16 rfl rfl)
theorem dX2_bestWagesByTable_113 : decode cX2_bestWagesByTable 113 = .ok (.goto (-89), 3) := dk_167 255 167 (dk_at dksX2_bestWagesByTable_4 19 rfl rfl)
theorem dX2_bestWagesByTable_116 : decode cX2_bestWagesByTable 116 = .ok (.aload_n 2, 1) := dk_44 (dk_at dksX2_bestWagesByTable_4 22 rfl rfl)
theorem dX2_bestWagesByTable_117 : decode cX2_bestWagesByTable 117 = .ok (.aload_n 2, 1) := dk_44 (dk_at dksX2_bestWagesByTable_4 23 rfl rfl)
theorem dX2_bestWagesByTable_118 : decode cX2_bestWagesByTable 118 = .ok (.arraylength, 1) := dk_190 (dk_at dksX2_bestWagesByTable_5 0 rfl rfl)
theorem dX2_bestWagesByTable_119 : decode cX2_bestWagesByTable 119 = .ok (.iconst 1, 1) := dk_4 (dk_at dksX2_bestWagesByTable_5 1 rfl rfl)
theorem dX2_bestWagesByTable_120 : decode cX2_bestWagesByTable 120 = .ok (.isub, 1) := dk_100 (dk_at dksX2_bestWagesByTable_5 2 rfl rfl)
theorem dX2_bestWagesByTable_121 : decode cX2_bestWagesByTable 121 = .ok (.iaload, 1) := dk_46 (dk_at dksX2_bestWagesByTable_5 3 rfl rfl)
theorem dX2_bestWagesByTable_122 : decode cX2_bestWagesByTable 122 = .ok (.ireturn, 1) := dk_172 (dk_at dksX2_bestWagesByTable_5 4 rfl rfl)
abbrev cX2_areContractsApart : ByteArray := prog_18_method_42_code
def yX2_areContractsApart : MethodName := ⟨RX2, "areContractsApart", "(I)Z"⟩
def dkwX2_areContractsApart_2 : List UInt8 := [167, 0, 4, 3, 96, 61, 132, 4, 1, 167, 255, 209, 28, 29, 160, 0, 7, 4, 167, 0, 4, 3, 172]
abbrev dktX2_areContractsApart_2 : List UInt8 := dkwX2_areContractsApart_2 ++ []
def dkwX2_areContractsApart_1 : List UInt8 := [186, 1, 40, 0, 0, 182, 1, 43, 96, 62, 28, 42, 27, 21, 4, 182, 0, 158, 153, 0, 7, 4]
abbrev dktX2_areContractsApart_1 : List UInt8 := dkwX2_areContractsApart_1 ++ dktX2_areContractsApart_2
def dkwX2_areContractsApart_0 : List UInt8 := [3, 61, 3, 62, 3, 54, 4, 21, 4, 16, 6, 162, 0, 46, 21, 4, 54, 5, 29, 42, 27, 21, 5]
abbrev dktX2_areContractsApart_0 : List UInt8 := dkwX2_areContractsApart_0 ++ dktX2_areContractsApart_1
theorem dksX2_areContractsApart_0 : cX2_areContractsApart.data.toList.drop 0 = dktX2_areContractsApart_0 := by decide +kernel
theorem dksX2_areContractsApart_1 : cX2_areContractsApart.data.toList.drop 23 = dktX2_areContractsApart_1 := dk_seg dksX2_areContractsApart_0 23 rfl rfl
theorem dksX2_areContractsApart_2 : cX2_areContractsApart.data.toList.drop 45 = dktX2_areContractsApart_2 := dk_seg dksX2_areContractsApart_1 22 rfl rfl
theorem dX2_areContractsApart_0 : decode cX2_areContractsApart 0 = .ok (.iconst 0, 1) := dk_3 (dk_at dksX2_areContractsApart_0 0 rfl rfl)
theorem dX2_areContractsApart_1 : decode cX2_areContractsApart 1 = .ok (.istore_n 2, 1) := dk_61 (dk_at dksX2_areContractsApart_0 1 rfl rfl)
theorem dX2_areContractsApart_2 : decode cX2_areContractsApart 2 = .ok (.iconst 0, 1) := dk_3 (dk_at dksX2_areContractsApart_0 2 rfl rfl)
theorem dX2_areContractsApart_3 : decode cX2_areContractsApart 3 = .ok (.istore_n 3, 1) := dk_62 (dk_at dksX2_areContractsApart_0 3 rfl rfl)
theorem dX2_areContractsApart_4 : decode cX2_areContractsApart 4 = .ok (.iconst 0, 1) := dk_3 (dk_at dksX2_areContractsApart_0 4 rfl rfl)
theorem dX2_areContractsApart_5 : decode cX2_areContractsApart 5 = .ok (.istore 4, 2) := dk_54 4 (dk_at dksX2_areContractsApart_0 5 rfl rfl)
theorem dX2_areContractsApart_7 : decode cX2_areContractsApart 7 = .ok (.iload 4, 2) := dk_21 4 (dk_at dksX2_areContractsApart_0 7 rfl rfl)
theorem dX2_areContractsApart_9 : decode cX2_areContractsApart 9 = .ok (.bipush 6, 2) := dk_16 6 (dk_at dksX2_areContractsApart_0 9 rfl rfl)
theorem dX2_areContractsApart_11 : decode cX2_areContractsApart 11 = .ok (.if_icmp .ge 46, 3) := dk_162 0 46 (dk_at dksX2_areContractsApart_0 11 rfl rfl)
theorem dX2_areContractsApart_14 : decode cX2_areContractsApart 14 = .ok (.iload 4, 2) := dk_21 4 (dk_at dksX2_areContractsApart_0 14 rfl rfl)
theorem dX2_areContractsApart_16 : decode cX2_areContractsApart 16 = .ok (.istore 5, 2) := dk_54 5 (dk_at dksX2_areContractsApart_0 16 rfl rfl)
theorem dX2_areContractsApart_18 : decode cX2_areContractsApart 18 = .ok (.iload_n 3, 1) := dk_29 (dk_at dksX2_areContractsApart_0 18 rfl rfl)
theorem dX2_areContractsApart_19 : decode cX2_areContractsApart 19 = .ok (.aload_n 0, 1) := dk_42 (dk_at dksX2_areContractsApart_0 19 rfl rfl)
theorem dX2_areContractsApart_20 : decode cX2_areContractsApart 20 = .ok (.iload_n 1, 1) := dk_27 (dk_at dksX2_areContractsApart_0 20 rfl rfl)
theorem dX2_areContractsApart_21 : decode cX2_areContractsApart 21 = .ok (.iload 5, 2) := dk_21 5 (dk_at dksX2_areContractsApart_0 21 rfl rfl)
theorem dX2_areContractsApart_23 : decode cX2_areContractsApart 23 = .ok (.invokedynamic 296, 5) := by decide +kernel
theorem dX2_areContractsApart_28 : decode cX2_areContractsApart 28 = .ok (.invokevirtual 299, 3) := dk_182 1 43 (dk_at dksX2_areContractsApart_1 5 rfl rfl)
theorem dX2_areContractsApart_31 : decode cX2_areContractsApart 31 = .ok (.iadd, 1) := dk_96 (dk_at dksX2_areContractsApart_1 8 rfl rfl)
theorem dX2_areContractsApart_32 : decode cX2_areContractsApart 32 = .ok (.istore_n 3, 1) := dk_62 (dk_at dksX2_areContractsApart_1 9 rfl rfl)
theorem dX2_areContractsApart_33 : decode cX2_areContractsApart 33 = .ok (.iload_n 2, 1) := dk_28 (dk_at dksX2_areContractsApart_1 10 rfl rfl)
theorem dX2_areContractsApart_34 : decode cX2_areContractsApart 34 = .ok (.aload_n 0, 1) := dk_42 (dk_at dksX2_areContractsApart_1 11 rfl rfl)
theorem dX2_areContractsApart_35 : decode cX2_areContractsApart 35 = .ok (.iload_n 1, 1) := dk_27 (dk_at dksX2_areContractsApart_1 12 rfl rfl)
theorem dX2_areContractsApart_36 : decode cX2_areContractsApart 36 = .ok (.iload 4, 2) := dk_21 4 (dk_at dksX2_areContractsApart_1 13 rfl rfl)
theorem dX2_areContractsApart_38 : decode cX2_areContractsApart 38 = .ok (.invokevirtual 158, 3) := dk_182 0 158 (dk_at dksX2_areContractsApart_1 15 rfl rfl)
theorem dX2_areContractsApart_41 : decode cX2_areContractsApart 41 = .ok (.ifCond .eq 7, 3) := dk_153 0 7 (dk_at dksX2_areContractsApart_1 18 rfl rfl)
theorem dX2_areContractsApart_44 : decode cX2_areContractsApart 44 = .ok (.iconst 1, 1) := dk_4 (dk_at dksX2_areContractsApart_1 21 rfl rfl)
theorem dX2_areContractsApart_45 : decode cX2_areContractsApart 45 = .ok (.goto 4, 3) := dk_167 0 4 (dk_at dksX2_areContractsApart_2 0 rfl rfl)
theorem dX2_areContractsApart_48 : decode cX2_areContractsApart 48 = .ok (.iconst 0, 1) := dk_3 (dk_at dksX2_areContractsApart_2 3 rfl rfl)
theorem dX2_areContractsApart_49 : decode cX2_areContractsApart 49 = .ok (.iadd, 1) := dk_96 (dk_at dksX2_areContractsApart_2 4 rfl rfl)
theorem dX2_areContractsApart_50 : decode cX2_areContractsApart 50 = .ok (.istore_n 2, 1) := dk_61 (dk_at dksX2_areContractsApart_2 5 rfl rfl)
theorem dX2_areContractsApart_51 : decode cX2_areContractsApart 51 = .ok (.iinc 4 1, 3) := dk_132 4 1 (dk_at dksX2_areContractsApart_2 6 rfl rfl)
theorem dX2_areContractsApart_54 : decode cX2_areContractsApart 54 = .ok (.goto (-47), 3) := dk_167 255 209 (dk_at dksX2_areContractsApart_2 9 rfl rfl)
theorem dX2_areContractsApart_57 : decode cX2_areContractsApart 57 = .ok (.iload_n 2, 1) := dk_28 (dk_at dksX2_areContractsApart_2 12 rfl rfl)
theorem dX2_areContractsApart_58 : decode cX2_areContractsApart 58 = .ok (.iload_n 3, 1) := dk_29 (dk_at dksX2_areContractsApart_2 13 rfl rfl)
theorem dX2_areContractsApart_59 : decode cX2_areContractsApart 59 = .ok (.if_icmp .ne 7, 3) := dk_160 0 7 (dk_at dksX2_areContractsApart_2 14 rfl rfl)
theorem dX2_areContractsApart_62 : decode cX2_areContractsApart 62 = .ok (.iconst 1, 1) := dk_4 (dk_at dksX2_areContractsApart_2 17 rfl rfl)
theorem dX2_areContractsApart_63 : decode cX2_areContractsApart 63 = .ok (.goto 4, 3) := dk_167 0 4 (dk_at dksX2_areContractsApart_2 18 rfl rfl)
theorem dX2_areContractsApart_66 : decode cX2_areContractsApart 66 = .ok (.iconst 0, 1) := dk_3 (dk_at dksX2_areContractsApart_2 21 rfl rfl)
theorem dX2_areContractsApart_67 : decode cX2_areContractsApart 67 = .ok (.ireturn, 1) := dk_172 (dk_at dksX2_areContractsApart_2 22 rfl rfl)
abbrev cX2_lambda_areContractsApart_0 : ByteArray := prog_18_method_46_code
def yX2_lambda_areContractsApart_0 : MethodName := ⟨RX2, "lambda$areContractsApart$0", "(IILGoblinHousehold$Contract;)I"⟩
def dkwX2_lambda_areContractsApart_0_0 : List UInt8 := [44, 180, 0, 149, 26, 160, 0, 15, 44, 180, 0, 152, 27, 160, 0, 7, 4, 167, 0, 4, 3, 172]
abbrev dktX2_lambda_areContractsApart_0_0 : List UInt8 := dkwX2_lambda_areContractsApart_0_0 ++ []
theorem dksX2_lambda_areContractsApart_0_0 : cX2_lambda_areContractsApart_0.data.toList.drop 0 = dktX2_lambda_areContractsApart_0_0 := by decide +kernel
theorem dX2_lambda_areContractsApart_0_0 : decode cX2_lambda_areContractsApart_0 0 = .ok (.aload_n 2, 1) := dk_44 (dk_at dksX2_lambda_areContractsApart_0_0 0 rfl rfl)
theorem dX2_lambda_areContractsApart_0_1 : decode cX2_lambda_areContractsApart_0 1 = .ok (.getfield 149, 3) := dk_180 0 149 (dk_at dksX2_lambda_areContractsApart_0_0 1 rfl rfl)
theorem dX2_lambda_areContractsApart_0_4 : decode cX2_lambda_areContractsApart_0 4 = .ok (.iload_n 0, 1) := dk_26 (dk_at dksX2_lambda_areContractsApart_0_0 4 rfl rfl)
theorem dX2_lambda_areContractsApart_0_5 : decode cX2_lambda_areContractsApart_0 5 = .ok (.if_icmp .ne 15, 3) := dk_160 0 15 (dk_at dksX2_lambda_areContractsApart_0_0 5 rfl rfl)
theorem dX2_lambda_areContractsApart_0_8 : decode cX2_lambda_areContractsApart_0 8 = .ok (.aload_n 2, 1) := dk_44 (dk_at dksX2_lambda_areContractsApart_0_0 8 rfl rfl)
theorem dX2_lambda_areContractsApart_0_9 : decode cX2_lambda_areContractsApart_0 9 = .ok (.getfield 152, 3) := dk_180 0 152 (dk_at dksX2_lambda_areContractsApart_0_0 9 rfl rfl)
theorem dX2_lambda_areContractsApart_0_12 : decode cX2_lambda_areContractsApart_0 12 = .ok (.iload_n 1, 1) := dk_27 (dk_at dksX2_lambda_areContractsApart_0_0 12 rfl rfl)
theorem dX2_lambda_areContractsApart_0_13 : decode cX2_lambda_areContractsApart_0 13 = .ok (.if_icmp .ne 7, 3) := dk_160 0 7 (dk_at dksX2_lambda_areContractsApart_0_0 13 rfl rfl)
theorem dX2_lambda_areContractsApart_0_16 : decode cX2_lambda_areContractsApart_0 16 = .ok (.iconst 1, 1) := dk_4 (dk_at dksX2_lambda_areContractsApart_0_0 16 rfl rfl)
theorem dX2_lambda_areContractsApart_0_17 : decode cX2_lambda_areContractsApart_0 17 = .ok (.goto 4, 3) := dk_167 0 4 (dk_at dksX2_lambda_areContractsApart_0_0 17 rfl rfl)
theorem dX2_lambda_areContractsApart_0_20 : decode cX2_lambda_areContractsApart_0 20 = .ok (.iconst 0, 1) := dk_3 (dk_at dksX2_lambda_areContractsApart_0_0 20 rfl rfl)
theorem dX2_lambda_areContractsApart_0_21 : decode cX2_lambda_areContractsApart_0 21 = .ok (.ireturn, 1) := dk_172 (dk_at dksX2_lambda_areContractsApart_0_0 21 rfl rfl)
abbrev cX2_sum : ByteArray := prog_18_method_41_code
def yX2_sum : MethodName := ⟨RX2, "sum", "(LGoblinHousehold$Question;)I"⟩
def dkwX2_sum_1 : List UInt8 := [185, 0, 49, 2, 0, 192, 0, 53, 185, 1, 34, 2, 0, 96, 61, 132, 3, 1, 167, 255, 218, 28, 172]
abbrev dktX2_sum_1 : List UInt8 := dkwX2_sum_1 ++ []
def dkwX2_sum_0 : List UInt8 := [3, 61, 3, 62, 29, 42, 180, 0, 25, 185, 0, 43, 1, 0, 162, 0, 31, 28, 43, 42, 180, 0, 25, 29]
abbrev dktX2_sum_0 : List UInt8 := dkwX2_sum_0 ++ dktX2_sum_1
theorem dksX2_sum_0 : cX2_sum.data.toList.drop 0 = dktX2_sum_0 := by decide +kernel
theorem dksX2_sum_1 : cX2_sum.data.toList.drop 24 = dktX2_sum_1 := dk_seg dksX2_sum_0 24 rfl rfl
theorem dX2_sum_0 : decode cX2_sum 0 = .ok (.iconst 0, 1) := dk_3 (dk_at dksX2_sum_0 0 rfl rfl)
theorem dX2_sum_1 : decode cX2_sum 1 = .ok (.istore_n 2, 1) := dk_61 (dk_at dksX2_sum_0 1 rfl rfl)
theorem dX2_sum_2 : decode cX2_sum 2 = .ok (.iconst 0, 1) := dk_3 (dk_at dksX2_sum_0 2 rfl rfl)
theorem dX2_sum_3 : decode cX2_sum 3 = .ok (.istore_n 3, 1) := dk_62 (dk_at dksX2_sum_0 3 rfl rfl)
theorem dX2_sum_4 : decode cX2_sum 4 = .ok (.iload_n 3, 1) := dk_29 (dk_at dksX2_sum_0 4 rfl rfl)
theorem dX2_sum_5 : decode cX2_sum 5 = .ok (.aload_n 0, 1) := dk_42 (dk_at dksX2_sum_0 5 rfl rfl)
theorem dX2_sum_6 : decode cX2_sum 6 = .ok (.getfield 25, 3) := dk_180 0 25 (dk_at dksX2_sum_0 6 rfl rfl)
theorem dX2_sum_9 : decode cX2_sum 9 = .ok (.invokeinterface 43 1, 5) := by decide +kernel
theorem dX2_sum_14 : decode cX2_sum 14 = .ok (.if_icmp .ge 31, 3) := dk_162 0 31 (dk_at dksX2_sum_0 14 rfl rfl)
theorem dX2_sum_17 : decode cX2_sum 17 = .ok (.iload_n 2, 1) := dk_28 (dk_at dksX2_sum_0 17 rfl rfl)
theorem dX2_sum_18 : decode cX2_sum 18 = .ok (.aload_n 1, 1) := dk_43 (dk_at dksX2_sum_0 18 rfl rfl)
theorem dX2_sum_19 : decode cX2_sum 19 = .ok (.aload_n 0, 1) := dk_42 (dk_at dksX2_sum_0 19 rfl rfl)
theorem dX2_sum_20 : decode cX2_sum 20 = .ok (.getfield 25, 3) := dk_180 0 25 (dk_at dksX2_sum_0 20 rfl rfl)
theorem dX2_sum_23 : decode cX2_sum 23 = .ok (.iload_n 3, 1) := dk_29 (dk_at dksX2_sum_0 23 rfl rfl)
theorem dX2_sum_24 : decode cX2_sum 24 = .ok (.invokeinterface 49 2, 5) := by decide +kernel
theorem dX2_sum_29 : decode cX2_sum 29 = .ok (.checkcast 53, 3) := dk_192 0 53 (dk_at dksX2_sum_1 5 rfl rfl)
theorem dX2_sum_32 : decode cX2_sum 32 = .ok (.invokeinterface 290 2, 5) := by decide +kernel
theorem dX2_sum_37 : decode cX2_sum 37 = .ok (.iadd, 1) := dk_96 (dk_at dksX2_sum_1 13 rfl rfl)
theorem dX2_sum_38 : decode cX2_sum 38 = .ok (.istore_n 2, 1) := dk_61 (dk_at dksX2_sum_1 14 rfl rfl)
theorem dX2_sum_39 : decode cX2_sum 39 = .ok (.iinc 3 1, 3) := dk_132 3 1 (dk_at dksX2_sum_1 15 rfl rfl)
theorem dX2_sum_42 : decode cX2_sum 42 = .ok (.goto (-38), 3) := dk_167 255 218 (dk_at dksX2_sum_1 18 rfl rfl)
theorem dX2_sum_45 : decode cX2_sum 45 = .ok (.iload_n 2, 1) := dk_28 (dk_at dksX2_sum_1 21 rfl rfl)
theorem dX2_sum_46 : decode cX2_sum 46 = .ok (.ireturn, 1) := dk_172 (dk_at dksX2_sum_1 22 rfl rfl)
abbrev cX2_hasContract : ByteArray := prog_18_method_14_code
def yX2_hasContract : MethodName := ⟨RX2, "hasContract", "(II)Z"⟩
def dkwX2_hasContract_3 : List UInt8 := [29, 172]
abbrev dktX2_hasContract_3 : List UInt8 := dkwX2_hasContract_3 ++ []
def dkwX2_hasContract_2 : List UInt8 := [160, 0, 16, 25, 5, 180, 0, 152, 28, 160, 0, 7, 4, 167, 0, 4, 3, 62, 132, 4, 1, 167, 255, 195]
abbrev dktX2_hasContract_2 : List UInt8 := dkwX2_hasContract_2 ++ dktX2_hasContract_3
def dkwX2_hasContract_1 : List UInt8 := [21, 4, 185, 0, 49, 2, 0, 192, 0, 53, 58, 5, 29, 154, 0, 21, 25, 5, 180, 0, 149, 27]
abbrev dktX2_hasContract_1 : List UInt8 := dkwX2_hasContract_1 ++ dktX2_hasContract_2
def dkwX2_hasContract_0 : List UInt8 := [3, 62, 3, 54, 4, 21, 4, 42, 180, 0, 25, 185, 0, 43, 1, 0, 162, 0, 53, 42, 180, 0, 25]
abbrev dktX2_hasContract_0 : List UInt8 := dkwX2_hasContract_0 ++ dktX2_hasContract_1
theorem dksX2_hasContract_0 : cX2_hasContract.data.toList.drop 0 = dktX2_hasContract_0 := by decide +kernel
theorem dksX2_hasContract_1 : cX2_hasContract.data.toList.drop 23 = dktX2_hasContract_1 := dk_seg dksX2_hasContract_0 23 rfl rfl
theorem dksX2_hasContract_2 : cX2_hasContract.data.toList.drop 45 = dktX2_hasContract_2 := dk_seg dksX2_hasContract_1 22 rfl rfl
theorem dksX2_hasContract_3 : cX2_hasContract.data.toList.drop 69 = dktX2_hasContract_3 := dk_seg dksX2_hasContract_2 24 rfl rfl
theorem dX2_hasContract_0 : decode cX2_hasContract 0 = .ok (.iconst 0, 1) := dk_3 (dk_at dksX2_hasContract_0 0 rfl rfl)
theorem dX2_hasContract_1 : decode cX2_hasContract 1 = .ok (.istore_n 3, 1) := dk_62 (dk_at dksX2_hasContract_0 1 rfl rfl)
theorem dX2_hasContract_2 : decode cX2_hasContract 2 = .ok (.iconst 0, 1) := dk_3 (dk_at dksX2_hasContract_0 2 rfl rfl)
theorem dX2_hasContract_3 : decode cX2_hasContract 3 = .ok (.istore 4, 2) := dk_54 4 (dk_at dksX2_hasContract_0 3 rfl rfl)
theorem dX2_hasContract_5 : decode cX2_hasContract 5 = .ok (.iload 4, 2) := dk_21 4 (dk_at dksX2_hasContract_0 5 rfl rfl)
theorem dX2_hasContract_7 : decode cX2_hasContract 7 = .ok (.aload_n 0, 1) := dk_42 (dk_at dksX2_hasContract_0 7 rfl rfl)
theorem dX2_hasContract_8 : decode cX2_hasContract 8 = .ok (.getfield 25, 3) := dk_180 0 25 (dk_at dksX2_hasContract_0 8 rfl rfl)
theorem dX2_hasContract_11 : decode cX2_hasContract 11 = .ok (.invokeinterface 43 1, 5) := by decide +kernel
theorem dX2_hasContract_16 : decode cX2_hasContract 16 = .ok (.if_icmp .ge 53, 3) := dk_162 0 53 (dk_at dksX2_hasContract_0 16 rfl rfl)
theorem dX2_hasContract_19 : decode cX2_hasContract 19 = .ok (.aload_n 0, 1) := dk_42 (dk_at dksX2_hasContract_0 19 rfl rfl)
theorem dX2_hasContract_20 : decode cX2_hasContract 20 = .ok (.getfield 25, 3) := dk_180 0 25 (dk_at dksX2_hasContract_0 20 rfl rfl)
theorem dX2_hasContract_23 : decode cX2_hasContract 23 = .ok (.iload 4, 2) := dk_21 4 (dk_at dksX2_hasContract_1 0 rfl rfl)
theorem dX2_hasContract_25 : decode cX2_hasContract 25 = .ok (.invokeinterface 49 2, 5) := by decide +kernel
theorem dX2_hasContract_30 : decode cX2_hasContract 30 = .ok (.checkcast 53, 3) := dk_192 0 53 (dk_at dksX2_hasContract_1 7 rfl rfl)
theorem dX2_hasContract_33 : decode cX2_hasContract 33 = .ok (.astore 5, 2) := dk_58 5 (dk_at dksX2_hasContract_1 10 rfl rfl)
theorem dX2_hasContract_35 : decode cX2_hasContract 35 = .ok (.iload_n 3, 1) := dk_29 (dk_at dksX2_hasContract_1 12 rfl rfl)
theorem dX2_hasContract_36 : decode cX2_hasContract 36 = .ok (.ifCond .ne 21, 3) := dk_154 0 21 (dk_at dksX2_hasContract_1 13 rfl rfl)
theorem dX2_hasContract_39 : decode cX2_hasContract 39 = .ok (.aload 5, 2) := dk_25 5 (dk_at dksX2_hasContract_1 16 rfl rfl)
theorem dX2_hasContract_41 : decode cX2_hasContract 41 = .ok (.getfield 149, 3) := dk_180 0 149 (dk_at dksX2_hasContract_1 18 rfl rfl)
theorem dX2_hasContract_44 : decode cX2_hasContract 44 = .ok (.iload_n 1, 1) := dk_27 (dk_at dksX2_hasContract_1 21 rfl rfl)
theorem dX2_hasContract_45 : decode cX2_hasContract 45 = .ok (.if_icmp .ne 16, 3) := dk_160 0 16 (dk_at dksX2_hasContract_2 0 rfl rfl)
theorem dX2_hasContract_48 : decode cX2_hasContract 48 = .ok (.aload 5, 2) := dk_25 5 (dk_at dksX2_hasContract_2 3 rfl rfl)
theorem dX2_hasContract_50 : decode cX2_hasContract 50 = .ok (.getfield 152, 3) := dk_180 0 152 (dk_at dksX2_hasContract_2 5 rfl rfl)
theorem dX2_hasContract_53 : decode cX2_hasContract 53 = .ok (.iload_n 2, 1) := dk_28 (dk_at dksX2_hasContract_2 8 rfl rfl)
theorem dX2_hasContract_54 : decode cX2_hasContract 54 = .ok (.if_icmp .ne 7, 3) := dk_160 0 7 (dk_at dksX2_hasContract_2 9 rfl rfl)
theorem dX2_hasContract_57 : decode cX2_hasContract 57 = .ok (.iconst 1, 1) := dk_4 (dk_at dksX2_hasContract_2 12 rfl rfl)
theorem dX2_hasContract_58 : decode cX2_hasContract 58 = .ok (.goto 4, 3) := dk_167 0 4 (dk_at dksX2_hasContract_2 13 rfl rfl)
theorem dX2_hasContract_61 : decode cX2_hasContract 61 = .ok (.iconst 0, 1) := dk_3 (dk_at dksX2_hasContract_2 16 rfl rfl)
theorem dX2_hasContract_62 : decode cX2_hasContract 62 = .ok (.istore_n 3, 1) := dk_62 (dk_at dksX2_hasContract_2 17 rfl rfl)
theorem dX2_hasContract_63 : decode cX2_hasContract 63 = .ok (.iinc 4 1, 3) := dk_132 4 1 (dk_at dksX2_hasContract_2 18 rfl rfl)
theorem dX2_hasContract_66 : decode cX2_hasContract 66 = .ok (.goto (-61), 3) := dk_167 255 195 (dk_at dksX2_hasContract_2 21 rfl rfl)
theorem dX2_hasContract_69 : decode cX2_hasContract 69 = .ok (.iload_n 3, 1) := dk_29 (dk_at dksX2_hasContract_3 0 rfl rfl)
theorem dX2_hasContract_70 : decode cX2_hasContract 70 = .ok (.ireturn, 1) := dk_172 (dk_at dksX2_hasContract_3 1 rfl rfl)
abbrev cX2_contractsText : ByteArray := prog_18_method_45_code
def yX2_contractsText : MethodName := ⟨RX2, "contractsText", "()Ljava/lang/String;"⟩
def dkwX2_contractsText_3 : List UInt8 := [182, 1, 77, 176]
abbrev dktX2_contractsText_3 : List UInt8 := dkwX2_contractsText_3 ++ []
def dkwX2_contractsText_2 : List UInt8 := [185, 0, 49, 2, 0, 192, 0, 53, 182, 1, 73, 182, 1, 69, 87, 132, 2, 1, 167, 255, 203, 43]
abbrev dktX2_contractsText_2 : List UInt8 := dkwX2_contractsText_2 ++ dktX2_contractsText_3
def dkwX2_contractsText_1 : List UInt8 := [28, 158, 0, 9, 19, 1, 65, 167, 0, 6, 19, 1, 67, 182, 1, 69, 42, 180, 0, 25, 28]
abbrev dktX2_contractsText_1 : List UInt8 := dkwX2_contractsText_1 ++ dktX2_contractsText_2
def dkwX2_contractsText_0 : List UInt8 := [187, 1, 62, 89, 183, 1, 64, 76, 3, 61, 28, 42, 180, 0, 25, 185, 0, 43, 1, 0, 162, 0, 46, 43]
abbrev dktX2_contractsText_0 : List UInt8 := dkwX2_contractsText_0 ++ dktX2_contractsText_1
theorem dksX2_contractsText_0 : cX2_contractsText.data.toList.drop 0 = dktX2_contractsText_0 := by decide +kernel
theorem dksX2_contractsText_1 : cX2_contractsText.data.toList.drop 24 = dktX2_contractsText_1 := dk_seg dksX2_contractsText_0 24 rfl rfl
theorem dksX2_contractsText_2 : cX2_contractsText.data.toList.drop 45 = dktX2_contractsText_2 := dk_seg dksX2_contractsText_1 21 rfl rfl
theorem dksX2_contractsText_3 : cX2_contractsText.data.toList.drop 67 = dktX2_contractsText_3 := dk_seg dksX2_contractsText_2 22 rfl rfl
theorem dX2_contractsText_0 : decode cX2_contractsText 0 = .ok (.new 318, 3) := dk_187 1 62 (dk_at dksX2_contractsText_0 0 rfl rfl)
theorem dX2_contractsText_3 : decode cX2_contractsText 3 = .ok (.dup, 1) := dk_89 (dk_at dksX2_contractsText_0 3 rfl rfl)
theorem dX2_contractsText_4 : decode cX2_contractsText 4 = .ok (.invokespecial 320, 3) := dk_183 1 64 (dk_at dksX2_contractsText_0 4 rfl rfl)
theorem dX2_contractsText_7 : decode cX2_contractsText 7 = .ok (.astore_n 1, 1) := dk_76 (dk_at dksX2_contractsText_0 7 rfl rfl)
theorem dX2_contractsText_8 : decode cX2_contractsText 8 = .ok (.iconst 0, 1) := dk_3 (dk_at dksX2_contractsText_0 8 rfl rfl)
theorem dX2_contractsText_9 : decode cX2_contractsText 9 = .ok (.istore_n 2, 1) := dk_61 (dk_at dksX2_contractsText_0 9 rfl rfl)
theorem dX2_contractsText_10 : decode cX2_contractsText 10 = .ok (.iload_n 2, 1) := dk_28 (dk_at dksX2_contractsText_0 10 rfl rfl)
theorem dX2_contractsText_11 : decode cX2_contractsText 11 = .ok (.aload_n 0, 1) := dk_42 (dk_at dksX2_contractsText_0 11 rfl rfl)
theorem dX2_contractsText_12 : decode cX2_contractsText 12 = .ok (.getfield 25, 3) := dk_180 0 25 (dk_at dksX2_contractsText_0 12 rfl rfl)
theorem dX2_contractsText_15 : decode cX2_contractsText 15 = .ok (.invokeinterface 43 1, 5) := by decide +kernel
theorem dX2_contractsText_20 : decode cX2_contractsText 20 = .ok (.if_icmp .ge 46, 3) := dk_162 0 46 (dk_at dksX2_contractsText_0 20 rfl rfl)
theorem dX2_contractsText_23 : decode cX2_contractsText 23 = .ok (.aload_n 1, 1) := dk_43 (dk_at dksX2_contractsText_0 23 rfl rfl)
theorem dX2_contractsText_24 : decode cX2_contractsText 24 = .ok (.iload_n 2, 1) := dk_28 (dk_at dksX2_contractsText_1 0 rfl rfl)
theorem dX2_contractsText_25 : decode cX2_contractsText 25 = .ok (.ifCond .le 9, 3) := dk_158 0 9 (dk_at dksX2_contractsText_1 1 rfl rfl)
theorem dX2_contractsText_28 : decode cX2_contractsText 28 = .ok (.ldc_w 321, 3) := dk_19 1 65 (dk_at dksX2_contractsText_1 4 rfl rfl)
theorem dX2_contractsText_31 : decode cX2_contractsText 31 = .ok (.goto 6, 3) := dk_167 0 6 (dk_at dksX2_contractsText_1 7 rfl rfl)
theorem dX2_contractsText_34 : decode cX2_contractsText 34 = .ok (.ldc_w 323, 3) := dk_19 1 67 (dk_at dksX2_contractsText_1 10 rfl rfl)
theorem dX2_contractsText_37 : decode cX2_contractsText 37 = .ok (.invokevirtual 325, 3) := dk_182 1 69 (dk_at dksX2_contractsText_1 13 rfl rfl)
theorem dX2_contractsText_40 : decode cX2_contractsText 40 = .ok (.aload_n 0, 1) := dk_42 (dk_at dksX2_contractsText_1 16 rfl rfl)
theorem dX2_contractsText_41 : decode cX2_contractsText 41 = .ok (.getfield 25, 3) := dk_180 0 25 (dk_at dksX2_contractsText_1 17 rfl rfl)
theorem dX2_contractsText_44 : decode cX2_contractsText 44 = .ok (.iload_n 2, 1) := dk_28 (dk_at dksX2_contractsText_1 20 rfl rfl)
theorem dX2_contractsText_45 : decode cX2_contractsText 45 = .ok (.invokeinterface 49 2, 5) := by decide +kernel
theorem dX2_contractsText_50 : decode cX2_contractsText 50 = .ok (.checkcast 53, 3) := dk_192 0 53 (dk_at dksX2_contractsText_2 5 rfl rfl)
theorem dX2_contractsText_53 : decode cX2_contractsText 53 = .ok (.invokevirtual 329, 3) := dk_182 1 73 (dk_at dksX2_contractsText_2 8 rfl rfl)
theorem dX2_contractsText_56 : decode cX2_contractsText 56 = .ok (.invokevirtual 325, 3) := dk_182 1 69 (dk_at dksX2_contractsText_2 11 rfl rfl)
theorem dX2_contractsText_59 : decode cX2_contractsText 59 = .ok (.pop, 1) := dk_87 (dk_at dksX2_contractsText_2 14 rfl rfl)
theorem dX2_contractsText_60 : decode cX2_contractsText 60 = .ok (.iinc 2 1, 3) := dk_132 2 1 (dk_at dksX2_contractsText_2 15 rfl rfl)
theorem dX2_contractsText_63 : decode cX2_contractsText 63 = .ok (.goto (-53), 3) := dk_167 255 203 (dk_at dksX2_contractsText_2 18 rfl rfl)
theorem dX2_contractsText_66 : decode cX2_contractsText 66 = .ok (.aload_n 1, 1) := dk_43 (dk_at dksX2_contractsText_2 21 rfl rfl)
theorem dX2_contractsText_67 : decode cX2_contractsText 67 = .ok (.invokevirtual 333, 3) := dk_182 1 77 (dk_at dksX2_contractsText_3 0 rfl rfl)
theorem dX2_contractsText_70 : decode cX2_contractsText 70 = .ok (.areturn, 1) := dk_176 (dk_at dksX2_contractsText_3 3 rfl rfl)
abbrev cX2_addGoblin : ByteArray := prog_18_method_9_code
def yX2_addGoblin : MethodName := ⟨RX2, "addGoblin", "(I)I"⟩
def dkwX2_addGoblin_3 : List UInt8 := [185, 0, 43, 1, 0, 4, 100, 172]
abbrev dktX2_addGoblin_3 : List UInt8 := dkwX2_addGoblin_3 ++ []
def dkwX2_addGoblin_2 : List UInt8 := [180, 0, 22, 185, 0, 43, 1, 0, 27, 183, 0, 121, 185, 0, 55, 2, 0, 87, 42, 180, 0, 22]
abbrev dktX2_addGoblin_2 : List UInt8 := dkwX2_addGoblin_2 ++ dktX2_addGoblin_3
def dkwX2_addGoblin_1 : List UInt8 := [162, 0, 7, 4, 167, 0, 4, 3, 18, 119, 184, 0, 115, 42, 180, 0, 22, 187, 0, 106, 89, 42]
abbrev dktX2_addGoblin_1 : List UInt8 := dkwX2_addGoblin_1 ++ dktX2_addGoblin_2
def dkwX2_addGoblin_0 : List UInt8 := [27, 4, 16, 9, 184, 0, 83, 18, 113, 184, 0, 115, 42, 180, 0, 22, 185, 0, 43, 1, 0, 8]
abbrev dktX2_addGoblin_0 : List UInt8 := dkwX2_addGoblin_0 ++ dktX2_addGoblin_1
theorem dksX2_addGoblin_0 : cX2_addGoblin.data.toList.drop 0 = dktX2_addGoblin_0 := by decide +kernel
theorem dksX2_addGoblin_1 : cX2_addGoblin.data.toList.drop 22 = dktX2_addGoblin_1 := dk_seg dksX2_addGoblin_0 22 rfl rfl
theorem dksX2_addGoblin_2 : cX2_addGoblin.data.toList.drop 44 = dktX2_addGoblin_2 := dk_seg dksX2_addGoblin_1 22 rfl rfl
theorem dksX2_addGoblin_3 : cX2_addGoblin.data.toList.drop 66 = dktX2_addGoblin_3 := dk_seg dksX2_addGoblin_2 22 rfl rfl
theorem dX2_addGoblin_0 : decode cX2_addGoblin 0 = .ok (.iload_n 1, 1) := dk_27 (dk_at dksX2_addGoblin_0 0 rfl rfl)
theorem dX2_addGoblin_1 : decode cX2_addGoblin 1 = .ok (.iconst 1, 1) := dk_4 (dk_at dksX2_addGoblin_0 1 rfl rfl)
theorem dX2_addGoblin_2 : decode cX2_addGoblin 2 = .ok (.bipush 9, 2) := dk_16 9 (dk_at dksX2_addGoblin_0 2 rfl rfl)
theorem dX2_addGoblin_4 : decode cX2_addGoblin 4 = .ok (.invokestatic 83, 3) := dk_184 0 83 (dk_at dksX2_addGoblin_0 4 rfl rfl)
theorem dX2_addGoblin_7 : decode cX2_addGoblin 7 = .ok (.ldc 113, 2) := dk_18 113 (dk_at dksX2_addGoblin_0 7 rfl rfl)
theorem dX2_addGoblin_9 : decode cX2_addGoblin 9 = .ok (.invokestatic 115, 3) := dk_184 0 115 (dk_at dksX2_addGoblin_0 9 rfl rfl)
theorem dX2_addGoblin_12 : decode cX2_addGoblin 12 = .ok (.aload_n 0, 1) := dk_42 (dk_at dksX2_addGoblin_0 12 rfl rfl)
theorem dX2_addGoblin_13 : decode cX2_addGoblin 13 = .ok (.getfield 22, 3) := dk_180 0 22 (dk_at dksX2_addGoblin_0 13 rfl rfl)
theorem dX2_addGoblin_16 : decode cX2_addGoblin 16 = .ok (.invokeinterface 43 1, 5) := by decide +kernel
theorem dX2_addGoblin_21 : decode cX2_addGoblin 21 = .ok (.iconst 5, 1) := dk_8 (dk_at dksX2_addGoblin_0 21 rfl rfl)
theorem dX2_addGoblin_22 : decode cX2_addGoblin 22 = .ok (.if_icmp .ge 7, 3) := dk_162 0 7 (dk_at dksX2_addGoblin_1 0 rfl rfl)
theorem dX2_addGoblin_25 : decode cX2_addGoblin 25 = .ok (.iconst 1, 1) := dk_4 (dk_at dksX2_addGoblin_1 3 rfl rfl)
theorem dX2_addGoblin_26 : decode cX2_addGoblin 26 = .ok (.goto 4, 3) := dk_167 0 4 (dk_at dksX2_addGoblin_1 4 rfl rfl)
theorem dX2_addGoblin_29 : decode cX2_addGoblin 29 = .ok (.iconst 0, 1) := dk_3 (dk_at dksX2_addGoblin_1 7 rfl rfl)
theorem dX2_addGoblin_30 : decode cX2_addGoblin 30 = .ok (.ldc 119, 2) := dk_18 119 (dk_at dksX2_addGoblin_1 8 rfl rfl)
theorem dX2_addGoblin_32 : decode cX2_addGoblin 32 = .ok (.invokestatic 115, 3) := dk_184 0 115 (dk_at dksX2_addGoblin_1 10 rfl rfl)
theorem dX2_addGoblin_35 : decode cX2_addGoblin 35 = .ok (.aload_n 0, 1) := dk_42 (dk_at dksX2_addGoblin_1 13 rfl rfl)
theorem dX2_addGoblin_36 : decode cX2_addGoblin 36 = .ok (.getfield 22, 3) := dk_180 0 22 (dk_at dksX2_addGoblin_1 14 rfl rfl)
theorem dX2_addGoblin_39 : decode cX2_addGoblin 39 = .ok (.new 106, 3) := dk_187 0 106 (dk_at dksX2_addGoblin_1 17 rfl rfl)
theorem dX2_addGoblin_42 : decode cX2_addGoblin 42 = .ok (.dup, 1) := dk_89 (dk_at dksX2_addGoblin_1 20 rfl rfl)
theorem dX2_addGoblin_43 : decode cX2_addGoblin 43 = .ok (.aload_n 0, 1) := dk_42 (dk_at dksX2_addGoblin_1 21 rfl rfl)
theorem dX2_addGoblin_44 : decode cX2_addGoblin 44 = .ok (.getfield 22, 3) := dk_180 0 22 (dk_at dksX2_addGoblin_2 0 rfl rfl)
theorem dX2_addGoblin_47 : decode cX2_addGoblin 47 = .ok (.invokeinterface 43 1, 5) := by decide +kernel
theorem dX2_addGoblin_52 : decode cX2_addGoblin 52 = .ok (.iload_n 1, 1) := dk_27 (dk_at dksX2_addGoblin_2 8 rfl rfl)
theorem dX2_addGoblin_53 : decode cX2_addGoblin 53 = .ok (.invokespecial 121, 3) := dk_183 0 121 (dk_at dksX2_addGoblin_2 9 rfl rfl)
theorem dX2_addGoblin_56 : decode cX2_addGoblin 56 = .ok (.invokeinterface 55 2, 5) := by decide +kernel
theorem dX2_addGoblin_61 : decode cX2_addGoblin 61 = .ok (.pop, 1) := dk_87 (dk_at dksX2_addGoblin_2 17 rfl rfl)
theorem dX2_addGoblin_62 : decode cX2_addGoblin 62 = .ok (.aload_n 0, 1) := dk_42 (dk_at dksX2_addGoblin_2 18 rfl rfl)
theorem dX2_addGoblin_63 : decode cX2_addGoblin 63 = .ok (.getfield 22, 3) := dk_180 0 22 (dk_at dksX2_addGoblin_2 19 rfl rfl)
theorem dX2_addGoblin_66 : decode cX2_addGoblin 66 = .ok (.invokeinterface 43 1, 5) := by decide +kernel
theorem dX2_addGoblin_71 : decode cX2_addGoblin 71 = .ok (.iconst 1, 1) := dk_4 (dk_at dksX2_addGoblin_3 5 rfl rfl)
theorem dX2_addGoblin_72 : decode cX2_addGoblin 72 = .ok (.isub, 1) := dk_100 (dk_at dksX2_addGoblin_3 6 rfl rfl)
theorem dX2_addGoblin_73 : decode cX2_addGoblin 73 = .ok (.ireturn, 1) := dk_172 (dk_at dksX2_addGoblin_3 7 rfl rfl)
abbrev cX2_copy : ByteArray := prog_18_method_2_code
def yX2_copy : MethodName := ⟨RX2, "copy", "()LGoblinHousehold$Household;"⟩
def dkwX2_copy_6 : List UInt8 := [180, 0, 74, 181, 0, 74, 43, 42, 180, 0, 77, 181, 0, 77, 43, 42, 180, 0, 80, 181, 0, 80, 43, 176]
abbrev dktX2_copy_6 : List UInt8 := dkwX2_copy_6 ++ []
def dkwX2_copy_5 : List UInt8 := [180, 0, 65, 181, 0, 65, 43, 42, 180, 0, 68, 181, 0, 68, 43, 42, 180, 0, 71, 181, 0, 71, 43, 42]
abbrev dktX2_copy_5 : List UInt8 := dkwX2_copy_5 ++ dktX2_copy_6
def dkwX2_copy_4 : List UInt8 := [180, 0, 59, 181, 0, 59, 43, 42, 180, 0, 28, 181, 0, 28, 43, 42, 180, 0, 62, 181, 0, 62, 43, 42]
abbrev dktX2_copy_4 : List UInt8 := dkwX2_copy_4 ++ dktX2_copy_5
def dkwX2_copy_3 : List UInt8 := [185, 0, 49, 2, 0, 192, 0, 53, 185, 0, 55, 2, 0, 87, 132, 2, 1, 167, 255, 217, 43, 42]
abbrev dktX2_copy_3 : List UInt8 := dkwX2_copy_3 ++ dktX2_copy_4
def dkwX2_copy_2 : List UInt8 := [42, 180, 0, 25, 185, 0, 43, 1, 0, 162, 0, 32, 43, 180, 0, 25, 42, 180, 0, 25, 28]
abbrev dktX2_copy_2 : List UInt8 := dkwX2_copy_2 ++ dktX2_copy_3
def dkwX2_copy_1 : List UInt8 := [180, 0, 18, 43, 180, 0, 18, 184, 0, 39, 42, 180, 0, 22, 43, 180, 0, 22, 184, 0, 39, 3, 61, 28]
abbrev dktX2_copy_1 : List UInt8 := dkwX2_copy_1 ++ dktX2_copy_2
def dkwX2_copy_0 : List UInt8 := [187, 0, 10, 89, 183, 0, 32, 76, 42, 180, 0, 9, 3, 43, 180, 0, 9, 3, 16, 6, 184, 0, 33, 42]
abbrev dktX2_copy_0 : List UInt8 := dkwX2_copy_0 ++ dktX2_copy_1
theorem dksX2_copy_0 : cX2_copy.data.toList.drop 0 = dktX2_copy_0 := by decide +kernel
theorem dksX2_copy_1 : cX2_copy.data.toList.drop 24 = dktX2_copy_1 := dk_seg dksX2_copy_0 24 rfl rfl
theorem dksX2_copy_2 : cX2_copy.data.toList.drop 48 = dktX2_copy_2 := dk_seg dksX2_copy_1 24 rfl rfl
theorem dksX2_copy_3 : cX2_copy.data.toList.drop 69 = dktX2_copy_3 := dk_seg dksX2_copy_2 21 rfl rfl
theorem dksX2_copy_4 : cX2_copy.data.toList.drop 91 = dktX2_copy_4 := dk_seg dksX2_copy_3 22 rfl rfl
theorem dksX2_copy_5 : cX2_copy.data.toList.drop 115 = dktX2_copy_5 := dk_seg dksX2_copy_4 24 rfl rfl
theorem dksX2_copy_6 : cX2_copy.data.toList.drop 139 = dktX2_copy_6 := dk_seg dksX2_copy_5 24 rfl rfl
theorem dX2_copy_0 : decode cX2_copy 0 = .ok (.new 10, 3) := dk_187 0 10 (dk_at dksX2_copy_0 0 rfl rfl)
theorem dX2_copy_3 : decode cX2_copy 3 = .ok (.dup, 1) := dk_89 (dk_at dksX2_copy_0 3 rfl rfl)
theorem dX2_copy_4 : decode cX2_copy 4 = .ok (.invokespecial 32, 3) := dk_183 0 32 (dk_at dksX2_copy_0 4 rfl rfl)
theorem dX2_copy_7 : decode cX2_copy 7 = .ok (.astore_n 1, 1) := dk_76 (dk_at dksX2_copy_0 7 rfl rfl)
theorem dX2_copy_8 : decode cX2_copy 8 = .ok (.aload_n 0, 1) := dk_42 (dk_at dksX2_copy_0 8 rfl rfl)
theorem dX2_copy_9 : decode cX2_copy 9 = .ok (.getfield 9, 3) := dk_180 0 9 (dk_at dksX2_copy_0 9 rfl rfl)
theorem dX2_copy_12 : decode cX2_copy 12 = .ok (.iconst 0, 1) := dk_3 (dk_at dksX2_copy_0 12 rfl rfl)
theorem dX2_copy_13 : decode cX2_copy 13 = .ok (.aload_n 1, 1) := dk_43 (dk_at dksX2_copy_0 13 rfl rfl)
theorem dX2_copy_14 : decode cX2_copy 14 = .ok (.getfield 9, 3) := dk_180 0 9 (dk_at dksX2_copy_0 14 rfl rfl)
theorem dX2_copy_17 : decode cX2_copy 17 = .ok (.iconst 0, 1) := dk_3 (dk_at dksX2_copy_0 17 rfl rfl)
theorem dX2_copy_18 : decode cX2_copy 18 = .ok (.bipush 6, 2) := dk_16 6 (dk_at dksX2_copy_0 18 rfl rfl)
theorem dX2_copy_20 : decode cX2_copy 20 = .ok (.invokestatic 33, 3) := dk_184 0 33 (dk_at dksX2_copy_0 20 rfl rfl)
theorem dX2_copy_23 : decode cX2_copy 23 = .ok (.aload_n 0, 1) := dk_42 (dk_at dksX2_copy_0 23 rfl rfl)
theorem dX2_copy_24 : decode cX2_copy 24 = .ok (.getfield 18, 3) := dk_180 0 18 (dk_at dksX2_copy_1 0 rfl rfl)
theorem dX2_copy_27 : decode cX2_copy 27 = .ok (.aload_n 1, 1) := dk_43 (dk_at dksX2_copy_1 3 rfl rfl)
theorem dX2_copy_28 : decode cX2_copy 28 = .ok (.getfield 18, 3) := dk_180 0 18 (dk_at dksX2_copy_1 4 rfl rfl)
theorem dX2_copy_31 : decode cX2_copy 31 = .ok (.invokestatic 39, 3) := dk_184 0 39 (dk_at dksX2_copy_1 7 rfl rfl)
theorem dX2_copy_34 : decode cX2_copy 34 = .ok (.aload_n 0, 1) := dk_42 (dk_at dksX2_copy_1 10 rfl rfl)
theorem dX2_copy_35 : decode cX2_copy 35 = .ok (.getfield 22, 3) := dk_180 0 22 (dk_at dksX2_copy_1 11 rfl rfl)
theorem dX2_copy_38 : decode cX2_copy 38 = .ok (.aload_n 1, 1) := dk_43 (dk_at dksX2_copy_1 14 rfl rfl)
theorem dX2_copy_39 : decode cX2_copy 39 = .ok (.getfield 22, 3) := dk_180 0 22 (dk_at dksX2_copy_1 15 rfl rfl)
theorem dX2_copy_42 : decode cX2_copy 42 = .ok (.invokestatic 39, 3) := dk_184 0 39 (dk_at dksX2_copy_1 18 rfl rfl)
theorem dX2_copy_45 : decode cX2_copy 45 = .ok (.iconst 0, 1) := dk_3 (dk_at dksX2_copy_1 21 rfl rfl)
theorem dX2_copy_46 : decode cX2_copy 46 = .ok (.istore_n 2, 1) := dk_61 (dk_at dksX2_copy_1 22 rfl rfl)
theorem dX2_copy_47 : decode cX2_copy 47 = .ok (.iload_n 2, 1) := dk_28 (dk_at dksX2_copy_1 23 rfl rfl)
theorem dX2_copy_48 : decode cX2_copy 48 = .ok (.aload_n 0, 1) := dk_42 (dk_at dksX2_copy_2 0 rfl rfl)
theorem dX2_copy_49 : decode cX2_copy 49 = .ok (.getfield 25, 3) := dk_180 0 25 (dk_at dksX2_copy_2 1 rfl rfl)
theorem dX2_copy_52 : decode cX2_copy 52 = .ok (.invokeinterface 43 1, 5) := by decide +kernel
theorem dX2_copy_57 : decode cX2_copy 57 = .ok (.if_icmp .ge 32, 3) := dk_162 0 32 (dk_at dksX2_copy_2 9 rfl rfl)
theorem dX2_copy_60 : decode cX2_copy 60 = .ok (.aload_n 1, 1) := dk_43 (dk_at dksX2_copy_2 12 rfl rfl)
theorem dX2_copy_61 : decode cX2_copy 61 = .ok (.getfield 25, 3) := dk_180 0 25 (dk_at dksX2_copy_2 13 rfl rfl)
theorem dX2_copy_64 : decode cX2_copy 64 = .ok (.aload_n 0, 1) := dk_42 (dk_at dksX2_copy_2 16 rfl rfl)
theorem dX2_copy_65 : decode cX2_copy 65 = .ok (.getfield 25, 3) := dk_180 0 25 (dk_at dksX2_copy_2 17 rfl rfl)
theorem dX2_copy_68 : decode cX2_copy 68 = .ok (.iload_n 2, 1) := dk_28 (dk_at dksX2_copy_2 20 rfl rfl)
theorem dX2_copy_69 : decode cX2_copy 69 = .ok (.invokeinterface 49 2, 5) := by decide +kernel
theorem dX2_copy_74 : decode cX2_copy 74 = .ok (.checkcast 53, 3) := dk_192 0 53 (dk_at dksX2_copy_3 5 rfl rfl)
theorem dX2_copy_77 : decode cX2_copy 77 = .ok (.invokeinterface 55 2, 5) := by decide +kernel
theorem dX2_copy_82 : decode cX2_copy 82 = .ok (.pop, 1) := dk_87 (dk_at dksX2_copy_3 13 rfl rfl)
theorem dX2_copy_83 : decode cX2_copy 83 = .ok (.iinc 2 1, 3) := dk_132 2 1 (dk_at dksX2_copy_3 14 rfl rfl)
theorem dX2_copy_86 : decode cX2_copy 86 = .ok (.goto (-39), 3) := dk_167 255 217 (dk_at dksX2_copy_3 17 rfl rfl)
theorem dX2_copy_89 : decode cX2_copy 89 = .ok (.aload_n 1, 1) := dk_43 (dk_at dksX2_copy_3 20 rfl rfl)
theorem dX2_copy_90 : decode cX2_copy 90 = .ok (.aload_n 0, 1) := dk_42 (dk_at dksX2_copy_3 21 rfl rfl)
theorem dX2_copy_91 : decode cX2_copy 91 = .ok (.getfield 59, 3) := dk_180 0 59 (dk_at dksX2_copy_4 0 rfl rfl)
theorem dX2_copy_94 : decode cX2_copy 94 = .ok (.putfield 59, 3) := dk_181 0 59 (dk_at dksX2_copy_4 3 rfl rfl)
theorem dX2_copy_97 : decode cX2_copy 97 = .ok (.aload_n 1, 1) := dk_43 (dk_at dksX2_copy_4 6 rfl rfl)
theorem dX2_copy_98 : decode cX2_copy 98 = .ok (.aload_n 0, 1) := dk_42 (dk_at dksX2_copy_4 7 rfl rfl)
theorem dX2_copy_99 : decode cX2_copy 99 = .ok (.getfield 28, 3) := dk_180 0 28 (dk_at dksX2_copy_4 8 rfl rfl)
theorem dX2_copy_102 : decode cX2_copy 102 = .ok (.putfield 28, 3) := dk_181 0 28 (dk_at dksX2_copy_4 11 rfl rfl)
theorem dX2_copy_105 : decode cX2_copy 105 = .ok (.aload_n 1, 1) := dk_43 (dk_at dksX2_copy_4 14 rfl rfl)
theorem dX2_copy_106 : decode cX2_copy 106 = .ok (.aload_n 0, 1) := dk_42 (dk_at dksX2_copy_4 15 rfl rfl)
theorem dX2_copy_107 : decode cX2_copy 107 = .ok (.getfield 62, 3) := dk_180 0 62 (dk_at dksX2_copy_4 16 rfl rfl)
theorem dX2_copy_110 : decode cX2_copy 110 = .ok (.putfield 62, 3) := dk_181 0 62 (dk_at dksX2_copy_4 19 rfl rfl)
theorem dX2_copy_113 : decode cX2_copy 113 = .ok (.aload_n 1, 1) := dk_43 (dk_at dksX2_copy_4 22 rfl rfl)
theorem dX2_copy_114 : decode cX2_copy 114 = .ok (.aload_n 0, 1) := dk_42 (dk_at dksX2_copy_4 23 rfl rfl)
theorem dX2_copy_115 : decode cX2_copy 115 = .ok (.getfield 65, 3) := dk_180 0 65 (dk_at dksX2_copy_5 0 rfl rfl)
theorem dX2_copy_118 : decode cX2_copy 118 = .ok (.putfield 65, 3) := dk_181 0 65 (dk_at dksX2_copy_5 3 rfl rfl)
theorem dX2_copy_121 : decode cX2_copy 121 = .ok (.aload_n 1, 1) := dk_43 (dk_at dksX2_copy_5 6 rfl rfl)
theorem dX2_copy_122 : decode cX2_copy 122 = .ok (.aload_n 0, 1) := dk_42 (dk_at dksX2_copy_5 7 rfl rfl)
theorem dX2_copy_123 : decode cX2_copy 123 = .ok (.getfield 68, 3) := dk_180 0 68 (dk_at dksX2_copy_5 8 rfl rfl)
theorem dX2_copy_126 : decode cX2_copy 126 = .ok (.putfield 68, 3) := dk_181 0 68 (dk_at dksX2_copy_5 11 rfl rfl)
theorem dX2_copy_129 : decode cX2_copy 129 = .ok (.aload_n 1, 1) := dk_43 (dk_at dksX2_copy_5 14 rfl rfl)
theorem dX2_copy_130 : decode cX2_copy 130 = .ok (.aload_n 0, 1) := dk_42 (dk_at dksX2_copy_5 15 rfl rfl)
theorem dX2_copy_131 : decode cX2_copy 131 = .ok (.getfield 71, 3) := dk_180 0 71 (dk_at dksX2_copy_5 16 rfl rfl)
theorem dX2_copy_134 : decode cX2_copy 134 = .ok (.putfield 71, 3) := dk_181 0 71 (dk_at dksX2_copy_5 19 rfl rfl)
theorem dX2_copy_137 : decode cX2_copy 137 = .ok (.aload_n 1, 1) := dk_43 (dk_at dksX2_copy_5 22 rfl rfl)
theorem dX2_copy_138 : decode cX2_copy 138 = .ok (.aload_n 0, 1) := dk_42 (dk_at dksX2_copy_5 23 rfl rfl)
theorem dX2_copy_139 : decode cX2_copy 139 = .ok (.getfield 74, 3) := dk_180 0 74 (dk_at dksX2_copy_6 0 rfl rfl)
theorem dX2_copy_142 : decode cX2_copy 142 = .ok (.putfield 74, 3) := dk_181 0 74 (dk_at dksX2_copy_6 3 rfl rfl)
theorem dX2_copy_145 : decode cX2_copy 145 = .ok (.aload_n 1, 1) := dk_43 (dk_at dksX2_copy_6 6 rfl rfl)
theorem dX2_copy_146 : decode cX2_copy 146 = .ok (.aload_n 0, 1) := dk_42 (dk_at dksX2_copy_6 7 rfl rfl)
theorem dX2_copy_147 : decode cX2_copy 147 = .ok (.getfield 77, 3) := dk_180 0 77 (dk_at dksX2_copy_6 8 rfl rfl)
theorem dX2_copy_150 : decode cX2_copy 150 = .ok (.putfield 77, 3) := dk_181 0 77 (dk_at dksX2_copy_6 11 rfl rfl)
theorem dX2_copy_153 : decode cX2_copy 153 = .ok (.aload_n 1, 1) := dk_43 (dk_at dksX2_copy_6 14 rfl rfl)
theorem dX2_copy_154 : decode cX2_copy 154 = .ok (.aload_n 0, 1) := dk_42 (dk_at dksX2_copy_6 15 rfl rfl)
theorem dX2_copy_155 : decode cX2_copy 155 = .ok (.getfield 80, 3) := dk_180 0 80 (dk_at dksX2_copy_6 16 rfl rfl)
theorem dX2_copy_158 : decode cX2_copy 158 = .ok (.putfield 80, 3) := dk_181 0 80 (dk_at dksX2_copy_6 19 rfl rfl)
theorem dX2_copy_161 : decode cX2_copy 161 = .ok (.aload_n 1, 1) := dk_43 (dk_at dksX2_copy_6 22 rfl rfl)
theorem dX2_copy_162 : decode cX2_copy 162 = .ok (.areturn, 1) := dk_176 (dk_at dksX2_copy_6 23 rfl rfl)
abbrev cX2_addBroom : ByteArray := prog_18_method_10_code
def yX2_addBroom : MethodName := ⟨RX2, "addBroom", "(I)I"⟩
def dkwX2_addBroom_2 : List UInt8 := [183, 0, 124, 185, 0, 55, 2, 0, 87, 42, 180, 0, 18, 185, 0, 43, 1, 0, 4, 100, 172]
abbrev dktX2_addBroom_2 : List UInt8 := dkwX2_addBroom_2 ++ []
def dkwX2_addBroom_1 : List UInt8 := [162, 0, 7, 4, 167, 0, 4, 3, 18, 119, 184, 0, 115, 42, 180, 0, 18, 187, 0, 90, 89, 27]
abbrev dktX2_addBroom_1 : List UInt8 := dkwX2_addBroom_1 ++ dktX2_addBroom_2
def dkwX2_addBroom_0 : List UInt8 := [27, 4, 16, 20, 184, 0, 83, 18, 113, 184, 0, 115, 42, 180, 0, 18, 185, 0, 43, 1, 0, 7]
abbrev dktX2_addBroom_0 : List UInt8 := dkwX2_addBroom_0 ++ dktX2_addBroom_1
theorem dksX2_addBroom_0 : cX2_addBroom.data.toList.drop 0 = dktX2_addBroom_0 := by decide +kernel
theorem dksX2_addBroom_1 : cX2_addBroom.data.toList.drop 22 = dktX2_addBroom_1 := dk_seg dksX2_addBroom_0 22 rfl rfl
theorem dksX2_addBroom_2 : cX2_addBroom.data.toList.drop 44 = dktX2_addBroom_2 := dk_seg dksX2_addBroom_1 22 rfl rfl
theorem dX2_addBroom_0 : decode cX2_addBroom 0 = .ok (.iload_n 1, 1) := dk_27 (dk_at dksX2_addBroom_0 0 rfl rfl)
theorem dX2_addBroom_1 : decode cX2_addBroom 1 = .ok (.iconst 1, 1) := dk_4 (dk_at dksX2_addBroom_0 1 rfl rfl)
theorem dX2_addBroom_2 : decode cX2_addBroom 2 = .ok (.bipush 20, 2) := dk_16 20 (dk_at dksX2_addBroom_0 2 rfl rfl)
theorem dX2_addBroom_4 : decode cX2_addBroom 4 = .ok (.invokestatic 83, 3) := dk_184 0 83 (dk_at dksX2_addBroom_0 4 rfl rfl)
theorem dX2_addBroom_7 : decode cX2_addBroom 7 = .ok (.ldc 113, 2) := dk_18 113 (dk_at dksX2_addBroom_0 7 rfl rfl)
theorem dX2_addBroom_9 : decode cX2_addBroom 9 = .ok (.invokestatic 115, 3) := dk_184 0 115 (dk_at dksX2_addBroom_0 9 rfl rfl)
theorem dX2_addBroom_12 : decode cX2_addBroom 12 = .ok (.aload_n 0, 1) := dk_42 (dk_at dksX2_addBroom_0 12 rfl rfl)
theorem dX2_addBroom_13 : decode cX2_addBroom 13 = .ok (.getfield 18, 3) := dk_180 0 18 (dk_at dksX2_addBroom_0 13 rfl rfl)
theorem dX2_addBroom_16 : decode cX2_addBroom 16 = .ok (.invokeinterface 43 1, 5) := by decide +kernel
theorem dX2_addBroom_21 : decode cX2_addBroom 21 = .ok (.iconst 4, 1) := dk_7 (dk_at dksX2_addBroom_0 21 rfl rfl)
theorem dX2_addBroom_22 : decode cX2_addBroom 22 = .ok (.if_icmp .ge 7, 3) := dk_162 0 7 (dk_at dksX2_addBroom_1 0 rfl rfl)
theorem dX2_addBroom_25 : decode cX2_addBroom 25 = .ok (.iconst 1, 1) := dk_4 (dk_at dksX2_addBroom_1 3 rfl rfl)
theorem dX2_addBroom_26 : decode cX2_addBroom 26 = .ok (.goto 4, 3) := dk_167 0 4 (dk_at dksX2_addBroom_1 4 rfl rfl)
theorem dX2_addBroom_29 : decode cX2_addBroom 29 = .ok (.iconst 0, 1) := dk_3 (dk_at dksX2_addBroom_1 7 rfl rfl)
theorem dX2_addBroom_30 : decode cX2_addBroom 30 = .ok (.ldc 119, 2) := dk_18 119 (dk_at dksX2_addBroom_1 8 rfl rfl)
theorem dX2_addBroom_32 : decode cX2_addBroom 32 = .ok (.invokestatic 115, 3) := dk_184 0 115 (dk_at dksX2_addBroom_1 10 rfl rfl)
theorem dX2_addBroom_35 : decode cX2_addBroom 35 = .ok (.aload_n 0, 1) := dk_42 (dk_at dksX2_addBroom_1 13 rfl rfl)
theorem dX2_addBroom_36 : decode cX2_addBroom 36 = .ok (.getfield 18, 3) := dk_180 0 18 (dk_at dksX2_addBroom_1 14 rfl rfl)
theorem dX2_addBroom_39 : decode cX2_addBroom 39 = .ok (.new 90, 3) := dk_187 0 90 (dk_at dksX2_addBroom_1 17 rfl rfl)
theorem dX2_addBroom_42 : decode cX2_addBroom 42 = .ok (.dup, 1) := dk_89 (dk_at dksX2_addBroom_1 20 rfl rfl)
theorem dX2_addBroom_43 : decode cX2_addBroom 43 = .ok (.iload_n 1, 1) := dk_27 (dk_at dksX2_addBroom_1 21 rfl rfl)
theorem dX2_addBroom_44 : decode cX2_addBroom 44 = .ok (.invokespecial 124, 3) := dk_183 0 124 (dk_at dksX2_addBroom_2 0 rfl rfl)
theorem dX2_addBroom_47 : decode cX2_addBroom 47 = .ok (.invokeinterface 55 2, 5) := by decide +kernel
theorem dX2_addBroom_52 : decode cX2_addBroom 52 = .ok (.pop, 1) := dk_87 (dk_at dksX2_addBroom_2 8 rfl rfl)
theorem dX2_addBroom_53 : decode cX2_addBroom 53 = .ok (.aload_n 0, 1) := dk_42 (dk_at dksX2_addBroom_2 9 rfl rfl)
theorem dX2_addBroom_54 : decode cX2_addBroom 54 = .ok (.getfield 18, 3) := dk_180 0 18 (dk_at dksX2_addBroom_2 10 rfl rfl)
theorem dX2_addBroom_57 : decode cX2_addBroom 57 = .ok (.invokeinterface 43 1, 5) := by decide +kernel
theorem dX2_addBroom_62 : decode cX2_addBroom 62 = .ok (.iconst 1, 1) := dk_4 (dk_at dksX2_addBroom_2 18 rfl rfl)
theorem dX2_addBroom_63 : decode cX2_addBroom 63 = .ok (.isub, 1) := dk_100 (dk_at dksX2_addBroom_2 19 rfl rfl)
theorem dX2_addBroom_64 : decode cX2_addBroom 64 = .ok (.ireturn, 1) := dk_172 (dk_at dksX2_addBroom_2 20 rfl rfl)
abbrev cX2_banish : ByteArray := prog_18_method_12_code
def yX2_banish : MethodName := ⟨RX2, "banish", "(I)I"⟩
def dkwX2_banish_0 : List UInt8 := [42, 27, 178, 0, 137, 182, 0, 142, 172]
abbrev dktX2_banish_0 : List UInt8 := dkwX2_banish_0 ++ []
theorem dksX2_banish_0 : cX2_banish.data.toList.drop 0 = dktX2_banish_0 := by decide +kernel
theorem dX2_banish_0 : decode cX2_banish 0 = .ok (.aload_n 0, 1) := dk_42 (dk_at dksX2_banish_0 0 rfl rfl)
theorem dX2_banish_1 : decode cX2_banish 1 = .ok (.iload_n 1, 1) := dk_27 (dk_at dksX2_banish_0 1 rfl rfl)
theorem dX2_banish_2 : decode cX2_banish 2 = .ok (.getstatic 137, 3) := dk_178 0 137 (dk_at dksX2_banish_0 2 rfl rfl)
theorem dX2_banish_5 : decode cX2_banish 5 = .ok (.invokevirtual 142, 3) := dk_182 0 142 (dk_at dksX2_banish_0 5 rfl rfl)
theorem dX2_banish_8 : decode cX2_banish 8 = .ok (.ireturn, 1) := dk_172 (dk_at dksX2_banish_0 8 rfl rfl)
abbrev cX2_setStanding : ByteArray := prog_18_method_11_code
def yX2_setStanding : MethodName := ⟨RX2, "setStanding", "(ILGoblinHousehold$Standing;)I"⟩
def dkwX2_setStanding_2 : List UInt8 := [185, 0, 49, 2, 0, 192, 0, 90, 44, 181, 0, 133, 42, 182, 0, 110, 172]
abbrev dktX2_setStanding_2 : List UInt8 := dkwX2_setStanding_2 ++ []
def dkwX2_setStanding_1 : List UInt8 := [180, 0, 133, 44, 165, 0, 7, 4, 167, 0, 4, 3, 18, 119, 184, 0, 115, 42, 180, 0, 18, 27]
abbrev dktX2_setStanding_1 : List UInt8 := dkwX2_setStanding_1 ++ dktX2_setStanding_2
def dkwX2_setStanding_0 : List UInt8 := [42, 27, 182, 0, 127, 18, 131, 184, 0, 115, 42, 180, 0, 18, 27, 185, 0, 49, 2, 0, 192, 0, 90]
abbrev dktX2_setStanding_0 : List UInt8 := dkwX2_setStanding_0 ++ dktX2_setStanding_1
theorem dksX2_setStanding_0 : cX2_setStanding.data.toList.drop 0 = dktX2_setStanding_0 := by decide +kernel
theorem dksX2_setStanding_1 : cX2_setStanding.data.toList.drop 23 = dktX2_setStanding_1 := dk_seg dksX2_setStanding_0 23 rfl rfl
theorem dksX2_setStanding_2 : cX2_setStanding.data.toList.drop 45 = dktX2_setStanding_2 := dk_seg dksX2_setStanding_1 22 rfl rfl
theorem dX2_setStanding_0 : decode cX2_setStanding 0 = .ok (.aload_n 0, 1) := dk_42 (dk_at dksX2_setStanding_0 0 rfl rfl)
theorem dX2_setStanding_1 : decode cX2_setStanding 1 = .ok (.iload_n 1, 1) := dk_27 (dk_at dksX2_setStanding_0 1 rfl rfl)
theorem dX2_setStanding_2 : decode cX2_setStanding 2 = .ok (.invokevirtual 127, 3) := dk_182 0 127 (dk_at dksX2_setStanding_0 2 rfl rfl)
theorem dX2_setStanding_5 : decode cX2_setStanding 5 = .ok (.ldc 131, 2) := dk_18 131 (dk_at dksX2_setStanding_0 5 rfl rfl)
theorem dX2_setStanding_7 : decode cX2_setStanding 7 = .ok (.invokestatic 115, 3) := dk_184 0 115 (dk_at dksX2_setStanding_0 7 rfl rfl)
theorem dX2_setStanding_10 : decode cX2_setStanding 10 = .ok (.aload_n 0, 1) := dk_42 (dk_at dksX2_setStanding_0 10 rfl rfl)
theorem dX2_setStanding_11 : decode cX2_setStanding 11 = .ok (.getfield 18, 3) := dk_180 0 18 (dk_at dksX2_setStanding_0 11 rfl rfl)
theorem dX2_setStanding_14 : decode cX2_setStanding 14 = .ok (.iload_n 1, 1) := dk_27 (dk_at dksX2_setStanding_0 14 rfl rfl)
theorem dX2_setStanding_15 : decode cX2_setStanding 15 = .ok (.invokeinterface 49 2, 5) := by decide +kernel
theorem dX2_setStanding_20 : decode cX2_setStanding 20 = .ok (.checkcast 90, 3) := dk_192 0 90 (dk_at dksX2_setStanding_0 20 rfl rfl)
theorem dX2_setStanding_23 : decode cX2_setStanding 23 = .ok (.getfield 133, 3) := dk_180 0 133 (dk_at dksX2_setStanding_1 0 rfl rfl)
theorem dX2_setStanding_26 : decode cX2_setStanding 26 = .ok (.aload_n 2, 1) := dk_44 (dk_at dksX2_setStanding_1 3 rfl rfl)
theorem dX2_setStanding_27 : decode cX2_setStanding 27 = .ok (.if_acmp .eq 7, 3) := dk_165 0 7 (dk_at dksX2_setStanding_1 4 rfl rfl)
theorem dX2_setStanding_30 : decode cX2_setStanding 30 = .ok (.iconst 1, 1) := dk_4 (dk_at dksX2_setStanding_1 7 rfl rfl)
theorem dX2_setStanding_31 : decode cX2_setStanding 31 = .ok (.goto 4, 3) := dk_167 0 4 (dk_at dksX2_setStanding_1 8 rfl rfl)
theorem dX2_setStanding_34 : decode cX2_setStanding 34 = .ok (.iconst 0, 1) := dk_3 (dk_at dksX2_setStanding_1 11 rfl rfl)
theorem dX2_setStanding_35 : decode cX2_setStanding 35 = .ok (.ldc 119, 2) := dk_18 119 (dk_at dksX2_setStanding_1 12 rfl rfl)
theorem dX2_setStanding_37 : decode cX2_setStanding 37 = .ok (.invokestatic 115, 3) := dk_184 0 115 (dk_at dksX2_setStanding_1 14 rfl rfl)
theorem dX2_setStanding_40 : decode cX2_setStanding 40 = .ok (.aload_n 0, 1) := dk_42 (dk_at dksX2_setStanding_1 17 rfl rfl)
theorem dX2_setStanding_41 : decode cX2_setStanding 41 = .ok (.getfield 18, 3) := dk_180 0 18 (dk_at dksX2_setStanding_1 18 rfl rfl)
theorem dX2_setStanding_44 : decode cX2_setStanding 44 = .ok (.iload_n 1, 1) := dk_27 (dk_at dksX2_setStanding_1 21 rfl rfl)
theorem dX2_setStanding_45 : decode cX2_setStanding 45 = .ok (.invokeinterface 49 2, 5) := by decide +kernel
theorem dX2_setStanding_50 : decode cX2_setStanding 50 = .ok (.checkcast 90, 3) := dk_192 0 90 (dk_at dksX2_setStanding_2 5 rfl rfl)
theorem dX2_setStanding_53 : decode cX2_setStanding 53 = .ok (.aload_n 2, 1) := dk_44 (dk_at dksX2_setStanding_2 8 rfl rfl)
theorem dX2_setStanding_54 : decode cX2_setStanding 54 = .ok (.putfield 133, 3) := dk_181 0 133 (dk_at dksX2_setStanding_2 9 rfl rfl)
theorem dX2_setStanding_57 : decode cX2_setStanding 57 = .ok (.aload_n 0, 1) := dk_42 (dk_at dksX2_setStanding_2 12 rfl rfl)
theorem dX2_setStanding_58 : decode cX2_setStanding 58 = .ok (.invokevirtual 110, 3) := dk_182 0 110 (dk_at dksX2_setStanding_2 13 rfl rfl)
theorem dX2_setStanding_61 : decode cX2_setStanding 61 = .ok (.ireturn, 1) := dk_172 (dk_at dksX2_setStanding_2 16 rfl rfl)
abbrev cX2_isBroom : ByteArray := prog_18_method_4_code
def yX2_isBroom : MethodName := ⟨RX2, "isBroom", "(I)Z"⟩
def dkwX2_isBroom_0 : List UInt8 := [27, 3, 42, 180, 0, 18, 185, 0, 43, 1, 0, 4, 100, 184, 0, 83, 172]
abbrev dktX2_isBroom_0 : List UInt8 := dkwX2_isBroom_0 ++ []
theorem dksX2_isBroom_0 : cX2_isBroom.data.toList.drop 0 = dktX2_isBroom_0 := by decide +kernel
theorem dX2_isBroom_0 : decode cX2_isBroom 0 = .ok (.iload_n 1, 1) := dk_27 (dk_at dksX2_isBroom_0 0 rfl rfl)
theorem dX2_isBroom_1 : decode cX2_isBroom 1 = .ok (.iconst 0, 1) := dk_3 (dk_at dksX2_isBroom_0 1 rfl rfl)
theorem dX2_isBroom_2 : decode cX2_isBroom 2 = .ok (.aload_n 0, 1) := dk_42 (dk_at dksX2_isBroom_0 2 rfl rfl)
theorem dX2_isBroom_3 : decode cX2_isBroom 3 = .ok (.getfield 18, 3) := dk_180 0 18 (dk_at dksX2_isBroom_0 3 rfl rfl)
theorem dX2_isBroom_6 : decode cX2_isBroom 6 = .ok (.invokeinterface 43 1, 5) := by decide +kernel
theorem dX2_isBroom_11 : decode cX2_isBroom 11 = .ok (.iconst 1, 1) := dk_4 (dk_at dksX2_isBroom_0 11 rfl rfl)
theorem dX2_isBroom_12 : decode cX2_isBroom 12 = .ok (.isub, 1) := dk_100 (dk_at dksX2_isBroom_0 12 rfl rfl)
theorem dX2_isBroom_13 : decode cX2_isBroom 13 = .ok (.invokestatic 83, 3) := dk_184 0 83 (dk_at dksX2_isBroom_0 13 rfl rfl)
theorem dX2_isBroom_16 : decode cX2_isBroom 16 = .ok (.ireturn, 1) := dk_172 (dk_at dksX2_isBroom_0 16 rfl rfl)
abbrev cX2_recall : ByteArray := prog_18_method_13_code
def yX2_recall : MethodName := ⟨RX2, "recall", "(I)I"⟩
def dkwX2_recall_0 : List UInt8 := [42, 27, 178, 0, 146, 182, 0, 142, 172]
abbrev dktX2_recall_0 : List UInt8 := dkwX2_recall_0 ++ []
theorem dksX2_recall_0 : cX2_recall.data.toList.drop 0 = dktX2_recall_0 := by decide +kernel
theorem dX2_recall_0 : decode cX2_recall 0 = .ok (.aload_n 0, 1) := dk_42 (dk_at dksX2_recall_0 0 rfl rfl)
theorem dX2_recall_1 : decode cX2_recall 1 = .ok (.iload_n 1, 1) := dk_27 (dk_at dksX2_recall_0 1 rfl rfl)
theorem dX2_recall_2 : decode cX2_recall 2 = .ok (.getstatic 146, 3) := dk_178 0 146 (dk_at dksX2_recall_0 2 rfl rfl)
theorem dX2_recall_5 : decode cX2_recall 5 = .ok (.invokevirtual 142, 3) := dk_182 0 142 (dk_at dksX2_recall_0 5 rfl rfl)
theorem dX2_recall_8 : decode cX2_recall 8 = .ok (.ireturn, 1) := dk_172 (dk_at dksX2_recall_0 8 rfl rfl)
abbrev cX2_hire : ByteArray := prog_18_method_15_code
def yX2_hire : MethodName := ⟨RX2, "hire", "(IIII)I"⟩
def dkwX2_hire_6 : List UInt8 := [100, 172]
abbrev dktX2_hire_6 : List UInt8 := dkwX2_hire_6 ++ []
def dkwX2_hire_5 : List UInt8 := [183, 0, 164, 185, 0, 55, 2, 0, 87, 42, 89, 180, 0, 59, 4, 96, 181, 0, 59, 42, 180, 0, 59, 4]
abbrev dktX2_hire_5 : List UInt8 := dkwX2_hire_5 ++ dktX2_hire_6
def dkwX2_hire_4 : List UInt8 := [18, 162, 184, 0, 115, 42, 180, 0, 25, 187, 0, 53, 89, 42, 180, 0, 59, 27, 28, 29, 21, 4]
abbrev dktX2_hire_4 : List UInt8 := dkwX2_hire_4 ++ dktX2_hire_5
def dkwX2_hire_3 : List UInt8 := [4, 167, 0, 4, 3, 18, 119, 184, 0, 115, 42, 27, 28, 182, 0, 158, 154, 0, 7, 4, 167, 0, 4, 3]
abbrev dktX2_hire_3 : List UInt8 := dkwX2_hire_3 ++ dktX2_hire_4
def dkwX2_hire_2 : List UInt8 := [4, 167, 0, 4, 3, 18, 113, 184, 0, 115, 42, 180, 0, 25, 185, 0, 43, 1, 0, 16, 8, 162, 0, 7]
abbrev dktX2_hire_2 : List UInt8 := dkwX2_hire_2 ++ dktX2_hire_3
def dkwX2_hire_1 : List UInt8 := [184, 0, 115, 29, 4, 16, 50, 184, 0, 83, 153, 0, 18, 21, 4, 4, 16, 20, 184, 0, 83, 153, 0, 7]
abbrev dktX2_hire_1 : List UInt8 := dkwX2_hire_1 ++ dktX2_hire_2
def dkwX2_hire_0 : List UInt8 := [42, 27, 182, 0, 155, 153, 0, 16, 28, 3, 8, 184, 0, 83, 153, 0, 7, 4, 167, 0, 4, 3, 18, 131]
abbrev dktX2_hire_0 : List UInt8 := dkwX2_hire_0 ++ dktX2_hire_1
theorem dksX2_hire_0 : cX2_hire.data.toList.drop 0 = dktX2_hire_0 := by decide +kernel
theorem dksX2_hire_1 : cX2_hire.data.toList.drop 24 = dktX2_hire_1 := dk_seg dksX2_hire_0 24 rfl rfl
theorem dksX2_hire_2 : cX2_hire.data.toList.drop 48 = dktX2_hire_2 := dk_seg dksX2_hire_1 24 rfl rfl
theorem dksX2_hire_3 : cX2_hire.data.toList.drop 72 = dktX2_hire_3 := dk_seg dksX2_hire_2 24 rfl rfl
theorem dksX2_hire_4 : cX2_hire.data.toList.drop 96 = dktX2_hire_4 := dk_seg dksX2_hire_3 24 rfl rfl
theorem dksX2_hire_5 : cX2_hire.data.toList.drop 118 = dktX2_hire_5 := dk_seg dksX2_hire_4 22 rfl rfl
theorem dksX2_hire_6 : cX2_hire.data.toList.drop 142 = dktX2_hire_6 := dk_seg dksX2_hire_5 24 rfl rfl
theorem dX2_hire_0 : decode cX2_hire 0 = .ok (.aload_n 0, 1) := dk_42 (dk_at dksX2_hire_0 0 rfl rfl)
theorem dX2_hire_1 : decode cX2_hire 1 = .ok (.iload_n 1, 1) := dk_27 (dk_at dksX2_hire_0 1 rfl rfl)
theorem dX2_hire_2 : decode cX2_hire 2 = .ok (.invokevirtual 155, 3) := dk_182 0 155 (dk_at dksX2_hire_0 2 rfl rfl)
theorem dX2_hire_5 : decode cX2_hire 5 = .ok (.ifCond .eq 16, 3) := dk_153 0 16 (dk_at dksX2_hire_0 5 rfl rfl)
theorem dX2_hire_8 : decode cX2_hire 8 = .ok (.iload_n 2, 1) := dk_28 (dk_at dksX2_hire_0 8 rfl rfl)
theorem dX2_hire_9 : decode cX2_hire 9 = .ok (.iconst 0, 1) := dk_3 (dk_at dksX2_hire_0 9 rfl rfl)
theorem dX2_hire_10 : decode cX2_hire 10 = .ok (.iconst 5, 1) := dk_8 (dk_at dksX2_hire_0 10 rfl rfl)
theorem dX2_hire_11 : decode cX2_hire 11 = .ok (.invokestatic 83, 3) := dk_184 0 83 (dk_at dksX2_hire_0 11 rfl rfl)
theorem dX2_hire_14 : decode cX2_hire 14 = .ok (.ifCond .eq 7, 3) := dk_153 0 7 (dk_at dksX2_hire_0 14 rfl rfl)
theorem dX2_hire_17 : decode cX2_hire 17 = .ok (.iconst 1, 1) := dk_4 (dk_at dksX2_hire_0 17 rfl rfl)
theorem dX2_hire_18 : decode cX2_hire 18 = .ok (.goto 4, 3) := dk_167 0 4 (dk_at dksX2_hire_0 18 rfl rfl)
theorem dX2_hire_21 : decode cX2_hire 21 = .ok (.iconst 0, 1) := dk_3 (dk_at dksX2_hire_0 21 rfl rfl)
theorem dX2_hire_22 : decode cX2_hire 22 = .ok (.ldc 131, 2) := dk_18 131 (dk_at dksX2_hire_0 22 rfl rfl)
theorem dX2_hire_24 : decode cX2_hire 24 = .ok (.invokestatic 115, 3) := dk_184 0 115 (dk_at dksX2_hire_1 0 rfl rfl)
theorem dX2_hire_27 : decode cX2_hire 27 = .ok (.iload_n 3, 1) := dk_29 (dk_at dksX2_hire_1 3 rfl rfl)
theorem dX2_hire_28 : decode cX2_hire 28 = .ok (.iconst 1, 1) := dk_4 (dk_at dksX2_hire_1 4 rfl rfl)
theorem dX2_hire_29 : decode cX2_hire 29 = .ok (.bipush 50, 2) := dk_16 50 (dk_at dksX2_hire_1 5 rfl rfl)
theorem dX2_hire_31 : decode cX2_hire 31 = .ok (.invokestatic 83, 3) := dk_184 0 83 (dk_at dksX2_hire_1 7 rfl rfl)
theorem dX2_hire_34 : decode cX2_hire 34 = .ok (.ifCond .eq 18, 3) := dk_153 0 18 (dk_at dksX2_hire_1 10 rfl rfl)
theorem dX2_hire_37 : decode cX2_hire 37 = .ok (.iload 4, 2) := dk_21 4 (dk_at dksX2_hire_1 13 rfl rfl)
theorem dX2_hire_39 : decode cX2_hire 39 = .ok (.iconst 1, 1) := dk_4 (dk_at dksX2_hire_1 15 rfl rfl)
theorem dX2_hire_40 : decode cX2_hire 40 = .ok (.bipush 20, 2) := dk_16 20 (dk_at dksX2_hire_1 16 rfl rfl)
theorem dX2_hire_42 : decode cX2_hire 42 = .ok (.invokestatic 83, 3) := dk_184 0 83 (dk_at dksX2_hire_1 18 rfl rfl)
theorem dX2_hire_45 : decode cX2_hire 45 = .ok (.ifCond .eq 7, 3) := dk_153 0 7 (dk_at dksX2_hire_1 21 rfl rfl)
theorem dX2_hire_48 : decode cX2_hire 48 = .ok (.iconst 1, 1) := dk_4 (dk_at dksX2_hire_2 0 rfl rfl)
theorem dX2_hire_49 : decode cX2_hire 49 = .ok (.goto 4, 3) := dk_167 0 4 (dk_at dksX2_hire_2 1 rfl rfl)
theorem dX2_hire_52 : decode cX2_hire 52 = .ok (.iconst 0, 1) := dk_3 (dk_at dksX2_hire_2 4 rfl rfl)
theorem dX2_hire_53 : decode cX2_hire 53 = .ok (.ldc 113, 2) := dk_18 113 (dk_at dksX2_hire_2 5 rfl rfl)
theorem dX2_hire_55 : decode cX2_hire 55 = .ok (.invokestatic 115, 3) := dk_184 0 115 (dk_at dksX2_hire_2 7 rfl rfl)
theorem dX2_hire_58 : decode cX2_hire 58 = .ok (.aload_n 0, 1) := dk_42 (dk_at dksX2_hire_2 10 rfl rfl)
theorem dX2_hire_59 : decode cX2_hire 59 = .ok (.getfield 25, 3) := dk_180 0 25 (dk_at dksX2_hire_2 11 rfl rfl)
theorem dX2_hire_62 : decode cX2_hire 62 = .ok (.invokeinterface 43 1, 5) := by decide +kernel
theorem dX2_hire_67 : decode cX2_hire 67 = .ok (.bipush 8, 2) := dk_16 8 (dk_at dksX2_hire_2 19 rfl rfl)
theorem dX2_hire_69 : decode cX2_hire 69 = .ok (.if_icmp .ge 7, 3) := dk_162 0 7 (dk_at dksX2_hire_2 21 rfl rfl)
theorem dX2_hire_72 : decode cX2_hire 72 = .ok (.iconst 1, 1) := dk_4 (dk_at dksX2_hire_3 0 rfl rfl)
theorem dX2_hire_73 : decode cX2_hire 73 = .ok (.goto 4, 3) := dk_167 0 4 (dk_at dksX2_hire_3 1 rfl rfl)
theorem dX2_hire_76 : decode cX2_hire 76 = .ok (.iconst 0, 1) := dk_3 (dk_at dksX2_hire_3 4 rfl rfl)
theorem dX2_hire_77 : decode cX2_hire 77 = .ok (.ldc 119, 2) := dk_18 119 (dk_at dksX2_hire_3 5 rfl rfl)
theorem dX2_hire_79 : decode cX2_hire 79 = .ok (.invokestatic 115, 3) := dk_184 0 115 (dk_at dksX2_hire_3 7 rfl rfl)
theorem dX2_hire_82 : decode cX2_hire 82 = .ok (.aload_n 0, 1) := dk_42 (dk_at dksX2_hire_3 10 rfl rfl)
theorem dX2_hire_83 : decode cX2_hire 83 = .ok (.iload_n 1, 1) := dk_27 (dk_at dksX2_hire_3 11 rfl rfl)
theorem dX2_hire_84 : decode cX2_hire 84 = .ok (.iload_n 2, 1) := dk_28 (dk_at dksX2_hire_3 12 rfl rfl)
theorem dX2_hire_85 : decode cX2_hire 85 = .ok (.invokevirtual 158, 3) := dk_182 0 158 (dk_at dksX2_hire_3 13 rfl rfl)
theorem dX2_hire_88 : decode cX2_hire 88 = .ok (.ifCond .ne 7, 3) := dk_154 0 7 (dk_at dksX2_hire_3 16 rfl rfl)
theorem dX2_hire_91 : decode cX2_hire 91 = .ok (.iconst 1, 1) := dk_4 (dk_at dksX2_hire_3 19 rfl rfl)
theorem dX2_hire_92 : decode cX2_hire 92 = .ok (.goto 4, 3) := dk_167 0 4 (dk_at dksX2_hire_3 20 rfl rfl)
theorem dX2_hire_95 : decode cX2_hire 95 = .ok (.iconst 0, 1) := dk_3 (dk_at dksX2_hire_3 23 rfl rfl)
theorem dX2_hire_96 : decode cX2_hire 96 = .ok (.ldc 162, 2) := dk_18 162 (dk_at dksX2_hire_4 0 rfl rfl)
theorem dX2_hire_98 : decode cX2_hire 98 = .ok (.invokestatic 115, 3) := dk_184 0 115 (dk_at dksX2_hire_4 2 rfl rfl)
theorem dX2_hire_101 : decode cX2_hire 101 = .ok (.aload_n 0, 1) := dk_42 (dk_at dksX2_hire_4 5 rfl rfl)
theorem dX2_hire_102 : decode cX2_hire 102 = .ok (.getfield 25, 3) := dk_180 0 25 (dk_at dksX2_hire_4 6 rfl rfl)
theorem dX2_hire_105 : decode cX2_hire 105 = .ok (.new 53, 3) := dk_187 0 53 (dk_at dksX2_hire_4 9 rfl rfl)
theorem dX2_hire_108 : decode cX2_hire 108 = .ok (.dup, 1) := dk_89 (dk_at dksX2_hire_4 12 rfl rfl)
theorem dX2_hire_109 : decode cX2_hire 109 = .ok (.aload_n 0, 1) := dk_42 (dk_at dksX2_hire_4 13 rfl rfl)
theorem dX2_hire_110 : decode cX2_hire 110 = .ok (.getfield 59, 3) := dk_180 0 59 (dk_at dksX2_hire_4 14 rfl rfl)
theorem dX2_hire_113 : decode cX2_hire 113 = .ok (.iload_n 1, 1) := dk_27 (dk_at dksX2_hire_4 17 rfl rfl)
theorem dX2_hire_114 : decode cX2_hire 114 = .ok (.iload_n 2, 1) := dk_28 (dk_at dksX2_hire_4 18 rfl rfl)
theorem dX2_hire_115 : decode cX2_hire 115 = .ok (.iload_n 3, 1) := dk_29 (dk_at dksX2_hire_4 19 rfl rfl)
theorem dX2_hire_116 : decode cX2_hire 116 = .ok (.iload 4, 2) := dk_21 4 (dk_at dksX2_hire_4 20 rfl rfl)
theorem dX2_hire_118 : decode cX2_hire 118 = .ok (.invokespecial 164, 3) := dk_183 0 164 (dk_at dksX2_hire_5 0 rfl rfl)
theorem dX2_hire_121 : decode cX2_hire 121 = .ok (.invokeinterface 55 2, 5) := by decide +kernel
theorem dX2_hire_126 : decode cX2_hire 126 = .ok (.pop, 1) := dk_87 (dk_at dksX2_hire_5 8 rfl rfl)
theorem dX2_hire_127 : decode cX2_hire 127 = .ok (.aload_n 0, 1) := dk_42 (dk_at dksX2_hire_5 9 rfl rfl)
theorem dX2_hire_128 : decode cX2_hire 128 = .ok (.dup, 1) := dk_89 (dk_at dksX2_hire_5 10 rfl rfl)
theorem dX2_hire_129 : decode cX2_hire 129 = .ok (.getfield 59, 3) := dk_180 0 59 (dk_at dksX2_hire_5 11 rfl rfl)
theorem dX2_hire_132 : decode cX2_hire 132 = .ok (.iconst 1, 1) := dk_4 (dk_at dksX2_hire_5 14 rfl rfl)
theorem dX2_hire_133 : decode cX2_hire 133 = .ok (.iadd, 1) := dk_96 (dk_at dksX2_hire_5 15 rfl rfl)
theorem dX2_hire_134 : decode cX2_hire 134 = .ok (.putfield 59, 3) := dk_181 0 59 (dk_at dksX2_hire_5 16 rfl rfl)
theorem dX2_hire_137 : decode cX2_hire 137 = .ok (.aload_n 0, 1) := dk_42 (dk_at dksX2_hire_5 19 rfl rfl)
theorem dX2_hire_138 : decode cX2_hire 138 = .ok (.getfield 59, 3) := dk_180 0 59 (dk_at dksX2_hire_5 20 rfl rfl)
theorem dX2_hire_141 : decode cX2_hire 141 = .ok (.iconst 1, 1) := dk_4 (dk_at dksX2_hire_5 23 rfl rfl)
theorem dX2_hire_142 : decode cX2_hire 142 = .ok (.isub, 1) := dk_100 (dk_at dksX2_hire_6 0 rfl rfl)
theorem dX2_hire_143 : decode cX2_hire 143 = .ok (.ireturn, 1) := dk_172 (dk_at dksX2_hire_6 1 rfl rfl)
abbrev cX2_isGoblin : ByteArray := prog_18_method_3_code
def yX2_isGoblin : MethodName := ⟨RX2, "isGoblin", "(I)Z"⟩
def dkwX2_isGoblin_0 : List UInt8 := [27, 3, 42, 180, 0, 22, 185, 0, 43, 1, 0, 4, 100, 184, 0, 83, 172]
abbrev dktX2_isGoblin_0 : List UInt8 := dkwX2_isGoblin_0 ++ []
theorem dksX2_isGoblin_0 : cX2_isGoblin.data.toList.drop 0 = dktX2_isGoblin_0 := by decide +kernel
theorem dX2_isGoblin_0 : decode cX2_isGoblin 0 = .ok (.iload_n 1, 1) := dk_27 (dk_at dksX2_isGoblin_0 0 rfl rfl)
theorem dX2_isGoblin_1 : decode cX2_isGoblin 1 = .ok (.iconst 0, 1) := dk_3 (dk_at dksX2_isGoblin_0 1 rfl rfl)
theorem dX2_isGoblin_2 : decode cX2_isGoblin 2 = .ok (.aload_n 0, 1) := dk_42 (dk_at dksX2_isGoblin_0 2 rfl rfl)
theorem dX2_isGoblin_3 : decode cX2_isGoblin 3 = .ok (.getfield 22, 3) := dk_180 0 22 (dk_at dksX2_isGoblin_0 3 rfl rfl)
theorem dX2_isGoblin_6 : decode cX2_isGoblin 6 = .ok (.invokeinterface 43 1, 5) := by decide +kernel
theorem dX2_isGoblin_11 : decode cX2_isGoblin 11 = .ok (.iconst 1, 1) := dk_4 (dk_at dksX2_isGoblin_0 11 rfl rfl)
theorem dX2_isGoblin_12 : decode cX2_isGoblin 12 = .ok (.isub, 1) := dk_100 (dk_at dksX2_isGoblin_0 12 rfl rfl)
theorem dX2_isGoblin_13 : decode cX2_isGoblin 13 = .ok (.invokestatic 83, 3) := dk_184 0 83 (dk_at dksX2_isGoblin_0 13 rfl rfl)
theorem dX2_isGoblin_16 : decode cX2_isGoblin 16 = .ok (.ireturn, 1) := dk_172 (dk_at dksX2_isGoblin_0 16 rfl rfl)
abbrev cX2_cancel : ByteArray := prog_18_method_16_code
def yX2_cancel : MethodName := ⟨RX2, "cancel", "(I)I"⟩
def dkwX2_cancel_3 : List UInt8 := [192, 0, 106, 29, 182, 0, 188, 29, 172]
abbrev dktX2_cancel_3 : List UInt8 := dkwX2_cancel_3 ++ []
def dkwX2_cancel_2 : List UInt8 := [89, 180, 0, 28, 29, 100, 181, 0, 28, 42, 180, 0, 22, 44, 180, 0, 149, 185, 0, 49, 2, 0]
abbrev dktX2_cancel_2 : List UInt8 := dkwX2_cancel_2 ++ dktX2_cancel_3
def dkwX2_cancel_1 : List UInt8 := [44, 180, 0, 173, 16, 10, 108, 184, 0, 176, 62, 42, 187, 0, 179, 89, 44, 183, 0, 181, 182, 0, 184, 42]
abbrev dktX2_cancel_1 : List UInt8 := dkwX2_cancel_1 ++ dktX2_cancel_2
def dkwX2_cancel_0 : List UInt8 := [42, 27, 182, 0, 167, 77, 44, 198, 0, 7, 4, 167, 0, 4, 3, 18, 171, 184, 0, 115, 42, 180, 0, 28]
abbrev dktX2_cancel_0 : List UInt8 := dkwX2_cancel_0 ++ dktX2_cancel_1
theorem dksX2_cancel_0 : cX2_cancel.data.toList.drop 0 = dktX2_cancel_0 := by decide +kernel
theorem dksX2_cancel_1 : cX2_cancel.data.toList.drop 24 = dktX2_cancel_1 := dk_seg dksX2_cancel_0 24 rfl rfl
theorem dksX2_cancel_2 : cX2_cancel.data.toList.drop 48 = dktX2_cancel_2 := dk_seg dksX2_cancel_1 24 rfl rfl
theorem dksX2_cancel_3 : cX2_cancel.data.toList.drop 70 = dktX2_cancel_3 := dk_seg dksX2_cancel_2 22 rfl rfl
theorem dX2_cancel_0 : decode cX2_cancel 0 = .ok (.aload_n 0, 1) := dk_42 (dk_at dksX2_cancel_0 0 rfl rfl)
theorem dX2_cancel_1 : decode cX2_cancel 1 = .ok (.iload_n 1, 1) := dk_27 (dk_at dksX2_cancel_0 1 rfl rfl)
theorem dX2_cancel_2 : decode cX2_cancel 2 = .ok (.invokevirtual 167, 3) := dk_182 0 167 (dk_at dksX2_cancel_0 2 rfl rfl)
theorem dX2_cancel_5 : decode cX2_cancel 5 = .ok (.astore_n 2, 1) := dk_77 (dk_at dksX2_cancel_0 5 rfl rfl)
theorem dX2_cancel_6 : decode cX2_cancel 6 = .ok (.aload_n 2, 1) := dk_44 (dk_at dksX2_cancel_0 6 rfl rfl)
theorem dX2_cancel_7 : decode cX2_cancel 7 = .ok (.ifnull 7, 3) := dk_198 0 7 (dk_at dksX2_cancel_0 7 rfl rfl)
theorem dX2_cancel_10 : decode cX2_cancel 10 = .ok (.iconst 1, 1) := dk_4 (dk_at dksX2_cancel_0 10 rfl rfl)
theorem dX2_cancel_11 : decode cX2_cancel 11 = .ok (.goto 4, 3) := dk_167 0 4 (dk_at dksX2_cancel_0 11 rfl rfl)
theorem dX2_cancel_14 : decode cX2_cancel 14 = .ok (.iconst 0, 1) := dk_3 (dk_at dksX2_cancel_0 14 rfl rfl)
theorem dX2_cancel_15 : decode cX2_cancel 15 = .ok (.ldc 171, 2) := dk_18 171 (dk_at dksX2_cancel_0 15 rfl rfl)
theorem dX2_cancel_17 : decode cX2_cancel 17 = .ok (.invokestatic 115, 3) := dk_184 0 115 (dk_at dksX2_cancel_0 17 rfl rfl)
theorem dX2_cancel_20 : decode cX2_cancel 20 = .ok (.aload_n 0, 1) := dk_42 (dk_at dksX2_cancel_0 20 rfl rfl)
theorem dX2_cancel_21 : decode cX2_cancel 21 = .ok (.getfield 28, 3) := dk_180 0 28 (dk_at dksX2_cancel_0 21 rfl rfl)
theorem dX2_cancel_24 : decode cX2_cancel 24 = .ok (.aload_n 2, 1) := dk_44 (dk_at dksX2_cancel_1 0 rfl rfl)
theorem dX2_cancel_25 : decode cX2_cancel 25 = .ok (.getfield 173, 3) := dk_180 0 173 (dk_at dksX2_cancel_1 1 rfl rfl)
theorem dX2_cancel_28 : decode cX2_cancel 28 = .ok (.bipush 10, 2) := dk_16 10 (dk_at dksX2_cancel_1 4 rfl rfl)
theorem dX2_cancel_30 : decode cX2_cancel 30 = .ok (.idiv, 1) := dk_108 (dk_at dksX2_cancel_1 6 rfl rfl)
theorem dX2_cancel_31 : decode cX2_cancel 31 = .ok (.invokestatic 176, 3) := dk_184 0 176 (dk_at dksX2_cancel_1 7 rfl rfl)
theorem dX2_cancel_34 : decode cX2_cancel 34 = .ok (.istore_n 3, 1) := dk_62 (dk_at dksX2_cancel_1 10 rfl rfl)
theorem dX2_cancel_35 : decode cX2_cancel 35 = .ok (.aload_n 0, 1) := dk_42 (dk_at dksX2_cancel_1 11 rfl rfl)
theorem dX2_cancel_36 : decode cX2_cancel 36 = .ok (.new 179, 3) := dk_187 0 179 (dk_at dksX2_cancel_1 12 rfl rfl)
theorem dX2_cancel_39 : decode cX2_cancel 39 = .ok (.dup, 1) := dk_89 (dk_at dksX2_cancel_1 15 rfl rfl)
theorem dX2_cancel_40 : decode cX2_cancel 40 = .ok (.aload_n 2, 1) := dk_44 (dk_at dksX2_cancel_1 16 rfl rfl)
theorem dX2_cancel_41 : decode cX2_cancel 41 = .ok (.invokespecial 181, 3) := dk_183 0 181 (dk_at dksX2_cancel_1 17 rfl rfl)
theorem dX2_cancel_44 : decode cX2_cancel 44 = .ok (.invokevirtual 184, 3) := dk_182 0 184 (dk_at dksX2_cancel_1 20 rfl rfl)
theorem dX2_cancel_47 : decode cX2_cancel 47 = .ok (.aload_n 0, 1) := dk_42 (dk_at dksX2_cancel_1 23 rfl rfl)
theorem dX2_cancel_48 : decode cX2_cancel 48 = .ok (.dup, 1) := dk_89 (dk_at dksX2_cancel_2 0 rfl rfl)
theorem dX2_cancel_49 : decode cX2_cancel 49 = .ok (.getfield 28, 3) := dk_180 0 28 (dk_at dksX2_cancel_2 1 rfl rfl)
theorem dX2_cancel_52 : decode cX2_cancel 52 = .ok (.iload_n 3, 1) := dk_29 (dk_at dksX2_cancel_2 4 rfl rfl)
theorem dX2_cancel_53 : decode cX2_cancel 53 = .ok (.isub, 1) := dk_100 (dk_at dksX2_cancel_2 5 rfl rfl)
theorem dX2_cancel_54 : decode cX2_cancel 54 = .ok (.putfield 28, 3) := dk_181 0 28 (dk_at dksX2_cancel_2 6 rfl rfl)
theorem dX2_cancel_57 : decode cX2_cancel 57 = .ok (.aload_n 0, 1) := dk_42 (dk_at dksX2_cancel_2 9 rfl rfl)
theorem dX2_cancel_58 : decode cX2_cancel 58 = .ok (.getfield 22, 3) := dk_180 0 22 (dk_at dksX2_cancel_2 10 rfl rfl)
theorem dX2_cancel_61 : decode cX2_cancel 61 = .ok (.aload_n 2, 1) := dk_44 (dk_at dksX2_cancel_2 13 rfl rfl)
theorem dX2_cancel_62 : decode cX2_cancel 62 = .ok (.getfield 149, 3) := dk_180 0 149 (dk_at dksX2_cancel_2 14 rfl rfl)
theorem dX2_cancel_65 : decode cX2_cancel 65 = .ok (.invokeinterface 49 2, 5) := by decide +kernel
theorem dX2_cancel_70 : decode cX2_cancel 70 = .ok (.checkcast 106, 3) := dk_192 0 106 (dk_at dksX2_cancel_3 0 rfl rfl)
theorem dX2_cancel_73 : decode cX2_cancel 73 = .ok (.iload_n 3, 1) := dk_29 (dk_at dksX2_cancel_3 3 rfl rfl)
theorem dX2_cancel_74 : decode cX2_cancel 74 = .ok (.invokevirtual 188, 3) := dk_182 0 188 (dk_at dksX2_cancel_3 4 rfl rfl)
theorem dX2_cancel_77 : decode cX2_cancel 77 = .ok (.iload_n 3, 1) := dk_29 (dk_at dksX2_cancel_3 7 rfl rfl)
theorem dX2_cancel_78 : decode cX2_cancel 78 = .ok (.ireturn, 1) := dk_172 (dk_at dksX2_cancel_3 8 rfl rfl)
abbrev cX2_find : ByteArray := prog_18_method_5_code
def yX2_find : MethodName := ⟨RX2, "find", "(I)LGoblinHousehold$Contract;"⟩
def dkwX2_find_2 : List UInt8 := [185, 0, 49, 2, 0, 192, 0, 53, 167, 0, 4, 44, 77, 132, 3, 1, 167, 255, 202, 44, 176]
abbrev dktX2_find_2 : List UInt8 := dkwX2_find_2 ++ []
def dkwX2_find_1 : List UInt8 := [185, 0, 49, 2, 0, 192, 0, 53, 180, 0, 87, 27, 160, 0, 19, 42, 180, 0, 25, 29]
abbrev dktX2_find_1 : List UInt8 := dkwX2_find_1 ++ dktX2_find_2
def dkwX2_find_0 : List UInt8 := [1, 77, 3, 62, 29, 42, 180, 0, 25, 185, 0, 43, 1, 0, 162, 0, 47, 42, 180, 0, 25, 29]
abbrev dktX2_find_0 : List UInt8 := dkwX2_find_0 ++ dktX2_find_1
theorem dksX2_find_0 : cX2_find.data.toList.drop 0 = dktX2_find_0 := by decide +kernel
theorem dksX2_find_1 : cX2_find.data.toList.drop 22 = dktX2_find_1 := dk_seg dksX2_find_0 22 rfl rfl
theorem dksX2_find_2 : cX2_find.data.toList.drop 42 = dktX2_find_2 := dk_seg dksX2_find_1 20 rfl rfl
theorem dX2_find_0 : decode cX2_find 0 = .ok (.aconst_null, 1) := dk_1 (dk_at dksX2_find_0 0 rfl rfl)
theorem dX2_find_1 : decode cX2_find 1 = .ok (.astore_n 2, 1) := dk_77 (dk_at dksX2_find_0 1 rfl rfl)
theorem dX2_find_2 : decode cX2_find 2 = .ok (.iconst 0, 1) := dk_3 (dk_at dksX2_find_0 2 rfl rfl)
theorem dX2_find_3 : decode cX2_find 3 = .ok (.istore_n 3, 1) := dk_62 (dk_at dksX2_find_0 3 rfl rfl)
theorem dX2_find_4 : decode cX2_find 4 = .ok (.iload_n 3, 1) := dk_29 (dk_at dksX2_find_0 4 rfl rfl)
theorem dX2_find_5 : decode cX2_find 5 = .ok (.aload_n 0, 1) := dk_42 (dk_at dksX2_find_0 5 rfl rfl)
theorem dX2_find_6 : decode cX2_find 6 = .ok (.getfield 25, 3) := dk_180 0 25 (dk_at dksX2_find_0 6 rfl rfl)
theorem dX2_find_9 : decode cX2_find 9 = .ok (.invokeinterface 43 1, 5) := by decide +kernel
theorem dX2_find_14 : decode cX2_find 14 = .ok (.if_icmp .ge 47, 3) := dk_162 0 47 (dk_at dksX2_find_0 14 rfl rfl)
theorem dX2_find_17 : decode cX2_find 17 = .ok (.aload_n 0, 1) := dk_42 (dk_at dksX2_find_0 17 rfl rfl)
theorem dX2_find_18 : decode cX2_find 18 = .ok (.getfield 25, 3) := dk_180 0 25 (dk_at dksX2_find_0 18 rfl rfl)
theorem dX2_find_21 : decode cX2_find 21 = .ok (.iload_n 3, 1) := dk_29 (dk_at dksX2_find_0 21 rfl rfl)
theorem dX2_find_22 : decode cX2_find 22 = .ok (.invokeinterface 49 2, 5) := by decide +kernel
theorem dX2_find_27 : decode cX2_find 27 = .ok (.checkcast 53, 3) := dk_192 0 53 (dk_at dksX2_find_1 5 rfl rfl)
theorem dX2_find_30 : decode cX2_find 30 = .ok (.getfield 87, 3) := dk_180 0 87 (dk_at dksX2_find_1 8 rfl rfl)
theorem dX2_find_33 : decode cX2_find 33 = .ok (.iload_n 1, 1) := dk_27 (dk_at dksX2_find_1 11 rfl rfl)
theorem dX2_find_34 : decode cX2_find 34 = .ok (.if_icmp .ne 19, 3) := dk_160 0 19 (dk_at dksX2_find_1 12 rfl rfl)
theorem dX2_find_37 : decode cX2_find 37 = .ok (.aload_n 0, 1) := dk_42 (dk_at dksX2_find_1 15 rfl rfl)
theorem dX2_find_38 : decode cX2_find 38 = .ok (.getfield 25, 3) := dk_180 0 25 (dk_at dksX2_find_1 16 rfl rfl)
theorem dX2_find_41 : decode cX2_find 41 = .ok (.iload_n 3, 1) := dk_29 (dk_at dksX2_find_1 19 rfl rfl)
theorem dX2_find_42 : decode cX2_find 42 = .ok (.invokeinterface 49 2, 5) := by decide +kernel
theorem dX2_find_47 : decode cX2_find 47 = .ok (.checkcast 53, 3) := dk_192 0 53 (dk_at dksX2_find_2 5 rfl rfl)
theorem dX2_find_50 : decode cX2_find 50 = .ok (.goto 4, 3) := dk_167 0 4 (dk_at dksX2_find_2 8 rfl rfl)
theorem dX2_find_53 : decode cX2_find 53 = .ok (.aload_n 2, 1) := dk_44 (dk_at dksX2_find_2 11 rfl rfl)
theorem dX2_find_54 : decode cX2_find 54 = .ok (.astore_n 2, 1) := dk_77 (dk_at dksX2_find_2 12 rfl rfl)
theorem dX2_find_55 : decode cX2_find 55 = .ok (.iinc 3 1, 3) := dk_132 3 1 (dk_at dksX2_find_2 13 rfl rfl)
theorem dX2_find_58 : decode cX2_find 58 = .ok (.goto (-54), 3) := dk_167 255 202 (dk_at dksX2_find_2 16 rfl rfl)
theorem dX2_find_61 : decode cX2_find 61 = .ok (.aload_n 2, 1) := dk_44 (dk_at dksX2_find_2 19 rfl rfl)
theorem dX2_find_62 : decode cX2_find 62 = .ok (.areturn, 1) := dk_176 (dk_at dksX2_find_2 20 rfl rfl)
abbrev cX2_end : ByteArray := prog_18_method_23_code
def yX2_end : MethodName := ⟨RX2, "end", "(LGoblinHousehold$Ending;)V"⟩
def dkwX2_end_2 : List UInt8 := [4, 96, 181, 0, 74, 177]
abbrev dktX2_end_2 : List UInt8 := dkwX2_end_2 ++ []
def dkwX2_end_1 : List UInt8 := [89, 180, 0, 71, 4, 96, 181, 0, 71, 167, 0, 20, 43, 193, 0, 221, 153, 0, 13, 42, 89, 180, 0, 74]
abbrev dktX2_end_1 : List UInt8 := dkwX2_end_1 ++ dktX2_end_2
def dkwX2_end_0 : List UInt8 := [42, 180, 0, 25, 43, 185, 0, 210, 1, 0, 185, 0, 216, 2, 0, 87, 43, 193, 0, 219, 153, 0, 16, 42]
abbrev dktX2_end_0 : List UInt8 := dkwX2_end_0 ++ dktX2_end_1
theorem dksX2_end_0 : cX2_end.data.toList.drop 0 = dktX2_end_0 := by decide +kernel
theorem dksX2_end_1 : cX2_end.data.toList.drop 24 = dktX2_end_1 := dk_seg dksX2_end_0 24 rfl rfl
theorem dksX2_end_2 : cX2_end.data.toList.drop 48 = dktX2_end_2 := dk_seg dksX2_end_1 24 rfl rfl
theorem dX2_end_0 : decode cX2_end 0 = .ok (.aload_n 0, 1) := dk_42 (dk_at dksX2_end_0 0 rfl rfl)
theorem dX2_end_1 : decode cX2_end 1 = .ok (.getfield 25, 3) := dk_180 0 25 (dk_at dksX2_end_0 1 rfl rfl)
theorem dX2_end_4 : decode cX2_end 4 = .ok (.aload_n 1, 1) := dk_43 (dk_at dksX2_end_0 4 rfl rfl)
theorem dX2_end_5 : decode cX2_end 5 = .ok (.invokeinterface 210 1, 5) := by decide +kernel
theorem dX2_end_10 : decode cX2_end 10 = .ok (.invokeinterface 216 2, 5) := by decide +kernel
theorem dX2_end_15 : decode cX2_end 15 = .ok (.pop, 1) := dk_87 (dk_at dksX2_end_0 15 rfl rfl)
theorem dX2_end_16 : decode cX2_end 16 = .ok (.aload_n 1, 1) := dk_43 (dk_at dksX2_end_0 16 rfl rfl)
theorem dX2_end_17 : decode cX2_end 17 = .ok (.instanceof 219, 3) := dk_193 0 219 (dk_at dksX2_end_0 17 rfl rfl)
theorem dX2_end_20 : decode cX2_end 20 = .ok (.ifCond .eq 16, 3) := dk_153 0 16 (dk_at dksX2_end_0 20 rfl rfl)
theorem dX2_end_23 : decode cX2_end 23 = .ok (.aload_n 0, 1) := dk_42 (dk_at dksX2_end_0 23 rfl rfl)
theorem dX2_end_24 : decode cX2_end 24 = .ok (.dup, 1) := dk_89 (dk_at dksX2_end_1 0 rfl rfl)
theorem dX2_end_25 : decode cX2_end 25 = .ok (.getfield 71, 3) := dk_180 0 71 (dk_at dksX2_end_1 1 rfl rfl)
theorem dX2_end_28 : decode cX2_end 28 = .ok (.iconst 1, 1) := dk_4 (dk_at dksX2_end_1 4 rfl rfl)
theorem dX2_end_29 : decode cX2_end 29 = .ok (.iadd, 1) := dk_96 (dk_at dksX2_end_1 5 rfl rfl)
theorem dX2_end_30 : decode cX2_end 30 = .ok (.putfield 71, 3) := dk_181 0 71 (dk_at dksX2_end_1 6 rfl rfl)
theorem dX2_end_33 : decode cX2_end 33 = .ok (.goto 20, 3) := dk_167 0 20 (dk_at dksX2_end_1 9 rfl rfl)
theorem dX2_end_36 : decode cX2_end 36 = .ok (.aload_n 1, 1) := dk_43 (dk_at dksX2_end_1 12 rfl rfl)
theorem dX2_end_37 : decode cX2_end 37 = .ok (.instanceof 221, 3) := dk_193 0 221 (dk_at dksX2_end_1 13 rfl rfl)
theorem dX2_end_40 : decode cX2_end 40 = .ok (.ifCond .eq 13, 3) := dk_153 0 13 (dk_at dksX2_end_1 16 rfl rfl)
theorem dX2_end_43 : decode cX2_end 43 = .ok (.aload_n 0, 1) := dk_42 (dk_at dksX2_end_1 19 rfl rfl)
theorem dX2_end_44 : decode cX2_end 44 = .ok (.dup, 1) := dk_89 (dk_at dksX2_end_1 20 rfl rfl)
theorem dX2_end_45 : decode cX2_end 45 = .ok (.getfield 74, 3) := dk_180 0 74 (dk_at dksX2_end_1 21 rfl rfl)
theorem dX2_end_48 : decode cX2_end 48 = .ok (.iconst 1, 1) := dk_4 (dk_at dksX2_end_2 0 rfl rfl)
theorem dX2_end_49 : decode cX2_end 49 = .ok (.iadd, 1) := dk_96 (dk_at dksX2_end_2 1 rfl rfl)
theorem dX2_end_50 : decode cX2_end 50 = .ok (.putfield 74, 3) := dk_181 0 74 (dk_at dksX2_end_2 2 rfl rfl)
theorem dX2_end_53 : decode cX2_end 53 = .ok (.return_, 1) := dk_177 (dk_at dksX2_end_2 5 rfl rfl)
abbrev cX2_setResting : ByteArray := prog_18_method_17_code
def yX2_setResting : MethodName := ⟨RX2, "setResting", "(IZ)I"⟩
def dkwX2_setResting_2 : List UInt8 := [153, 0, 10, 42, 182, 0, 195, 167, 0, 7, 45, 180, 0, 198, 172]
abbrev dktX2_setResting_2 : List UInt8 := dkwX2_setResting_2 ++ []
def dkwX2_setResting_1 : List UInt8 := [45, 180, 0, 191, 28, 159, 0, 7, 4, 167, 0, 4, 3, 18, 119, 184, 0, 115, 45, 28, 181, 0, 191, 28]
abbrev dktX2_setResting_1 : List UInt8 := dkwX2_setResting_1 ++ dktX2_setResting_2
def dkwX2_setResting_0 : List UInt8 := [42, 27, 182, 0, 155, 18, 131, 184, 0, 115, 42, 180, 0, 22, 27, 185, 0, 49, 2, 0, 192, 0, 106, 78]
abbrev dktX2_setResting_0 : List UInt8 := dkwX2_setResting_0 ++ dktX2_setResting_1
theorem dksX2_setResting_0 : cX2_setResting.data.toList.drop 0 = dktX2_setResting_0 := by decide +kernel
theorem dksX2_setResting_1 : cX2_setResting.data.toList.drop 24 = dktX2_setResting_1 := dk_seg dksX2_setResting_0 24 rfl rfl
theorem dksX2_setResting_2 : cX2_setResting.data.toList.drop 48 = dktX2_setResting_2 := dk_seg dksX2_setResting_1 24 rfl rfl
theorem dX2_setResting_0 : decode cX2_setResting 0 = .ok (.aload_n 0, 1) := dk_42 (dk_at dksX2_setResting_0 0 rfl rfl)
theorem dX2_setResting_1 : decode cX2_setResting 1 = .ok (.iload_n 1, 1) := dk_27 (dk_at dksX2_setResting_0 1 rfl rfl)
theorem dX2_setResting_2 : decode cX2_setResting 2 = .ok (.invokevirtual 155, 3) := dk_182 0 155 (dk_at dksX2_setResting_0 2 rfl rfl)
theorem dX2_setResting_5 : decode cX2_setResting 5 = .ok (.ldc 131, 2) := dk_18 131 (dk_at dksX2_setResting_0 5 rfl rfl)
theorem dX2_setResting_7 : decode cX2_setResting 7 = .ok (.invokestatic 115, 3) := dk_184 0 115 (dk_at dksX2_setResting_0 7 rfl rfl)
theorem dX2_setResting_10 : decode cX2_setResting 10 = .ok (.aload_n 0, 1) := dk_42 (dk_at dksX2_setResting_0 10 rfl rfl)
theorem dX2_setResting_11 : decode cX2_setResting 11 = .ok (.getfield 22, 3) := dk_180 0 22 (dk_at dksX2_setResting_0 11 rfl rfl)
theorem dX2_setResting_14 : decode cX2_setResting 14 = .ok (.iload_n 1, 1) := dk_27 (dk_at dksX2_setResting_0 14 rfl rfl)
theorem dX2_setResting_15 : decode cX2_setResting 15 = .ok (.invokeinterface 49 2, 5) := by decide +kernel
theorem dX2_setResting_20 : decode cX2_setResting 20 = .ok (.checkcast 106, 3) := dk_192 0 106 (dk_at dksX2_setResting_0 20 rfl rfl)
theorem dX2_setResting_23 : decode cX2_setResting 23 = .ok (.astore_n 3, 1) := dk_78 (dk_at dksX2_setResting_0 23 rfl rfl)
theorem dX2_setResting_24 : decode cX2_setResting 24 = .ok (.aload_n 3, 1) := dk_45 (dk_at dksX2_setResting_1 0 rfl rfl)
theorem dX2_setResting_25 : decode cX2_setResting 25 = .ok (.getfield 191, 3) := dk_180 0 191 (dk_at dksX2_setResting_1 1 rfl rfl)
theorem dX2_setResting_28 : decode cX2_setResting 28 = .ok (.iload_n 2, 1) := dk_28 (dk_at dksX2_setResting_1 4 rfl rfl)
theorem dX2_setResting_29 : decode cX2_setResting 29 = .ok (.if_icmp .eq 7, 3) := dk_159 0 7 (dk_at dksX2_setResting_1 5 rfl rfl)
theorem dX2_setResting_32 : decode cX2_setResting 32 = .ok (.iconst 1, 1) := dk_4 (dk_at dksX2_setResting_1 8 rfl rfl)
theorem dX2_setResting_33 : decode cX2_setResting 33 = .ok (.goto 4, 3) := dk_167 0 4 (dk_at dksX2_setResting_1 9 rfl rfl)
theorem dX2_setResting_36 : decode cX2_setResting 36 = .ok (.iconst 0, 1) := dk_3 (dk_at dksX2_setResting_1 12 rfl rfl)
theorem dX2_setResting_37 : decode cX2_setResting 37 = .ok (.ldc 119, 2) := dk_18 119 (dk_at dksX2_setResting_1 13 rfl rfl)
theorem dX2_setResting_39 : decode cX2_setResting 39 = .ok (.invokestatic 115, 3) := dk_184 0 115 (dk_at dksX2_setResting_1 15 rfl rfl)
theorem dX2_setResting_42 : decode cX2_setResting 42 = .ok (.aload_n 3, 1) := dk_45 (dk_at dksX2_setResting_1 18 rfl rfl)
theorem dX2_setResting_43 : decode cX2_setResting 43 = .ok (.iload_n 2, 1) := dk_28 (dk_at dksX2_setResting_1 19 rfl rfl)
theorem dX2_setResting_44 : decode cX2_setResting 44 = .ok (.putfield 191, 3) := dk_181 0 191 (dk_at dksX2_setResting_1 20 rfl rfl)
theorem dX2_setResting_47 : decode cX2_setResting 47 = .ok (.iload_n 2, 1) := dk_28 (dk_at dksX2_setResting_1 23 rfl rfl)
theorem dX2_setResting_48 : decode cX2_setResting 48 = .ok (.ifCond .eq 10, 3) := dk_153 0 10 (dk_at dksX2_setResting_2 0 rfl rfl)
theorem dX2_setResting_51 : decode cX2_setResting 51 = .ok (.aload_n 0, 1) := dk_42 (dk_at dksX2_setResting_2 3 rfl rfl)
theorem dX2_setResting_52 : decode cX2_setResting 52 = .ok (.invokevirtual 195, 3) := dk_182 0 195 (dk_at dksX2_setResting_2 4 rfl rfl)
theorem dX2_setResting_55 : decode cX2_setResting 55 = .ok (.goto 7, 3) := dk_167 0 7 (dk_at dksX2_setResting_2 7 rfl rfl)
theorem dX2_setResting_58 : decode cX2_setResting 58 = .ok (.aload_n 3, 1) := dk_45 (dk_at dksX2_setResting_2 10 rfl rfl)
theorem dX2_setResting_59 : decode cX2_setResting 59 = .ok (.getfield 198, 3) := dk_180 0 198 (dk_at dksX2_setResting_2 11 rfl rfl)
theorem dX2_setResting_62 : decode cX2_setResting 62 = .ok (.ireturn, 1) := dk_172 (dk_at dksX2_setResting_2 14 rfl rfl)
abbrev cX2_restingCount : ByteArray := prog_18_method_18_code
def yX2_restingCount : MethodName := ⟨RX2, "restingCount", "()I"⟩
def dkwX2_restingCount_2 : List UInt8 := [167, 255, 213, 27, 172]
abbrev dktX2_restingCount_2 : List UInt8 := dkwX2_restingCount_2 ++ []
def dkwX2_restingCount_1 : List UInt8 := [185, 0, 49, 2, 0, 192, 0, 106, 180, 0, 191, 153, 0, 7, 4, 167, 0, 4, 3, 96, 60, 132, 2, 1]
abbrev dktX2_restingCount_1 : List UInt8 := dkwX2_restingCount_1 ++ dktX2_restingCount_2
def dkwX2_restingCount_0 : List UInt8 := [3, 60, 3, 61, 28, 42, 180, 0, 22, 185, 0, 43, 1, 0, 162, 0, 36, 27, 42, 180, 0, 22, 28]
abbrev dktX2_restingCount_0 : List UInt8 := dkwX2_restingCount_0 ++ dktX2_restingCount_1
theorem dksX2_restingCount_0 : cX2_restingCount.data.toList.drop 0 = dktX2_restingCount_0 := by decide +kernel
theorem dksX2_restingCount_1 : cX2_restingCount.data.toList.drop 23 = dktX2_restingCount_1 := dk_seg dksX2_restingCount_0 23 rfl rfl
theorem dksX2_restingCount_2 : cX2_restingCount.data.toList.drop 47 = dktX2_restingCount_2 := dk_seg dksX2_restingCount_1 24 rfl rfl
theorem dX2_restingCount_0 : decode cX2_restingCount 0 = .ok (.iconst 0, 1) := dk_3 (dk_at dksX2_restingCount_0 0 rfl rfl)
theorem dX2_restingCount_1 : decode cX2_restingCount 1 = .ok (.istore_n 1, 1) := dk_60 (dk_at dksX2_restingCount_0 1 rfl rfl)
theorem dX2_restingCount_2 : decode cX2_restingCount 2 = .ok (.iconst 0, 1) := dk_3 (dk_at dksX2_restingCount_0 2 rfl rfl)
theorem dX2_restingCount_3 : decode cX2_restingCount 3 = .ok (.istore_n 2, 1) := dk_61 (dk_at dksX2_restingCount_0 3 rfl rfl)
theorem dX2_restingCount_4 : decode cX2_restingCount 4 = .ok (.iload_n 2, 1) := dk_28 (dk_at dksX2_restingCount_0 4 rfl rfl)
theorem dX2_restingCount_5 : decode cX2_restingCount 5 = .ok (.aload_n 0, 1) := dk_42 (dk_at dksX2_restingCount_0 5 rfl rfl)
theorem dX2_restingCount_6 : decode cX2_restingCount 6 = .ok (.getfield 22, 3) := dk_180 0 22 (dk_at dksX2_restingCount_0 6 rfl rfl)
theorem dX2_restingCount_9 : decode cX2_restingCount 9 = .ok (.invokeinterface 43 1, 5) := by decide +kernel
theorem dX2_restingCount_14 : decode cX2_restingCount 14 = .ok (.if_icmp .ge 36, 3) := dk_162 0 36 (dk_at dksX2_restingCount_0 14 rfl rfl)
theorem dX2_restingCount_17 : decode cX2_restingCount 17 = .ok (.iload_n 1, 1) := dk_27 (dk_at dksX2_restingCount_0 17 rfl rfl)
theorem dX2_restingCount_18 : decode cX2_restingCount 18 = .ok (.aload_n 0, 1) := dk_42 (dk_at dksX2_restingCount_0 18 rfl rfl)
theorem dX2_restingCount_19 : decode cX2_restingCount 19 = .ok (.getfield 22, 3) := dk_180 0 22 (dk_at dksX2_restingCount_0 19 rfl rfl)
theorem dX2_restingCount_22 : decode cX2_restingCount 22 = .ok (.iload_n 2, 1) := dk_28 (dk_at dksX2_restingCount_0 22 rfl rfl)
theorem dX2_restingCount_23 : decode cX2_restingCount 23 = .ok (.invokeinterface 49 2, 5) := by decide +kernel
theorem dX2_restingCount_28 : decode cX2_restingCount 28 = .ok (.checkcast 106, 3) := dk_192 0 106 (dk_at dksX2_restingCount_1 5 rfl rfl)
theorem dX2_restingCount_31 : decode cX2_restingCount 31 = .ok (.getfield 191, 3) := dk_180 0 191 (dk_at dksX2_restingCount_1 8 rfl rfl)
theorem dX2_restingCount_34 : decode cX2_restingCount 34 = .ok (.ifCond .eq 7, 3) := dk_153 0 7 (dk_at dksX2_restingCount_1 11 rfl rfl)
theorem dX2_restingCount_37 : decode cX2_restingCount 37 = .ok (.iconst 1, 1) := dk_4 (dk_at dksX2_restingCount_1 14 rfl rfl)
theorem dX2_restingCount_38 : decode cX2_restingCount 38 = .ok (.goto 4, 3) := dk_167 0 4 (dk_at dksX2_restingCount_1 15 rfl rfl)
theorem dX2_restingCount_41 : decode cX2_restingCount 41 = .ok (.iconst 0, 1) := dk_3 (dk_at dksX2_restingCount_1 18 rfl rfl)
theorem dX2_restingCount_42 : decode cX2_restingCount 42 = .ok (.iadd, 1) := dk_96 (dk_at dksX2_restingCount_1 19 rfl rfl)
theorem dX2_restingCount_43 : decode cX2_restingCount 43 = .ok (.istore_n 1, 1) := dk_60 (dk_at dksX2_restingCount_1 20 rfl rfl)
theorem dX2_restingCount_44 : decode cX2_restingCount 44 = .ok (.iinc 2 1, 3) := dk_132 2 1 (dk_at dksX2_restingCount_1 21 rfl rfl)
theorem dX2_restingCount_47 : decode cX2_restingCount 47 = .ok (.goto (-43), 3) := dk_167 255 213 (dk_at dksX2_restingCount_2 0 rfl rfl)
theorem dX2_restingCount_50 : decode cX2_restingCount 50 = .ok (.iload_n 1, 1) := dk_27 (dk_at dksX2_restingCount_2 3 rfl rfl)
theorem dX2_restingCount_51 : decode cX2_restingCount 51 = .ok (.ireturn, 1) := dk_172 (dk_at dksX2_restingCount_2 4 rfl rfl)
abbrev cX2_lend : ByteArray := prog_18_method_19_code
def yX2_lend : MethodName := ⟨RX2, "lend", "(II)I"⟩
def dkwX2_lend_3 : List UInt8 := [180, 0, 28, 28, 100, 181, 0, 28, 45, 28, 182, 0, 204, 45, 182, 0, 201, 172]
abbrev dktX2_lend_3 : List UInt8 := dkwX2_lend_3 ++ []
def dkwX2_lend_2 : List UInt8 := [182, 0, 201, 28, 96, 17, 0, 200, 163, 0, 7, 4, 167, 0, 4, 3, 18, 162, 184, 0, 115, 42, 89]
abbrev dktX2_lend_2 : List UInt8 := dkwX2_lend_2 ++ dktX2_lend_3
def dkwX2_lend_1 : List UInt8 := [180, 0, 22, 27, 185, 0, 49, 2, 0, 192, 0, 106, 78, 28, 42, 180, 0, 28, 163, 0, 19, 45]
abbrev dktX2_lend_1 : List UInt8 := dkwX2_lend_1 ++ dktX2_lend_2
def dkwX2_lend_0 : List UInt8 := [42, 27, 182, 0, 155, 18, 131, 184, 0, 115, 28, 4, 16, 99, 184, 0, 83, 18, 113, 184, 0, 115, 42]
abbrev dktX2_lend_0 : List UInt8 := dkwX2_lend_0 ++ dktX2_lend_1
theorem dksX2_lend_0 : cX2_lend.data.toList.drop 0 = dktX2_lend_0 := by decide +kernel
theorem dksX2_lend_1 : cX2_lend.data.toList.drop 23 = dktX2_lend_1 := dk_seg dksX2_lend_0 23 rfl rfl
theorem dksX2_lend_2 : cX2_lend.data.toList.drop 45 = dktX2_lend_2 := dk_seg dksX2_lend_1 22 rfl rfl
theorem dksX2_lend_3 : cX2_lend.data.toList.drop 68 = dktX2_lend_3 := dk_seg dksX2_lend_2 23 rfl rfl
theorem dX2_lend_0 : decode cX2_lend 0 = .ok (.aload_n 0, 1) := dk_42 (dk_at dksX2_lend_0 0 rfl rfl)
theorem dX2_lend_1 : decode cX2_lend 1 = .ok (.iload_n 1, 1) := dk_27 (dk_at dksX2_lend_0 1 rfl rfl)
theorem dX2_lend_2 : decode cX2_lend 2 = .ok (.invokevirtual 155, 3) := dk_182 0 155 (dk_at dksX2_lend_0 2 rfl rfl)
theorem dX2_lend_5 : decode cX2_lend 5 = .ok (.ldc 131, 2) := dk_18 131 (dk_at dksX2_lend_0 5 rfl rfl)
theorem dX2_lend_7 : decode cX2_lend 7 = .ok (.invokestatic 115, 3) := dk_184 0 115 (dk_at dksX2_lend_0 7 rfl rfl)
theorem dX2_lend_10 : decode cX2_lend 10 = .ok (.iload_n 2, 1) := dk_28 (dk_at dksX2_lend_0 10 rfl rfl)
theorem dX2_lend_11 : decode cX2_lend 11 = .ok (.iconst 1, 1) := dk_4 (dk_at dksX2_lend_0 11 rfl rfl)
theorem dX2_lend_12 : decode cX2_lend 12 = .ok (.bipush 99, 2) := dk_16 99 (dk_at dksX2_lend_0 12 rfl rfl)
theorem dX2_lend_14 : decode cX2_lend 14 = .ok (.invokestatic 83, 3) := dk_184 0 83 (dk_at dksX2_lend_0 14 rfl rfl)
theorem dX2_lend_17 : decode cX2_lend 17 = .ok (.ldc 113, 2) := dk_18 113 (dk_at dksX2_lend_0 17 rfl rfl)
theorem dX2_lend_19 : decode cX2_lend 19 = .ok (.invokestatic 115, 3) := dk_184 0 115 (dk_at dksX2_lend_0 19 rfl rfl)
theorem dX2_lend_22 : decode cX2_lend 22 = .ok (.aload_n 0, 1) := dk_42 (dk_at dksX2_lend_0 22 rfl rfl)
theorem dX2_lend_23 : decode cX2_lend 23 = .ok (.getfield 22, 3) := dk_180 0 22 (dk_at dksX2_lend_1 0 rfl rfl)
theorem dX2_lend_26 : decode cX2_lend 26 = .ok (.iload_n 1, 1) := dk_27 (dk_at dksX2_lend_1 3 rfl rfl)
theorem dX2_lend_27 : decode cX2_lend 27 = .ok (.invokeinterface 49 2, 5) := by decide +kernel
theorem dX2_lend_32 : decode cX2_lend 32 = .ok (.checkcast 106, 3) := dk_192 0 106 (dk_at dksX2_lend_1 9 rfl rfl)
theorem dX2_lend_35 : decode cX2_lend 35 = .ok (.astore_n 3, 1) := dk_78 (dk_at dksX2_lend_1 12 rfl rfl)
theorem dX2_lend_36 : decode cX2_lend 36 = .ok (.iload_n 2, 1) := dk_28 (dk_at dksX2_lend_1 13 rfl rfl)
theorem dX2_lend_37 : decode cX2_lend 37 = .ok (.aload_n 0, 1) := dk_42 (dk_at dksX2_lend_1 14 rfl rfl)
theorem dX2_lend_38 : decode cX2_lend 38 = .ok (.getfield 28, 3) := dk_180 0 28 (dk_at dksX2_lend_1 15 rfl rfl)
theorem dX2_lend_41 : decode cX2_lend 41 = .ok (.if_icmp .gt 19, 3) := dk_163 0 19 (dk_at dksX2_lend_1 18 rfl rfl)
theorem dX2_lend_44 : decode cX2_lend 44 = .ok (.aload_n 3, 1) := dk_45 (dk_at dksX2_lend_1 21 rfl rfl)
theorem dX2_lend_45 : decode cX2_lend 45 = .ok (.invokevirtual 201, 3) := dk_182 0 201 (dk_at dksX2_lend_2 0 rfl rfl)
theorem dX2_lend_48 : decode cX2_lend 48 = .ok (.iload_n 2, 1) := dk_28 (dk_at dksX2_lend_2 3 rfl rfl)
theorem dX2_lend_49 : decode cX2_lend 49 = .ok (.iadd, 1) := dk_96 (dk_at dksX2_lend_2 4 rfl rfl)
theorem dX2_lend_50 : decode cX2_lend 50 = .ok (.sipush 200, 3) := dk_17 0 200 (dk_at dksX2_lend_2 5 rfl rfl)
theorem dX2_lend_53 : decode cX2_lend 53 = .ok (.if_icmp .gt 7, 3) := dk_163 0 7 (dk_at dksX2_lend_2 8 rfl rfl)
theorem dX2_lend_56 : decode cX2_lend 56 = .ok (.iconst 1, 1) := dk_4 (dk_at dksX2_lend_2 11 rfl rfl)
theorem dX2_lend_57 : decode cX2_lend 57 = .ok (.goto 4, 3) := dk_167 0 4 (dk_at dksX2_lend_2 12 rfl rfl)
theorem dX2_lend_60 : decode cX2_lend 60 = .ok (.iconst 0, 1) := dk_3 (dk_at dksX2_lend_2 15 rfl rfl)
theorem dX2_lend_61 : decode cX2_lend 61 = .ok (.ldc 162, 2) := dk_18 162 (dk_at dksX2_lend_2 16 rfl rfl)
theorem dX2_lend_63 : decode cX2_lend 63 = .ok (.invokestatic 115, 3) := dk_184 0 115 (dk_at dksX2_lend_2 18 rfl rfl)
theorem dX2_lend_66 : decode cX2_lend 66 = .ok (.aload_n 0, 1) := dk_42 (dk_at dksX2_lend_2 21 rfl rfl)
theorem dX2_lend_67 : decode cX2_lend 67 = .ok (.dup, 1) := dk_89 (dk_at dksX2_lend_2 22 rfl rfl)
theorem dX2_lend_68 : decode cX2_lend 68 = .ok (.getfield 28, 3) := dk_180 0 28 (dk_at dksX2_lend_3 0 rfl rfl)
theorem dX2_lend_71 : decode cX2_lend 71 = .ok (.iload_n 2, 1) := dk_28 (dk_at dksX2_lend_3 3 rfl rfl)
theorem dX2_lend_72 : decode cX2_lend 72 = .ok (.isub, 1) := dk_100 (dk_at dksX2_lend_3 4 rfl rfl)
theorem dX2_lend_73 : decode cX2_lend 73 = .ok (.putfield 28, 3) := dk_181 0 28 (dk_at dksX2_lend_3 5 rfl rfl)
theorem dX2_lend_76 : decode cX2_lend 76 = .ok (.aload_n 3, 1) := dk_45 (dk_at dksX2_lend_3 8 rfl rfl)
theorem dX2_lend_77 : decode cX2_lend 77 = .ok (.iload_n 2, 1) := dk_28 (dk_at dksX2_lend_3 9 rfl rfl)
theorem dX2_lend_78 : decode cX2_lend 78 = .ok (.invokevirtual 204, 3) := dk_182 0 204 (dk_at dksX2_lend_3 10 rfl rfl)
theorem dX2_lend_81 : decode cX2_lend 81 = .ok (.aload_n 3, 1) := dk_45 (dk_at dksX2_lend_3 13 rfl rfl)
theorem dX2_lend_82 : decode cX2_lend 82 = .ok (.invokevirtual 201, 3) := dk_182 0 201 (dk_at dksX2_lend_3 14 rfl rfl)
theorem dX2_lend_85 : decode cX2_lend 85 = .ok (.ireturn, 1) := dk_172 (dk_at dksX2_lend_3 17 rfl rfl)
abbrev cX2_fund : ByteArray := prog_18_method_20_code
def yX2_fund : MethodName := ⟨RX2, "fund", "(I)I"⟩
def dkwX2_fund_1 : List UInt8 := [89, 180, 0, 65, 27, 96, 181, 0, 65, 42, 180, 0, 28, 172]
abbrev dktX2_fund_1 : List UInt8 := dkwX2_fund_1 ++ []
def dkwX2_fund_0 : List UInt8 := [27, 4, 17, 3, 231, 184, 0, 83, 18, 113, 184, 0, 115, 42, 89, 180, 0, 28, 27, 96, 181, 0, 28, 42]
abbrev dktX2_fund_0 : List UInt8 := dkwX2_fund_0 ++ dktX2_fund_1
theorem dksX2_fund_0 : cX2_fund.data.toList.drop 0 = dktX2_fund_0 := by decide +kernel
theorem dksX2_fund_1 : cX2_fund.data.toList.drop 24 = dktX2_fund_1 := dk_seg dksX2_fund_0 24 rfl rfl
theorem dX2_fund_0 : decode cX2_fund 0 = .ok (.iload_n 1, 1) := dk_27 (dk_at dksX2_fund_0 0 rfl rfl)
theorem dX2_fund_1 : decode cX2_fund 1 = .ok (.iconst 1, 1) := dk_4 (dk_at dksX2_fund_0 1 rfl rfl)
theorem dX2_fund_2 : decode cX2_fund 2 = .ok (.sipush 999, 3) := dk_17 3 231 (dk_at dksX2_fund_0 2 rfl rfl)
theorem dX2_fund_5 : decode cX2_fund 5 = .ok (.invokestatic 83, 3) := dk_184 0 83 (dk_at dksX2_fund_0 5 rfl rfl)
theorem dX2_fund_8 : decode cX2_fund 8 = .ok (.ldc 113, 2) := dk_18 113 (dk_at dksX2_fund_0 8 rfl rfl)
theorem dX2_fund_10 : decode cX2_fund 10 = .ok (.invokestatic 115, 3) := dk_184 0 115 (dk_at dksX2_fund_0 10 rfl rfl)
theorem dX2_fund_13 : decode cX2_fund 13 = .ok (.aload_n 0, 1) := dk_42 (dk_at dksX2_fund_0 13 rfl rfl)
theorem dX2_fund_14 : decode cX2_fund 14 = .ok (.dup, 1) := dk_89 (dk_at dksX2_fund_0 14 rfl rfl)
theorem dX2_fund_15 : decode cX2_fund 15 = .ok (.getfield 28, 3) := dk_180 0 28 (dk_at dksX2_fund_0 15 rfl rfl)
theorem dX2_fund_18 : decode cX2_fund 18 = .ok (.iload_n 1, 1) := dk_27 (dk_at dksX2_fund_0 18 rfl rfl)
theorem dX2_fund_19 : decode cX2_fund 19 = .ok (.iadd, 1) := dk_96 (dk_at dksX2_fund_0 19 rfl rfl)
theorem dX2_fund_20 : decode cX2_fund 20 = .ok (.putfield 28, 3) := dk_181 0 28 (dk_at dksX2_fund_0 20 rfl rfl)
theorem dX2_fund_23 : decode cX2_fund 23 = .ok (.aload_n 0, 1) := dk_42 (dk_at dksX2_fund_0 23 rfl rfl)
theorem dX2_fund_24 : decode cX2_fund 24 = .ok (.dup, 1) := dk_89 (dk_at dksX2_fund_1 0 rfl rfl)
theorem dX2_fund_25 : decode cX2_fund 25 = .ok (.getfield 65, 3) := dk_180 0 65 (dk_at dksX2_fund_1 1 rfl rfl)
theorem dX2_fund_28 : decode cX2_fund 28 = .ok (.iload_n 1, 1) := dk_27 (dk_at dksX2_fund_1 4 rfl rfl)
theorem dX2_fund_29 : decode cX2_fund 29 = .ok (.iadd, 1) := dk_96 (dk_at dksX2_fund_1 5 rfl rfl)
theorem dX2_fund_30 : decode cX2_fund 30 = .ok (.putfield 65, 3) := dk_181 0 65 (dk_at dksX2_fund_1 6 rfl rfl)
theorem dX2_fund_33 : decode cX2_fund 33 = .ok (.aload_n 0, 1) := dk_42 (dk_at dksX2_fund_1 9 rfl rfl)
theorem dX2_fund_34 : decode cX2_fund 34 = .ok (.getfield 28, 3) := dk_180 0 28 (dk_at dksX2_fund_1 10 rfl rfl)
theorem dX2_fund_37 : decode cX2_fund 37 = .ok (.ireturn, 1) := dk_172 (dk_at dksX2_fund_1 13 rfl rfl)
abbrev cX2_spend : ByteArray := prog_18_method_21_code
def yX2_spend : MethodName := ⟨RX2, "spend", "(I)I"⟩
def dkwX2_spend_2 : List UInt8 := [27, 96, 181, 0, 68, 42, 180, 0, 28, 172]
abbrev dktX2_spend_2 : List UInt8 := dkwX2_spend_2 ++ []
def dkwX2_spend_1 : List UInt8 := [167, 0, 4, 3, 18, 162, 184, 0, 115, 42, 89, 180, 0, 28, 27, 100, 181, 0, 28, 42, 89, 180, 0, 68]
abbrev dktX2_spend_1 : List UInt8 := dkwX2_spend_1 ++ dktX2_spend_2
def dkwX2_spend_0 : List UInt8 := [27, 4, 17, 3, 231, 184, 0, 83, 18, 113, 184, 0, 115, 27, 42, 180, 0, 28, 163, 0, 7, 4]
abbrev dktX2_spend_0 : List UInt8 := dkwX2_spend_0 ++ dktX2_spend_1
theorem dksX2_spend_0 : cX2_spend.data.toList.drop 0 = dktX2_spend_0 := by decide +kernel
theorem dksX2_spend_1 : cX2_spend.data.toList.drop 22 = dktX2_spend_1 := dk_seg dksX2_spend_0 22 rfl rfl
theorem dksX2_spend_2 : cX2_spend.data.toList.drop 46 = dktX2_spend_2 := dk_seg dksX2_spend_1 24 rfl rfl
theorem dX2_spend_0 : decode cX2_spend 0 = .ok (.iload_n 1, 1) := dk_27 (dk_at dksX2_spend_0 0 rfl rfl)
theorem dX2_spend_1 : decode cX2_spend 1 = .ok (.iconst 1, 1) := dk_4 (dk_at dksX2_spend_0 1 rfl rfl)
theorem dX2_spend_2 : decode cX2_spend 2 = .ok (.sipush 999, 3) := dk_17 3 231 (dk_at dksX2_spend_0 2 rfl rfl)
theorem dX2_spend_5 : decode cX2_spend 5 = .ok (.invokestatic 83, 3) := dk_184 0 83 (dk_at dksX2_spend_0 5 rfl rfl)
theorem dX2_spend_8 : decode cX2_spend 8 = .ok (.ldc 113, 2) := dk_18 113 (dk_at dksX2_spend_0 8 rfl rfl)
theorem dX2_spend_10 : decode cX2_spend 10 = .ok (.invokestatic 115, 3) := dk_184 0 115 (dk_at dksX2_spend_0 10 rfl rfl)
theorem dX2_spend_13 : decode cX2_spend 13 = .ok (.iload_n 1, 1) := dk_27 (dk_at dksX2_spend_0 13 rfl rfl)
theorem dX2_spend_14 : decode cX2_spend 14 = .ok (.aload_n 0, 1) := dk_42 (dk_at dksX2_spend_0 14 rfl rfl)
theorem dX2_spend_15 : decode cX2_spend 15 = .ok (.getfield 28, 3) := dk_180 0 28 (dk_at dksX2_spend_0 15 rfl rfl)
theorem dX2_spend_18 : decode cX2_spend 18 = .ok (.if_icmp .gt 7, 3) := dk_163 0 7 (dk_at dksX2_spend_0 18 rfl rfl)
theorem dX2_spend_21 : decode cX2_spend 21 = .ok (.iconst 1, 1) := dk_4 (dk_at dksX2_spend_0 21 rfl rfl)
theorem dX2_spend_22 : decode cX2_spend 22 = .ok (.goto 4, 3) := dk_167 0 4 (dk_at dksX2_spend_1 0 rfl rfl)
theorem dX2_spend_25 : decode cX2_spend 25 = .ok (.iconst 0, 1) := dk_3 (dk_at dksX2_spend_1 3 rfl rfl)
theorem dX2_spend_26 : decode cX2_spend 26 = .ok (.ldc 162, 2) := dk_18 162 (dk_at dksX2_spend_1 4 rfl rfl)
theorem dX2_spend_28 : decode cX2_spend 28 = .ok (.invokestatic 115, 3) := dk_184 0 115 (dk_at dksX2_spend_1 6 rfl rfl)
theorem dX2_spend_31 : decode cX2_spend 31 = .ok (.aload_n 0, 1) := dk_42 (dk_at dksX2_spend_1 9 rfl rfl)
theorem dX2_spend_32 : decode cX2_spend 32 = .ok (.dup, 1) := dk_89 (dk_at dksX2_spend_1 10 rfl rfl)
theorem dX2_spend_33 : decode cX2_spend 33 = .ok (.getfield 28, 3) := dk_180 0 28 (dk_at dksX2_spend_1 11 rfl rfl)
theorem dX2_spend_36 : decode cX2_spend 36 = .ok (.iload_n 1, 1) := dk_27 (dk_at dksX2_spend_1 14 rfl rfl)
theorem dX2_spend_37 : decode cX2_spend 37 = .ok (.isub, 1) := dk_100 (dk_at dksX2_spend_1 15 rfl rfl)
theorem dX2_spend_38 : decode cX2_spend 38 = .ok (.putfield 28, 3) := dk_181 0 28 (dk_at dksX2_spend_1 16 rfl rfl)
theorem dX2_spend_41 : decode cX2_spend 41 = .ok (.aload_n 0, 1) := dk_42 (dk_at dksX2_spend_1 19 rfl rfl)
theorem dX2_spend_42 : decode cX2_spend 42 = .ok (.dup, 1) := dk_89 (dk_at dksX2_spend_1 20 rfl rfl)
theorem dX2_spend_43 : decode cX2_spend 43 = .ok (.getfield 68, 3) := dk_180 0 68 (dk_at dksX2_spend_1 21 rfl rfl)
theorem dX2_spend_46 : decode cX2_spend 46 = .ok (.iload_n 1, 1) := dk_27 (dk_at dksX2_spend_2 0 rfl rfl)
theorem dX2_spend_47 : decode cX2_spend 47 = .ok (.iadd, 1) := dk_96 (dk_at dksX2_spend_2 1 rfl rfl)
theorem dX2_spend_48 : decode cX2_spend 48 = .ok (.putfield 68, 3) := dk_181 0 68 (dk_at dksX2_spend_2 2 rfl rfl)
theorem dX2_spend_51 : decode cX2_spend 51 = .ok (.aload_n 0, 1) := dk_42 (dk_at dksX2_spend_2 5 rfl rfl)
theorem dX2_spend_52 : decode cX2_spend 52 = .ok (.getfield 28, 3) := dk_180 0 28 (dk_at dksX2_spend_2 6 rfl rfl)
theorem dX2_spend_55 : decode cX2_spend 55 = .ok (.ireturn, 1) := dk_172 (dk_at dksX2_spend_2 9 rfl rfl)
abbrev cX2_passNights : ByteArray := prog_18_method_22_code
def yX2_passNights : MethodName := ⟨RX2, "passNights", "(I)I"⟩
def dkwX2_passNights_1 : List UInt8 := [180, 0, 71, 28, 100, 172]
abbrev dktX2_passNights_1 : List UInt8 := dkwX2_passNights_1 ++ []
def dkwX2_passNights_0 : List UInt8 := [27, 4, 16, 60, 184, 0, 83, 18, 113, 184, 0, 115, 42, 180, 0, 71, 61, 42, 27, 182, 0, 207, 42]
abbrev dktX2_passNights_0 : List UInt8 := dkwX2_passNights_0 ++ dktX2_passNights_1
theorem dksX2_passNights_0 : cX2_passNights.data.toList.drop 0 = dktX2_passNights_0 := by decide +kernel
theorem dksX2_passNights_1 : cX2_passNights.data.toList.drop 23 = dktX2_passNights_1 := dk_seg dksX2_passNights_0 23 rfl rfl
theorem dX2_passNights_0 : decode cX2_passNights 0 = .ok (.iload_n 1, 1) := dk_27 (dk_at dksX2_passNights_0 0 rfl rfl)
theorem dX2_passNights_1 : decode cX2_passNights 1 = .ok (.iconst 1, 1) := dk_4 (dk_at dksX2_passNights_0 1 rfl rfl)
theorem dX2_passNights_2 : decode cX2_passNights 2 = .ok (.bipush 60, 2) := dk_16 60 (dk_at dksX2_passNights_0 2 rfl rfl)
theorem dX2_passNights_4 : decode cX2_passNights 4 = .ok (.invokestatic 83, 3) := dk_184 0 83 (dk_at dksX2_passNights_0 4 rfl rfl)
theorem dX2_passNights_7 : decode cX2_passNights 7 = .ok (.ldc 113, 2) := dk_18 113 (dk_at dksX2_passNights_0 7 rfl rfl)
theorem dX2_passNights_9 : decode cX2_passNights 9 = .ok (.invokestatic 115, 3) := dk_184 0 115 (dk_at dksX2_passNights_0 9 rfl rfl)
theorem dX2_passNights_12 : decode cX2_passNights 12 = .ok (.aload_n 0, 1) := dk_42 (dk_at dksX2_passNights_0 12 rfl rfl)
theorem dX2_passNights_13 : decode cX2_passNights 13 = .ok (.getfield 71, 3) := dk_180 0 71 (dk_at dksX2_passNights_0 13 rfl rfl)
theorem dX2_passNights_16 : decode cX2_passNights 16 = .ok (.istore_n 2, 1) := dk_61 (dk_at dksX2_passNights_0 16 rfl rfl)
theorem dX2_passNights_17 : decode cX2_passNights 17 = .ok (.aload_n 0, 1) := dk_42 (dk_at dksX2_passNights_0 17 rfl rfl)
theorem dX2_passNights_18 : decode cX2_passNights 18 = .ok (.iload_n 1, 1) := dk_27 (dk_at dksX2_passNights_0 18 rfl rfl)
theorem dX2_passNights_19 : decode cX2_passNights 19 = .ok (.invokevirtual 207, 3) := dk_182 0 207 (dk_at dksX2_passNights_0 19 rfl rfl)
theorem dX2_passNights_22 : decode cX2_passNights 22 = .ok (.aload_n 0, 1) := dk_42 (dk_at dksX2_passNights_0 22 rfl rfl)
theorem dX2_passNights_23 : decode cX2_passNights 23 = .ok (.getfield 71, 3) := dk_180 0 71 (dk_at dksX2_passNights_1 0 rfl rfl)
theorem dX2_passNights_26 : decode cX2_passNights 26 = .ok (.iload_n 2, 1) := dk_28 (dk_at dksX2_passNights_1 3 rfl rfl)
theorem dX2_passNights_27 : decode cX2_passNights 27 = .ok (.isub, 1) := dk_100 (dk_at dksX2_passNights_1 4 rfl rfl)
theorem dX2_passNights_28 : decode cX2_passNights 28 = .ok (.ireturn, 1) := dk_172 (dk_at dksX2_passNights_1 5 rfl rfl)
abbrev cX2_pass : ByteArray := prog_18_method_29_code
def yX2_pass : MethodName := ⟨RX2, "pass", "(I)V"⟩
def dkwX2_pass_0 : List UInt8 := [3, 61, 28, 27, 162, 0, 13, 42, 182, 1, 1, 132, 2, 1, 167, 255, 244, 177]
abbrev dktX2_pass_0 : List UInt8 := dkwX2_pass_0 ++ []
theorem dksX2_pass_0 : cX2_pass.data.toList.drop 0 = dktX2_pass_0 := by decide +kernel
theorem dX2_pass_0 : decode cX2_pass 0 = .ok (.iconst 0, 1) := dk_3 (dk_at dksX2_pass_0 0 rfl rfl)
theorem dX2_pass_1 : decode cX2_pass 1 = .ok (.istore_n 2, 1) := dk_61 (dk_at dksX2_pass_0 1 rfl rfl)
theorem dX2_pass_2 : decode cX2_pass 2 = .ok (.iload_n 2, 1) := dk_28 (dk_at dksX2_pass_0 2 rfl rfl)
theorem dX2_pass_3 : decode cX2_pass 3 = .ok (.iload_n 1, 1) := dk_27 (dk_at dksX2_pass_0 3 rfl rfl)
theorem dX2_pass_4 : decode cX2_pass 4 = .ok (.if_icmp .ge 13, 3) := dk_162 0 13 (dk_at dksX2_pass_0 4 rfl rfl)
theorem dX2_pass_7 : decode cX2_pass 7 = .ok (.aload_n 0, 1) := dk_42 (dk_at dksX2_pass_0 7 rfl rfl)
theorem dX2_pass_8 : decode cX2_pass 8 = .ok (.invokevirtual 257, 3) := dk_182 1 1 (dk_at dksX2_pass_0 8 rfl rfl)
theorem dX2_pass_11 : decode cX2_pass 11 = .ok (.iinc 2 1, 3) := dk_132 2 1 (dk_at dksX2_pass_0 11 rfl rfl)
theorem dX2_pass_14 : decode cX2_pass 14 = .ok (.goto (-12), 3) := dk_167 255 244 (dk_at dksX2_pass_0 14 rfl rfl)
theorem dX2_pass_17 : decode cX2_pass 17 = .ok (.return_, 1) := dk_177 (dk_at dksX2_pass_0 17 rfl rfl)
abbrev cX2_passNight : ByteArray := prog_18_method_28_code
def yX2_passNight : MethodName := ⟨RX2, "passNight", "()V"⟩
def dkwX2_passNight_8 : List UInt8 := [167, 255, 184, 177]
abbrev dktX2_passNight_8 : List UInt8 := dkwX2_passNight_8 ++ []
def dkwX2_passNight_7 : List UInt8 := [185, 0, 49, 2, 0, 192, 0, 106, 182, 0, 254, 167, 0, 4, 3, 96, 181, 0, 80, 132, 1, 1]
abbrev dktX2_passNight_7 : List UInt8 := dkwX2_passNight_7 ++ dktX2_passNight_8
def dkwX2_passNight_6 : List UInt8 := [182, 0, 251, 42, 89, 180, 0, 80, 42, 180, 0, 62, 16, 7, 112, 154, 0, 22, 42, 180, 0, 22, 27]
abbrev dktX2_passNight_6 : List UInt8 := dkwX2_passNight_6 ++ dktX2_passNight_7
def dkwX2_passNight_5 : List UInt8 := [185, 0, 43, 1, 0, 162, 0, 65, 42, 42, 180, 0, 22, 27, 185, 0, 49, 2, 0, 192, 0, 106]
abbrev dktX2_passNight_5 : List UInt8 := dkwX2_passNight_5 ++ dktX2_passNight_6
def dkwX2_passNight_4 : List UInt8 := [180, 0, 191, 154, 0, 8, 42, 44, 182, 0, 247, 132, 1, 1, 167, 255, 193, 3, 60, 27, 42, 180, 0, 22]
abbrev dktX2_passNight_4 : List UInt8 := dkwX2_passNight_4 ++ dktX2_passNight_5
def dkwX2_passNight_3 : List UInt8 := [77, 44, 44, 180, 0, 191, 153, 0, 12, 44, 180, 0, 198, 4, 96, 167, 0, 4, 3, 181, 0, 198, 44]
abbrev dktX2_passNight_3 : List UInt8 := dkwX2_passNight_3 ++ dktX2_passNight_4
def dkwX2_passNight_2 : List UInt8 := [180, 0, 22, 185, 0, 43, 1, 0, 162, 0, 56, 42, 180, 0, 22, 27, 185, 0, 49, 2, 0, 192, 0, 106]
abbrev dktX2_passNight_2 : List UInt8 := dkwX2_passNight_2 ++ dktX2_passNight_3
def dkwX2_passNight_1 : List UInt8 := [16, 99, 42, 180, 0, 9, 27, 46, 6, 96, 184, 0, 176, 79, 132, 1, 1, 167, 255, 228, 3, 60, 27, 42]
abbrev dktX2_passNight_1 : List UInt8 := dkwX2_passNight_1 ++ dktX2_passNight_2
def dkwX2_passNight_0 : List UInt8 := [42, 89, 180, 0, 62, 4, 96, 181, 0, 62, 3, 60, 27, 16, 6, 162, 0, 28, 42, 180, 0, 9, 27]
abbrev dktX2_passNight_0 : List UInt8 := dkwX2_passNight_0 ++ dktX2_passNight_1
theorem dksX2_passNight_0 : cX2_passNight.data.toList.drop 0 = dktX2_passNight_0 := by decide +kernel
theorem dksX2_passNight_1 : cX2_passNight.data.toList.drop 23 = dktX2_passNight_1 := dk_seg dksX2_passNight_0 23 rfl rfl
theorem dksX2_passNight_2 : cX2_passNight.data.toList.drop 47 = dktX2_passNight_2 := dk_seg dksX2_passNight_1 24 rfl rfl
theorem dksX2_passNight_3 : cX2_passNight.data.toList.drop 71 = dktX2_passNight_3 := dk_seg dksX2_passNight_2 24 rfl rfl
theorem dksX2_passNight_4 : cX2_passNight.data.toList.drop 94 = dktX2_passNight_4 := dk_seg dksX2_passNight_3 23 rfl rfl
theorem dksX2_passNight_5 : cX2_passNight.data.toList.drop 118 = dktX2_passNight_5 := dk_seg dksX2_passNight_4 24 rfl rfl
theorem dksX2_passNight_6 : cX2_passNight.data.toList.drop 140 = dktX2_passNight_6 := dk_seg dksX2_passNight_5 22 rfl rfl
theorem dksX2_passNight_7 : cX2_passNight.data.toList.drop 163 = dktX2_passNight_7 := dk_seg dksX2_passNight_6 23 rfl rfl
theorem dksX2_passNight_8 : cX2_passNight.data.toList.drop 185 = dktX2_passNight_8 := dk_seg dksX2_passNight_7 22 rfl rfl
theorem dX2_passNight_0 : decode cX2_passNight 0 = .ok (.aload_n 0, 1) := dk_42 (dk_at dksX2_passNight_0 0 rfl rfl)
theorem dX2_passNight_1 : decode cX2_passNight 1 = .ok (.dup, 1) := dk_89 (dk_at dksX2_passNight_0 1 rfl rfl)
theorem dX2_passNight_2 : decode cX2_passNight 2 = .ok (.getfield 62, 3) := dk_180 0 62 (dk_at dksX2_passNight_0 2 rfl rfl)
theorem dX2_passNight_5 : decode cX2_passNight 5 = .ok (.iconst 1, 1) := dk_4 (dk_at dksX2_passNight_0 5 rfl rfl)
theorem dX2_passNight_6 : decode cX2_passNight 6 = .ok (.iadd, 1) := dk_96 (dk_at dksX2_passNight_0 6 rfl rfl)
theorem dX2_passNight_7 : decode cX2_passNight 7 = .ok (.putfield 62, 3) := dk_181 0 62 (dk_at dksX2_passNight_0 7 rfl rfl)
theorem dX2_passNight_10 : decode cX2_passNight 10 = .ok (.iconst 0, 1) := dk_3 (dk_at dksX2_passNight_0 10 rfl rfl)
theorem dX2_passNight_11 : decode cX2_passNight 11 = .ok (.istore_n 1, 1) := dk_60 (dk_at dksX2_passNight_0 11 rfl rfl)
theorem dX2_passNight_12 : decode cX2_passNight 12 = .ok (.iload_n 1, 1) := dk_27 (dk_at dksX2_passNight_0 12 rfl rfl)
theorem dX2_passNight_13 : decode cX2_passNight 13 = .ok (.bipush 6, 2) := dk_16 6 (dk_at dksX2_passNight_0 13 rfl rfl)
theorem dX2_passNight_15 : decode cX2_passNight 15 = .ok (.if_icmp .ge 28, 3) := dk_162 0 28 (dk_at dksX2_passNight_0 15 rfl rfl)
theorem dX2_passNight_18 : decode cX2_passNight 18 = .ok (.aload_n 0, 1) := dk_42 (dk_at dksX2_passNight_0 18 rfl rfl)
theorem dX2_passNight_19 : decode cX2_passNight 19 = .ok (.getfield 9, 3) := dk_180 0 9 (dk_at dksX2_passNight_0 19 rfl rfl)
theorem dX2_passNight_22 : decode cX2_passNight 22 = .ok (.iload_n 1, 1) := dk_27 (dk_at dksX2_passNight_0 22 rfl rfl)
theorem dX2_passNight_23 : decode cX2_passNight 23 = .ok (.bipush 99, 2) := dk_16 99 (dk_at dksX2_passNight_1 0 rfl rfl)
theorem dX2_passNight_25 : decode cX2_passNight 25 = .ok (.aload_n 0, 1) := dk_42 (dk_at dksX2_passNight_1 2 rfl rfl)
theorem dX2_passNight_26 : decode cX2_passNight 26 = .ok (.getfield 9, 3) := dk_180 0 9 (dk_at dksX2_passNight_1 3 rfl rfl)
theorem dX2_passNight_29 : decode cX2_passNight 29 = .ok (.iload_n 1, 1) := dk_27 (dk_at dksX2_passNight_1 6 rfl rfl)
theorem dX2_passNight_30 : decode cX2_passNight 30 = .ok (.iaload, 1) := dk_46 (dk_at dksX2_passNight_1 7 rfl rfl)
theorem dX2_passNight_31 : decode cX2_passNight 31 = .ok (.iconst 3, 1) := dk_6 (dk_at dksX2_passNight_1 8 rfl rfl)
theorem dX2_passNight_32 : decode cX2_passNight 32 = .ok (.iadd, 1) := dk_96 (dk_at dksX2_passNight_1 9 rfl rfl)
theorem dX2_passNight_33 : decode cX2_passNight 33 = .ok (.invokestatic 176, 3) := dk_184 0 176 (dk_at dksX2_passNight_1 10 rfl rfl)
theorem dX2_passNight_36 : decode cX2_passNight 36 = .ok (.iastore, 1) := dk_79 (dk_at dksX2_passNight_1 13 rfl rfl)
theorem dX2_passNight_37 : decode cX2_passNight 37 = .ok (.iinc 1 1, 3) := dk_132 1 1 (dk_at dksX2_passNight_1 14 rfl rfl)
theorem dX2_passNight_40 : decode cX2_passNight 40 = .ok (.goto (-28), 3) := dk_167 255 228 (dk_at dksX2_passNight_1 17 rfl rfl)
theorem dX2_passNight_43 : decode cX2_passNight 43 = .ok (.iconst 0, 1) := dk_3 (dk_at dksX2_passNight_1 20 rfl rfl)
theorem dX2_passNight_44 : decode cX2_passNight 44 = .ok (.istore_n 1, 1) := dk_60 (dk_at dksX2_passNight_1 21 rfl rfl)
theorem dX2_passNight_45 : decode cX2_passNight 45 = .ok (.iload_n 1, 1) := dk_27 (dk_at dksX2_passNight_1 22 rfl rfl)
theorem dX2_passNight_46 : decode cX2_passNight 46 = .ok (.aload_n 0, 1) := dk_42 (dk_at dksX2_passNight_1 23 rfl rfl)
theorem dX2_passNight_47 : decode cX2_passNight 47 = .ok (.getfield 22, 3) := dk_180 0 22 (dk_at dksX2_passNight_2 0 rfl rfl)
theorem dX2_passNight_50 : decode cX2_passNight 50 = .ok (.invokeinterface 43 1, 5) := by decide +kernel
theorem dX2_passNight_55 : decode cX2_passNight 55 = .ok (.if_icmp .ge 56, 3) := dk_162 0 56 (dk_at dksX2_passNight_2 8 rfl rfl)
theorem dX2_passNight_58 : decode cX2_passNight 58 = .ok (.aload_n 0, 1) := dk_42 (dk_at dksX2_passNight_2 11 rfl rfl)
theorem dX2_passNight_59 : decode cX2_passNight 59 = .ok (.getfield 22, 3) := dk_180 0 22 (dk_at dksX2_passNight_2 12 rfl rfl)
theorem dX2_passNight_62 : decode cX2_passNight 62 = .ok (.iload_n 1, 1) := dk_27 (dk_at dksX2_passNight_2 15 rfl rfl)
theorem dX2_passNight_63 : decode cX2_passNight 63 = .ok (.invokeinterface 49 2, 5) := by decide +kernel
theorem dX2_passNight_68 : decode cX2_passNight 68 = .ok (.checkcast 106, 3) := dk_192 0 106 (dk_at dksX2_passNight_2 21 rfl rfl)
theorem dX2_passNight_71 : decode cX2_passNight 71 = .ok (.astore_n 2, 1) := dk_77 (dk_at dksX2_passNight_3 0 rfl rfl)
theorem dX2_passNight_72 : decode cX2_passNight 72 = .ok (.aload_n 2, 1) := dk_44 (dk_at dksX2_passNight_3 1 rfl rfl)
theorem dX2_passNight_73 : decode cX2_passNight 73 = .ok (.aload_n 2, 1) := dk_44 (dk_at dksX2_passNight_3 2 rfl rfl)
theorem dX2_passNight_74 : decode cX2_passNight 74 = .ok (.getfield 191, 3) := dk_180 0 191 (dk_at dksX2_passNight_3 3 rfl rfl)
theorem dX2_passNight_77 : decode cX2_passNight 77 = .ok (.ifCond .eq 12, 3) := dk_153 0 12 (dk_at dksX2_passNight_3 6 rfl rfl)
theorem dX2_passNight_80 : decode cX2_passNight 80 = .ok (.aload_n 2, 1) := dk_44 (dk_at dksX2_passNight_3 9 rfl rfl)
theorem dX2_passNight_81 : decode cX2_passNight 81 = .ok (.getfield 198, 3) := dk_180 0 198 (dk_at dksX2_passNight_3 10 rfl rfl)
theorem dX2_passNight_84 : decode cX2_passNight 84 = .ok (.iconst 1, 1) := dk_4 (dk_at dksX2_passNight_3 13 rfl rfl)
theorem dX2_passNight_85 : decode cX2_passNight 85 = .ok (.iadd, 1) := dk_96 (dk_at dksX2_passNight_3 14 rfl rfl)
theorem dX2_passNight_86 : decode cX2_passNight 86 = .ok (.goto 4, 3) := dk_167 0 4 (dk_at dksX2_passNight_3 15 rfl rfl)
theorem dX2_passNight_89 : decode cX2_passNight 89 = .ok (.iconst 0, 1) := dk_3 (dk_at dksX2_passNight_3 18 rfl rfl)
theorem dX2_passNight_90 : decode cX2_passNight 90 = .ok (.putfield 198, 3) := dk_181 0 198 (dk_at dksX2_passNight_3 19 rfl rfl)
theorem dX2_passNight_93 : decode cX2_passNight 93 = .ok (.aload_n 2, 1) := dk_44 (dk_at dksX2_passNight_3 22 rfl rfl)
theorem dX2_passNight_94 : decode cX2_passNight 94 = .ok (.getfield 191, 3) := dk_180 0 191 (dk_at dksX2_passNight_4 0 rfl rfl)
theorem dX2_passNight_97 : decode cX2_passNight 97 = .ok (.ifCond .ne 8, 3) := dk_154 0 8 (dk_at dksX2_passNight_4 3 rfl rfl)
theorem dX2_passNight_100 : decode cX2_passNight 100 = .ok (.aload_n 0, 1) := dk_42 (dk_at dksX2_passNight_4 6 rfl rfl)
theorem dX2_passNight_101 : decode cX2_passNight 101 = .ok (.aload_n 2, 1) := dk_44 (dk_at dksX2_passNight_4 7 rfl rfl)
theorem dX2_passNight_102 : decode cX2_passNight 102 = .ok (.invokevirtual 247, 3) := dk_182 0 247 (dk_at dksX2_passNight_4 8 rfl rfl)
theorem dX2_passNight_105 : decode cX2_passNight 105 = .ok (.iinc 1 1, 3) := dk_132 1 1 (dk_at dksX2_passNight_4 11 rfl rfl)
theorem dX2_passNight_108 : decode cX2_passNight 108 = .ok (.goto (-63), 3) := dk_167 255 193 (dk_at dksX2_passNight_4 14 rfl rfl)
theorem dX2_passNight_111 : decode cX2_passNight 111 = .ok (.iconst 0, 1) := dk_3 (dk_at dksX2_passNight_4 17 rfl rfl)
theorem dX2_passNight_112 : decode cX2_passNight 112 = .ok (.istore_n 1, 1) := dk_60 (dk_at dksX2_passNight_4 18 rfl rfl)
theorem dX2_passNight_113 : decode cX2_passNight 113 = .ok (.iload_n 1, 1) := dk_27 (dk_at dksX2_passNight_4 19 rfl rfl)
theorem dX2_passNight_114 : decode cX2_passNight 114 = .ok (.aload_n 0, 1) := dk_42 (dk_at dksX2_passNight_4 20 rfl rfl)
theorem dX2_passNight_115 : decode cX2_passNight 115 = .ok (.getfield 22, 3) := dk_180 0 22 (dk_at dksX2_passNight_4 21 rfl rfl)
theorem dX2_passNight_118 : decode cX2_passNight 118 = .ok (.invokeinterface 43 1, 5) := by decide +kernel
theorem dX2_passNight_123 : decode cX2_passNight 123 = .ok (.if_icmp .ge 65, 3) := dk_162 0 65 (dk_at dksX2_passNight_5 5 rfl rfl)
theorem dX2_passNight_126 : decode cX2_passNight 126 = .ok (.aload_n 0, 1) := dk_42 (dk_at dksX2_passNight_5 8 rfl rfl)
theorem dX2_passNight_127 : decode cX2_passNight 127 = .ok (.aload_n 0, 1) := dk_42 (dk_at dksX2_passNight_5 9 rfl rfl)
theorem dX2_passNight_128 : decode cX2_passNight 128 = .ok (.getfield 22, 3) := dk_180 0 22 (dk_at dksX2_passNight_5 10 rfl rfl)
theorem dX2_passNight_131 : decode cX2_passNight 131 = .ok (.iload_n 1, 1) := dk_27 (dk_at dksX2_passNight_5 13 rfl rfl)
theorem dX2_passNight_132 : decode cX2_passNight 132 = .ok (.invokeinterface 49 2, 5) := by decide +kernel
theorem dX2_passNight_137 : decode cX2_passNight 137 = .ok (.checkcast 106, 3) := dk_192 0 106 (dk_at dksX2_passNight_5 19 rfl rfl)
theorem dX2_passNight_140 : decode cX2_passNight 140 = .ok (.invokevirtual 251, 3) := dk_182 0 251 (dk_at dksX2_passNight_6 0 rfl rfl)
theorem dX2_passNight_143 : decode cX2_passNight 143 = .ok (.aload_n 0, 1) := dk_42 (dk_at dksX2_passNight_6 3 rfl rfl)
theorem dX2_passNight_144 : decode cX2_passNight 144 = .ok (.dup, 1) := dk_89 (dk_at dksX2_passNight_6 4 rfl rfl)
theorem dX2_passNight_145 : decode cX2_passNight 145 = .ok (.getfield 80, 3) := dk_180 0 80 (dk_at dksX2_passNight_6 5 rfl rfl)
theorem dX2_passNight_148 : decode cX2_passNight 148 = .ok (.aload_n 0, 1) := dk_42 (dk_at dksX2_passNight_6 8 rfl rfl)
theorem dX2_passNight_149 : decode cX2_passNight 149 = .ok (.getfield 62, 3) := dk_180 0 62 (dk_at dksX2_passNight_6 9 rfl rfl)
theorem dX2_passNight_152 : decode cX2_passNight 152 = .ok (.bipush 7, 2) := dk_16 7 (dk_at dksX2_passNight_6 12 rfl rfl)
theorem dX2_passNight_154 : decode cX2_passNight 154 = .ok (.irem, 1) := dk_112 (dk_at dksX2_passNight_6 14 rfl rfl)
theorem dX2_passNight_155 : decode cX2_passNight 155 = .ok (.ifCond .ne 22, 3) := dk_154 0 22 (dk_at dksX2_passNight_6 15 rfl rfl)
theorem dX2_passNight_158 : decode cX2_passNight 158 = .ok (.aload_n 0, 1) := dk_42 (dk_at dksX2_passNight_6 18 rfl rfl)
theorem dX2_passNight_159 : decode cX2_passNight 159 = .ok (.getfield 22, 3) := dk_180 0 22 (dk_at dksX2_passNight_6 19 rfl rfl)
theorem dX2_passNight_162 : decode cX2_passNight 162 = .ok (.iload_n 1, 1) := dk_27 (dk_at dksX2_passNight_6 22 rfl rfl)
theorem dX2_passNight_163 : decode cX2_passNight 163 = .ok (.invokeinterface 49 2, 5) := by decide +kernel
theorem dX2_passNight_168 : decode cX2_passNight 168 = .ok (.checkcast 106, 3) := dk_192 0 106 (dk_at dksX2_passNight_7 5 rfl rfl)
theorem dX2_passNight_171 : decode cX2_passNight 171 = .ok (.invokevirtual 254, 3) := dk_182 0 254 (dk_at dksX2_passNight_7 8 rfl rfl)
theorem dX2_passNight_174 : decode cX2_passNight 174 = .ok (.goto 4, 3) := dk_167 0 4 (dk_at dksX2_passNight_7 11 rfl rfl)
theorem dX2_passNight_177 : decode cX2_passNight 177 = .ok (.iconst 0, 1) := dk_3 (dk_at dksX2_passNight_7 14 rfl rfl)
theorem dX2_passNight_178 : decode cX2_passNight 178 = .ok (.iadd, 1) := dk_96 (dk_at dksX2_passNight_7 15 rfl rfl)
theorem dX2_passNight_179 : decode cX2_passNight 179 = .ok (.putfield 80, 3) := dk_181 0 80 (dk_at dksX2_passNight_7 16 rfl rfl)
theorem dX2_passNight_182 : decode cX2_passNight 182 = .ok (.iinc 1 1, 3) := dk_132 1 1 (dk_at dksX2_passNight_7 19 rfl rfl)
theorem dX2_passNight_185 : decode cX2_passNight 185 = .ok (.goto (-72), 3) := dk_167 255 184 (dk_at dksX2_passNight_8 0 rfl rfl)
theorem dX2_passNight_188 : decode cX2_passNight 188 = .ok (.return_, 1) := dk_177 (dk_at dksX2_passNight_8 3 rfl rfl)
abbrev cX2_work : ByteArray := prog_18_method_26_code
def yX2_work : MethodName := ⟨RX2, "work", "(LGoblinHousehold$Goblin;)V"⟩
def dkwX2_work_3 : List UInt8 := [182, 0, 184, 42, 45, 182, 0, 243, 42, 43, 182, 0, 231, 182, 0, 233, 78, 167, 255, 184, 177]
abbrev dktX2_work_3 : List UInt8 := dkwX2_work_3 ++ []
def dkwX2_work_2 : List UInt8 := [180, 0, 152, 46, 42, 182, 0, 239, 100, 184, 0, 99, 79, 42, 187, 0, 219, 89, 45, 183, 0, 242]
abbrev dktX2_work_2 : List UInt8 := dkwX2_work_2 ++ dktX2_work_3
def dkwX2_work_1 : List UInt8 := [163, 0, 66, 28, 45, 180, 0, 236, 100, 61, 42, 180, 0, 9, 45, 180, 0, 152, 3, 42, 180, 0, 9, 45]
abbrev dktX2_work_1 : List UInt8 := dkwX2_work_1 ++ dktX2_work_2
def dkwX2_work_0 : List UInt8 := [42, 43, 182, 0, 227, 61, 42, 43, 182, 0, 231, 182, 0, 233, 78, 45, 198, 0, 74, 45, 180, 0, 236, 28]
abbrev dktX2_work_0 : List UInt8 := dkwX2_work_0 ++ dktX2_work_1
theorem dksX2_work_0 : cX2_work.data.toList.drop 0 = dktX2_work_0 := by decide +kernel
theorem dksX2_work_1 : cX2_work.data.toList.drop 24 = dktX2_work_1 := dk_seg dksX2_work_0 24 rfl rfl
theorem dksX2_work_2 : cX2_work.data.toList.drop 48 = dktX2_work_2 := dk_seg dksX2_work_1 24 rfl rfl
theorem dksX2_work_3 : cX2_work.data.toList.drop 70 = dktX2_work_3 := dk_seg dksX2_work_2 22 rfl rfl
theorem dX2_work_0 : decode cX2_work 0 = .ok (.aload_n 0, 1) := dk_42 (dk_at dksX2_work_0 0 rfl rfl)
theorem dX2_work_1 : decode cX2_work 1 = .ok (.aload_n 1, 1) := dk_43 (dk_at dksX2_work_0 1 rfl rfl)
theorem dX2_work_2 : decode cX2_work 2 = .ok (.invokevirtual 227, 3) := dk_182 0 227 (dk_at dksX2_work_0 2 rfl rfl)
theorem dX2_work_5 : decode cX2_work 5 = .ok (.istore_n 2, 1) := dk_61 (dk_at dksX2_work_0 5 rfl rfl)
theorem dX2_work_6 : decode cX2_work 6 = .ok (.aload_n 0, 1) := dk_42 (dk_at dksX2_work_0 6 rfl rfl)
theorem dX2_work_7 : decode cX2_work 7 = .ok (.aload_n 1, 1) := dk_43 (dk_at dksX2_work_0 7 rfl rfl)
theorem dX2_work_8 : decode cX2_work 8 = .ok (.invokevirtual 231, 3) := dk_182 0 231 (dk_at dksX2_work_0 8 rfl rfl)
theorem dX2_work_11 : decode cX2_work 11 = .ok (.invokevirtual 233, 3) := dk_182 0 233 (dk_at dksX2_work_0 11 rfl rfl)
theorem dX2_work_14 : decode cX2_work 14 = .ok (.astore_n 3, 1) := dk_78 (dk_at dksX2_work_0 14 rfl rfl)
theorem dX2_work_15 : decode cX2_work 15 = .ok (.aload_n 3, 1) := dk_45 (dk_at dksX2_work_0 15 rfl rfl)
theorem dX2_work_16 : decode cX2_work 16 = .ok (.ifnull 74, 3) := dk_198 0 74 (dk_at dksX2_work_0 16 rfl rfl)
theorem dX2_work_19 : decode cX2_work 19 = .ok (.aload_n 3, 1) := dk_45 (dk_at dksX2_work_0 19 rfl rfl)
theorem dX2_work_20 : decode cX2_work 20 = .ok (.getfield 236, 3) := dk_180 0 236 (dk_at dksX2_work_0 20 rfl rfl)
theorem dX2_work_23 : decode cX2_work 23 = .ok (.iload_n 2, 1) := dk_28 (dk_at dksX2_work_0 23 rfl rfl)
theorem dX2_work_24 : decode cX2_work 24 = .ok (.if_icmp .gt 66, 3) := dk_163 0 66 (dk_at dksX2_work_1 0 rfl rfl)
theorem dX2_work_27 : decode cX2_work 27 = .ok (.iload_n 2, 1) := dk_28 (dk_at dksX2_work_1 3 rfl rfl)
theorem dX2_work_28 : decode cX2_work 28 = .ok (.aload_n 3, 1) := dk_45 (dk_at dksX2_work_1 4 rfl rfl)
theorem dX2_work_29 : decode cX2_work 29 = .ok (.getfield 236, 3) := dk_180 0 236 (dk_at dksX2_work_1 5 rfl rfl)
theorem dX2_work_32 : decode cX2_work 32 = .ok (.isub, 1) := dk_100 (dk_at dksX2_work_1 8 rfl rfl)
theorem dX2_work_33 : decode cX2_work 33 = .ok (.istore_n 2, 1) := dk_61 (dk_at dksX2_work_1 9 rfl rfl)
theorem dX2_work_34 : decode cX2_work 34 = .ok (.aload_n 0, 1) := dk_42 (dk_at dksX2_work_1 10 rfl rfl)
theorem dX2_work_35 : decode cX2_work 35 = .ok (.getfield 9, 3) := dk_180 0 9 (dk_at dksX2_work_1 11 rfl rfl)
theorem dX2_work_38 : decode cX2_work 38 = .ok (.aload_n 3, 1) := dk_45 (dk_at dksX2_work_1 14 rfl rfl)
theorem dX2_work_39 : decode cX2_work 39 = .ok (.getfield 152, 3) := dk_180 0 152 (dk_at dksX2_work_1 15 rfl rfl)
theorem dX2_work_42 : decode cX2_work 42 = .ok (.iconst 0, 1) := dk_3 (dk_at dksX2_work_1 18 rfl rfl)
theorem dX2_work_43 : decode cX2_work 43 = .ok (.aload_n 0, 1) := dk_42 (dk_at dksX2_work_1 19 rfl rfl)
theorem dX2_work_44 : decode cX2_work 44 = .ok (.getfield 9, 3) := dk_180 0 9 (dk_at dksX2_work_1 20 rfl rfl)
theorem dX2_work_47 : decode cX2_work 47 = .ok (.aload_n 3, 1) := dk_45 (dk_at dksX2_work_1 23 rfl rfl)
theorem dX2_work_48 : decode cX2_work 48 = .ok (.getfield 152, 3) := dk_180 0 152 (dk_at dksX2_work_2 0 rfl rfl)
theorem dX2_work_51 : decode cX2_work 51 = .ok (.iaload, 1) := dk_46 (dk_at dksX2_work_2 3 rfl rfl)
theorem dX2_work_52 : decode cX2_work 52 = .ok (.aload_n 0, 1) := dk_42 (dk_at dksX2_work_2 4 rfl rfl)
theorem dX2_work_53 : decode cX2_work 53 = .ok (.invokevirtual 239, 3) := dk_182 0 239 (dk_at dksX2_work_2 5 rfl rfl)
theorem dX2_work_56 : decode cX2_work 56 = .ok (.isub, 1) := dk_100 (dk_at dksX2_work_2 8 rfl rfl)
theorem dX2_work_57 : decode cX2_work 57 = .ok (.invokestatic 99, 3) := dk_184 0 99 (dk_at dksX2_work_2 9 rfl rfl)
theorem dX2_work_60 : decode cX2_work 60 = .ok (.iastore, 1) := dk_79 (dk_at dksX2_work_2 12 rfl rfl)
theorem dX2_work_61 : decode cX2_work 61 = .ok (.aload_n 0, 1) := dk_42 (dk_at dksX2_work_2 13 rfl rfl)
theorem dX2_work_62 : decode cX2_work 62 = .ok (.new 219, 3) := dk_187 0 219 (dk_at dksX2_work_2 14 rfl rfl)
theorem dX2_work_65 : decode cX2_work 65 = .ok (.dup, 1) := dk_89 (dk_at dksX2_work_2 17 rfl rfl)
theorem dX2_work_66 : decode cX2_work 66 = .ok (.aload_n 3, 1) := dk_45 (dk_at dksX2_work_2 18 rfl rfl)
theorem dX2_work_67 : decode cX2_work 67 = .ok (.invokespecial 242, 3) := dk_183 0 242 (dk_at dksX2_work_2 19 rfl rfl)
theorem dX2_work_70 : decode cX2_work 70 = .ok (.invokevirtual 184, 3) := dk_182 0 184 (dk_at dksX2_work_3 0 rfl rfl)
theorem dX2_work_73 : decode cX2_work 73 = .ok (.aload_n 0, 1) := dk_42 (dk_at dksX2_work_3 3 rfl rfl)
theorem dX2_work_74 : decode cX2_work 74 = .ok (.aload_n 3, 1) := dk_45 (dk_at dksX2_work_3 4 rfl rfl)
theorem dX2_work_75 : decode cX2_work 75 = .ok (.invokevirtual 243, 3) := dk_182 0 243 (dk_at dksX2_work_3 5 rfl rfl)
theorem dX2_work_78 : decode cX2_work 78 = .ok (.aload_n 0, 1) := dk_42 (dk_at dksX2_work_3 8 rfl rfl)
theorem dX2_work_79 : decode cX2_work 79 = .ok (.aload_n 1, 1) := dk_43 (dk_at dksX2_work_3 9 rfl rfl)
theorem dX2_work_80 : decode cX2_work 80 = .ok (.invokevirtual 231, 3) := dk_182 0 231 (dk_at dksX2_work_3 10 rfl rfl)
theorem dX2_work_83 : decode cX2_work 83 = .ok (.invokevirtual 233, 3) := dk_182 0 233 (dk_at dksX2_work_3 13 rfl rfl)
theorem dX2_work_86 : decode cX2_work 86 = .ok (.astore_n 3, 1) := dk_78 (dk_at dksX2_work_3 16 rfl rfl)
theorem dX2_work_87 : decode cX2_work 87 = .ok (.goto (-72), 3) := dk_167 255 184 (dk_at dksX2_work_3 17 rfl rfl)
theorem dX2_work_90 : decode cX2_work 90 = .ok (.return_, 1) := dk_177 (dk_at dksX2_work_3 20 rfl rfl)
abbrev cX2_firstOf : ByteArray := prog_18_method_25_code
def yX2_firstOf : MethodName := ⟨RX2, "firstOf", "(I)LGoblinHousehold$Contract;"⟩
def dkwX2_firstOf_2 : List UInt8 := [185, 0, 49, 2, 0, 192, 0, 53, 176, 132, 2, 1, 167, 255, 206, 1, 176]
abbrev dktX2_firstOf_2 : List UInt8 := dkwX2_firstOf_2 ++ []
def dkwX2_firstOf_1 : List UInt8 := [185, 0, 49, 2, 0, 192, 0, 53, 180, 0, 149, 27, 160, 0, 17, 42, 180, 0, 25, 28]
abbrev dktX2_firstOf_1 : List UInt8 := dkwX2_firstOf_1 ++ dktX2_firstOf_2
def dkwX2_firstOf_0 : List UInt8 := [3, 61, 28, 42, 180, 0, 25, 185, 0, 43, 1, 0, 162, 0, 43, 42, 180, 0, 25, 28]
abbrev dktX2_firstOf_0 : List UInt8 := dkwX2_firstOf_0 ++ dktX2_firstOf_1
theorem dksX2_firstOf_0 : cX2_firstOf.data.toList.drop 0 = dktX2_firstOf_0 := by decide +kernel
theorem dksX2_firstOf_1 : cX2_firstOf.data.toList.drop 20 = dktX2_firstOf_1 := dk_seg dksX2_firstOf_0 20 rfl rfl
theorem dksX2_firstOf_2 : cX2_firstOf.data.toList.drop 40 = dktX2_firstOf_2 := dk_seg dksX2_firstOf_1 20 rfl rfl
theorem dX2_firstOf_0 : decode cX2_firstOf 0 = .ok (.iconst 0, 1) := dk_3 (dk_at dksX2_firstOf_0 0 rfl rfl)
theorem dX2_firstOf_1 : decode cX2_firstOf 1 = .ok (.istore_n 2, 1) := dk_61 (dk_at dksX2_firstOf_0 1 rfl rfl)
theorem dX2_firstOf_2 : decode cX2_firstOf 2 = .ok (.iload_n 2, 1) := dk_28 (dk_at dksX2_firstOf_0 2 rfl rfl)
theorem dX2_firstOf_3 : decode cX2_firstOf 3 = .ok (.aload_n 0, 1) := dk_42 (dk_at dksX2_firstOf_0 3 rfl rfl)
theorem dX2_firstOf_4 : decode cX2_firstOf 4 = .ok (.getfield 25, 3) := dk_180 0 25 (dk_at dksX2_firstOf_0 4 rfl rfl)
theorem dX2_firstOf_7 : decode cX2_firstOf 7 = .ok (.invokeinterface 43 1, 5) := by decide +kernel
theorem dX2_firstOf_12 : decode cX2_firstOf 12 = .ok (.if_icmp .ge 43, 3) := dk_162 0 43 (dk_at dksX2_firstOf_0 12 rfl rfl)
theorem dX2_firstOf_15 : decode cX2_firstOf 15 = .ok (.aload_n 0, 1) := dk_42 (dk_at dksX2_firstOf_0 15 rfl rfl)
theorem dX2_firstOf_16 : decode cX2_firstOf 16 = .ok (.getfield 25, 3) := dk_180 0 25 (dk_at dksX2_firstOf_0 16 rfl rfl)
theorem dX2_firstOf_19 : decode cX2_firstOf 19 = .ok (.iload_n 2, 1) := dk_28 (dk_at dksX2_firstOf_0 19 rfl rfl)
theorem dX2_firstOf_20 : decode cX2_firstOf 20 = .ok (.invokeinterface 49 2, 5) := by decide +kernel
theorem dX2_firstOf_25 : decode cX2_firstOf 25 = .ok (.checkcast 53, 3) := dk_192 0 53 (dk_at dksX2_firstOf_1 5 rfl rfl)
theorem dX2_firstOf_28 : decode cX2_firstOf 28 = .ok (.getfield 149, 3) := dk_180 0 149 (dk_at dksX2_firstOf_1 8 rfl rfl)
theorem dX2_firstOf_31 : decode cX2_firstOf 31 = .ok (.iload_n 1, 1) := dk_27 (dk_at dksX2_firstOf_1 11 rfl rfl)
theorem dX2_firstOf_32 : decode cX2_firstOf 32 = .ok (.if_icmp .ne 17, 3) := dk_160 0 17 (dk_at dksX2_firstOf_1 12 rfl rfl)
theorem dX2_firstOf_35 : decode cX2_firstOf 35 = .ok (.aload_n 0, 1) := dk_42 (dk_at dksX2_firstOf_1 15 rfl rfl)
theorem dX2_firstOf_36 : decode cX2_firstOf 36 = .ok (.getfield 25, 3) := dk_180 0 25 (dk_at dksX2_firstOf_1 16 rfl rfl)
theorem dX2_firstOf_39 : decode cX2_firstOf 39 = .ok (.iload_n 2, 1) := dk_28 (dk_at dksX2_firstOf_1 19 rfl rfl)
theorem dX2_firstOf_40 : decode cX2_firstOf 40 = .ok (.invokeinterface 49 2, 5) := by decide +kernel
theorem dX2_firstOf_45 : decode cX2_firstOf 45 = .ok (.checkcast 53, 3) := dk_192 0 53 (dk_at dksX2_firstOf_2 5 rfl rfl)
theorem dX2_firstOf_48 : decode cX2_firstOf 48 = .ok (.areturn, 1) := dk_176 (dk_at dksX2_firstOf_2 8 rfl rfl)
theorem dX2_firstOf_49 : decode cX2_firstOf 49 = .ok (.iinc 2 1, 3) := dk_132 2 1 (dk_at dksX2_firstOf_2 9 rfl rfl)
theorem dX2_firstOf_52 : decode cX2_firstOf 52 = .ok (.goto (-50), 3) := dk_167 255 206 (dk_at dksX2_firstOf_2 12 rfl rfl)
theorem dX2_firstOf_55 : decode cX2_firstOf 55 = .ok (.aconst_null, 1) := dk_1 (dk_at dksX2_firstOf_2 15 rfl rfl)
theorem dX2_firstOf_56 : decode cX2_firstOf 56 = .ok (.areturn, 1) := dk_176 (dk_at dksX2_firstOf_2 16 rfl rfl)
abbrev cX2_sweepingPower : ByteArray := prog_18_method_7_code
def yX2_sweepingPower : MethodName := ⟨RX2, "sweepingPower", "()I"⟩
def dkwX2_sweepingPower_2 : List UInt8 := [96, 172]
abbrev dktX2_sweepingPower_2 : List UInt8 := dkwX2_sweepingPower_2 ++ []
def dkwX2_sweepingPower_1 : List UInt8 := [185, 0, 49, 2, 0, 192, 0, 90, 182, 0, 96, 184, 0, 99, 60, 132, 2, 1, 167, 255, 219, 16, 10, 27]
abbrev dktX2_sweepingPower_1 : List UInt8 := dkwX2_sweepingPower_1 ++ dktX2_sweepingPower_2
def dkwX2_sweepingPower_0 : List UInt8 := [3, 60, 3, 61, 28, 42, 180, 0, 18, 185, 0, 43, 1, 0, 162, 0, 30, 27, 42, 180, 0, 18, 28]
abbrev dktX2_sweepingPower_0 : List UInt8 := dkwX2_sweepingPower_0 ++ dktX2_sweepingPower_1
theorem dksX2_sweepingPower_0 : cX2_sweepingPower.data.toList.drop 0 = dktX2_sweepingPower_0 := by decide +kernel
theorem dksX2_sweepingPower_1 : cX2_sweepingPower.data.toList.drop 23 = dktX2_sweepingPower_1 := dk_seg dksX2_sweepingPower_0 23 rfl rfl
theorem dksX2_sweepingPower_2 : cX2_sweepingPower.data.toList.drop 47 = dktX2_sweepingPower_2 := dk_seg dksX2_sweepingPower_1 24 rfl rfl
theorem dX2_sweepingPower_0 : decode cX2_sweepingPower 0 = .ok (.iconst 0, 1) := dk_3 (dk_at dksX2_sweepingPower_0 0 rfl rfl)
theorem dX2_sweepingPower_1 : decode cX2_sweepingPower 1 = .ok (.istore_n 1, 1) := dk_60 (dk_at dksX2_sweepingPower_0 1 rfl rfl)
theorem dX2_sweepingPower_2 : decode cX2_sweepingPower 2 = .ok (.iconst 0, 1) := dk_3 (dk_at dksX2_sweepingPower_0 2 rfl rfl)
theorem dX2_sweepingPower_3 : decode cX2_sweepingPower 3 = .ok (.istore_n 2, 1) := dk_61 (dk_at dksX2_sweepingPower_0 3 rfl rfl)
theorem dX2_sweepingPower_4 : decode cX2_sweepingPower 4 = .ok (.iload_n 2, 1) := dk_28 (dk_at dksX2_sweepingPower_0 4 rfl rfl)
theorem dX2_sweepingPower_5 : decode cX2_sweepingPower 5 = .ok (.aload_n 0, 1) := dk_42 (dk_at dksX2_sweepingPower_0 5 rfl rfl)
theorem dX2_sweepingPower_6 : decode cX2_sweepingPower 6 = .ok (.getfield 18, 3) := dk_180 0 18 (dk_at dksX2_sweepingPower_0 6 rfl rfl)
theorem dX2_sweepingPower_9 : decode cX2_sweepingPower 9 = .ok (.invokeinterface 43 1, 5) := by decide +kernel
theorem dX2_sweepingPower_14 : decode cX2_sweepingPower 14 = .ok (.if_icmp .ge 30, 3) := dk_162 0 30 (dk_at dksX2_sweepingPower_0 14 rfl rfl)
theorem dX2_sweepingPower_17 : decode cX2_sweepingPower 17 = .ok (.iload_n 1, 1) := dk_27 (dk_at dksX2_sweepingPower_0 17 rfl rfl)
theorem dX2_sweepingPower_18 : decode cX2_sweepingPower 18 = .ok (.aload_n 0, 1) := dk_42 (dk_at dksX2_sweepingPower_0 18 rfl rfl)
theorem dX2_sweepingPower_19 : decode cX2_sweepingPower 19 = .ok (.getfield 18, 3) := dk_180 0 18 (dk_at dksX2_sweepingPower_0 19 rfl rfl)
theorem dX2_sweepingPower_22 : decode cX2_sweepingPower 22 = .ok (.iload_n 2, 1) := dk_28 (dk_at dksX2_sweepingPower_0 22 rfl rfl)
theorem dX2_sweepingPower_23 : decode cX2_sweepingPower 23 = .ok (.invokeinterface 49 2, 5) := by decide +kernel
theorem dX2_sweepingPower_28 : decode cX2_sweepingPower 28 = .ok (.checkcast 90, 3) := dk_192 0 90 (dk_at dksX2_sweepingPower_1 5 rfl rfl)
theorem dX2_sweepingPower_31 : decode cX2_sweepingPower 31 = .ok (.invokevirtual 96, 3) := dk_182 0 96 (dk_at dksX2_sweepingPower_1 8 rfl rfl)
theorem dX2_sweepingPower_34 : decode cX2_sweepingPower 34 = .ok (.invokestatic 99, 3) := dk_184 0 99 (dk_at dksX2_sweepingPower_1 11 rfl rfl)
theorem dX2_sweepingPower_37 : decode cX2_sweepingPower 37 = .ok (.istore_n 1, 1) := dk_60 (dk_at dksX2_sweepingPower_1 14 rfl rfl)
theorem dX2_sweepingPower_38 : decode cX2_sweepingPower 38 = .ok (.iinc 2 1, 3) := dk_132 2 1 (dk_at dksX2_sweepingPower_1 15 rfl rfl)
theorem dX2_sweepingPower_41 : decode cX2_sweepingPower 41 = .ok (.goto (-37), 3) := dk_167 255 219 (dk_at dksX2_sweepingPower_1 18 rfl rfl)
theorem dX2_sweepingPower_44 : decode cX2_sweepingPower 44 = .ok (.bipush 10, 2) := dk_16 10 (dk_at dksX2_sweepingPower_1 21 rfl rfl)
theorem dX2_sweepingPower_46 : decode cX2_sweepingPower 46 = .ok (.iload_n 1, 1) := dk_27 (dk_at dksX2_sweepingPower_1 23 rfl rfl)
theorem dX2_sweepingPower_47 : decode cX2_sweepingPower 47 = .ok (.iadd, 1) := dk_96 (dk_at dksX2_sweepingPower_2 0 rfl rfl)
theorem dX2_sweepingPower_48 : decode cX2_sweepingPower 48 = .ok (.ireturn, 1) := dk_172 (dk_at dksX2_sweepingPower_2 1 rfl rfl)
abbrev cX2_pay : ByteArray := prog_18_method_24_code
def yX2_pay : MethodName := ⟨RX2, "pay", "(LGoblinHousehold$Contract;)V"⟩
def dkwX2_pay_2 : List UInt8 := [180, 0, 149, 185, 0, 49, 2, 0, 192, 0, 106, 28, 182, 0, 223, 96, 181, 0, 28, 177]
abbrev dktX2_pay_2 : List UInt8 := dkwX2_pay_2 ++ []
def dkwX2_pay_1 : List UInt8 := [181, 0, 77, 42, 89, 180, 0, 28, 28, 100, 181, 0, 28, 42, 89, 180, 0, 28, 42, 180, 0, 22, 43]
abbrev dktX2_pay_1 : List UInt8 := dkwX2_pay_1 ++ dktX2_pay_2
def dkwX2_pay_0 : List UInt8 := [42, 180, 0, 28, 43, 180, 0, 173, 184, 0, 176, 61, 42, 89, 180, 0, 77, 43, 180, 0, 173, 28, 100, 96]
abbrev dktX2_pay_0 : List UInt8 := dkwX2_pay_0 ++ dktX2_pay_1
theorem dksX2_pay_0 : cX2_pay.data.toList.drop 0 = dktX2_pay_0 := by decide +kernel
theorem dksX2_pay_1 : cX2_pay.data.toList.drop 24 = dktX2_pay_1 := dk_seg dksX2_pay_0 24 rfl rfl
theorem dksX2_pay_2 : cX2_pay.data.toList.drop 47 = dktX2_pay_2 := dk_seg dksX2_pay_1 23 rfl rfl
theorem dX2_pay_0 : decode cX2_pay 0 = .ok (.aload_n 0, 1) := dk_42 (dk_at dksX2_pay_0 0 rfl rfl)
theorem dX2_pay_1 : decode cX2_pay 1 = .ok (.getfield 28, 3) := dk_180 0 28 (dk_at dksX2_pay_0 1 rfl rfl)
theorem dX2_pay_4 : decode cX2_pay 4 = .ok (.aload_n 1, 1) := dk_43 (dk_at dksX2_pay_0 4 rfl rfl)
theorem dX2_pay_5 : decode cX2_pay 5 = .ok (.getfield 173, 3) := dk_180 0 173 (dk_at dksX2_pay_0 5 rfl rfl)
theorem dX2_pay_8 : decode cX2_pay 8 = .ok (.invokestatic 176, 3) := dk_184 0 176 (dk_at dksX2_pay_0 8 rfl rfl)
theorem dX2_pay_11 : decode cX2_pay 11 = .ok (.istore_n 2, 1) := dk_61 (dk_at dksX2_pay_0 11 rfl rfl)
theorem dX2_pay_12 : decode cX2_pay 12 = .ok (.aload_n 0, 1) := dk_42 (dk_at dksX2_pay_0 12 rfl rfl)
theorem dX2_pay_13 : decode cX2_pay 13 = .ok (.dup, 1) := dk_89 (dk_at dksX2_pay_0 13 rfl rfl)
theorem dX2_pay_14 : decode cX2_pay 14 = .ok (.getfield 77, 3) := dk_180 0 77 (dk_at dksX2_pay_0 14 rfl rfl)
theorem dX2_pay_17 : decode cX2_pay 17 = .ok (.aload_n 1, 1) := dk_43 (dk_at dksX2_pay_0 17 rfl rfl)
theorem dX2_pay_18 : decode cX2_pay 18 = .ok (.getfield 173, 3) := dk_180 0 173 (dk_at dksX2_pay_0 18 rfl rfl)
theorem dX2_pay_21 : decode cX2_pay 21 = .ok (.iload_n 2, 1) := dk_28 (dk_at dksX2_pay_0 21 rfl rfl)
theorem dX2_pay_22 : decode cX2_pay 22 = .ok (.isub, 1) := dk_100 (dk_at dksX2_pay_0 22 rfl rfl)
theorem dX2_pay_23 : decode cX2_pay 23 = .ok (.iadd, 1) := dk_96 (dk_at dksX2_pay_0 23 rfl rfl)
theorem dX2_pay_24 : decode cX2_pay 24 = .ok (.putfield 77, 3) := dk_181 0 77 (dk_at dksX2_pay_1 0 rfl rfl)
theorem dX2_pay_27 : decode cX2_pay 27 = .ok (.aload_n 0, 1) := dk_42 (dk_at dksX2_pay_1 3 rfl rfl)
theorem dX2_pay_28 : decode cX2_pay 28 = .ok (.dup, 1) := dk_89 (dk_at dksX2_pay_1 4 rfl rfl)
theorem dX2_pay_29 : decode cX2_pay 29 = .ok (.getfield 28, 3) := dk_180 0 28 (dk_at dksX2_pay_1 5 rfl rfl)
theorem dX2_pay_32 : decode cX2_pay 32 = .ok (.iload_n 2, 1) := dk_28 (dk_at dksX2_pay_1 8 rfl rfl)
theorem dX2_pay_33 : decode cX2_pay 33 = .ok (.isub, 1) := dk_100 (dk_at dksX2_pay_1 9 rfl rfl)
theorem dX2_pay_34 : decode cX2_pay 34 = .ok (.putfield 28, 3) := dk_181 0 28 (dk_at dksX2_pay_1 10 rfl rfl)
theorem dX2_pay_37 : decode cX2_pay 37 = .ok (.aload_n 0, 1) := dk_42 (dk_at dksX2_pay_1 13 rfl rfl)
theorem dX2_pay_38 : decode cX2_pay 38 = .ok (.dup, 1) := dk_89 (dk_at dksX2_pay_1 14 rfl rfl)
theorem dX2_pay_39 : decode cX2_pay 39 = .ok (.getfield 28, 3) := dk_180 0 28 (dk_at dksX2_pay_1 15 rfl rfl)
theorem dX2_pay_42 : decode cX2_pay 42 = .ok (.aload_n 0, 1) := dk_42 (dk_at dksX2_pay_1 18 rfl rfl)
theorem dX2_pay_43 : decode cX2_pay 43 = .ok (.getfield 22, 3) := dk_180 0 22 (dk_at dksX2_pay_1 19 rfl rfl)
theorem dX2_pay_46 : decode cX2_pay 46 = .ok (.aload_n 1, 1) := dk_43 (dk_at dksX2_pay_1 22 rfl rfl)
theorem dX2_pay_47 : decode cX2_pay 47 = .ok (.getfield 149, 3) := dk_180 0 149 (dk_at dksX2_pay_2 0 rfl rfl)
theorem dX2_pay_50 : decode cX2_pay 50 = .ok (.invokeinterface 49 2, 5) := by decide +kernel
theorem dX2_pay_55 : decode cX2_pay 55 = .ok (.checkcast 106, 3) := dk_192 0 106 (dk_at dksX2_pay_2 8 rfl rfl)
theorem dX2_pay_58 : decode cX2_pay 58 = .ok (.iload_n 2, 1) := dk_28 (dk_at dksX2_pay_2 11 rfl rfl)
theorem dX2_pay_59 : decode cX2_pay 59 = .ok (.invokevirtual 223, 3) := dk_182 0 223 (dk_at dksX2_pay_2 12 rfl rfl)
theorem dX2_pay_62 : decode cX2_pay 62 = .ok (.iadd, 1) := dk_96 (dk_at dksX2_pay_2 15 rfl rfl)
theorem dX2_pay_63 : decode cX2_pay 63 = .ok (.putfield 28, 3) := dk_181 0 28 (dk_at dksX2_pay_2 16 rfl rfl)
theorem dX2_pay_66 : decode cX2_pay 66 = .ok (.return_, 1) := dk_177 (dk_at dksX2_pay_2 19 rfl rfl)
abbrev cX2_breakContracts : ByteArray := prog_18_method_27_code
def yX2_breakContracts : MethodName := ⟨RX2, "breakContracts", "(LGoblinHousehold$Goblin;)V"⟩
def dkwX2_breakContracts_1 : List UInt8 := [187, 0, 221, 89, 44, 183, 0, 246, 182, 0, 184, 42, 43, 182, 0, 231, 182, 0, 233, 77, 167, 255, 223, 177]
abbrev dktX2_breakContracts_1 : List UInt8 := dkwX2_breakContracts_1 ++ []
def dkwX2_breakContracts_0 : List UInt8 := [42, 43, 182, 0, 231, 182, 0, 233, 77, 43, 180, 0, 198, 6, 161, 0, 31, 44, 198, 0, 27, 42]
abbrev dktX2_breakContracts_0 : List UInt8 := dkwX2_breakContracts_0 ++ dktX2_breakContracts_1
theorem dksX2_breakContracts_0 : cX2_breakContracts.data.toList.drop 0 = dktX2_breakContracts_0 := by decide +kernel
theorem dksX2_breakContracts_1 : cX2_breakContracts.data.toList.drop 22 = dktX2_breakContracts_1 := dk_seg dksX2_breakContracts_0 22 rfl rfl
theorem dX2_breakContracts_0 : decode cX2_breakContracts 0 = .ok (.aload_n 0, 1) := dk_42 (dk_at dksX2_breakContracts_0 0 rfl rfl)
theorem dX2_breakContracts_1 : decode cX2_breakContracts 1 = .ok (.aload_n 1, 1) := dk_43 (dk_at dksX2_breakContracts_0 1 rfl rfl)
theorem dX2_breakContracts_2 : decode cX2_breakContracts 2 = .ok (.invokevirtual 231, 3) := dk_182 0 231 (dk_at dksX2_breakContracts_0 2 rfl rfl)
theorem dX2_breakContracts_5 : decode cX2_breakContracts 5 = .ok (.invokevirtual 233, 3) := dk_182 0 233 (dk_at dksX2_breakContracts_0 5 rfl rfl)
theorem dX2_breakContracts_8 : decode cX2_breakContracts 8 = .ok (.astore_n 2, 1) := dk_77 (dk_at dksX2_breakContracts_0 8 rfl rfl)
theorem dX2_breakContracts_9 : decode cX2_breakContracts 9 = .ok (.aload_n 1, 1) := dk_43 (dk_at dksX2_breakContracts_0 9 rfl rfl)
theorem dX2_breakContracts_10 : decode cX2_breakContracts 10 = .ok (.getfield 198, 3) := dk_180 0 198 (dk_at dksX2_breakContracts_0 10 rfl rfl)
theorem dX2_breakContracts_13 : decode cX2_breakContracts 13 = .ok (.iconst 3, 1) := dk_6 (dk_at dksX2_breakContracts_0 13 rfl rfl)
theorem dX2_breakContracts_14 : decode cX2_breakContracts 14 = .ok (.if_icmp .lt 31, 3) := dk_161 0 31 (dk_at dksX2_breakContracts_0 14 rfl rfl)
theorem dX2_breakContracts_17 : decode cX2_breakContracts 17 = .ok (.aload_n 2, 1) := dk_44 (dk_at dksX2_breakContracts_0 17 rfl rfl)
theorem dX2_breakContracts_18 : decode cX2_breakContracts 18 = .ok (.ifnull 27, 3) := dk_198 0 27 (dk_at dksX2_breakContracts_0 18 rfl rfl)
theorem dX2_breakContracts_21 : decode cX2_breakContracts 21 = .ok (.aload_n 0, 1) := dk_42 (dk_at dksX2_breakContracts_0 21 rfl rfl)
theorem dX2_breakContracts_22 : decode cX2_breakContracts 22 = .ok (.new 221, 3) := dk_187 0 221 (dk_at dksX2_breakContracts_1 0 rfl rfl)
theorem dX2_breakContracts_25 : decode cX2_breakContracts 25 = .ok (.dup, 1) := dk_89 (dk_at dksX2_breakContracts_1 3 rfl rfl)
theorem dX2_breakContracts_26 : decode cX2_breakContracts 26 = .ok (.aload_n 2, 1) := dk_44 (dk_at dksX2_breakContracts_1 4 rfl rfl)
theorem dX2_breakContracts_27 : decode cX2_breakContracts 27 = .ok (.invokespecial 246, 3) := dk_183 0 246 (dk_at dksX2_breakContracts_1 5 rfl rfl)
theorem dX2_breakContracts_30 : decode cX2_breakContracts 30 = .ok (.invokevirtual 184, 3) := dk_182 0 184 (dk_at dksX2_breakContracts_1 8 rfl rfl)
theorem dX2_breakContracts_33 : decode cX2_breakContracts 33 = .ok (.aload_n 0, 1) := dk_42 (dk_at dksX2_breakContracts_1 11 rfl rfl)
theorem dX2_breakContracts_34 : decode cX2_breakContracts 34 = .ok (.aload_n 1, 1) := dk_43 (dk_at dksX2_breakContracts_1 12 rfl rfl)
theorem dX2_breakContracts_35 : decode cX2_breakContracts 35 = .ok (.invokevirtual 231, 3) := dk_182 0 231 (dk_at dksX2_breakContracts_1 13 rfl rfl)
theorem dX2_breakContracts_38 : decode cX2_breakContracts 38 = .ok (.invokevirtual 233, 3) := dk_182 0 233 (dk_at dksX2_breakContracts_1 16 rfl rfl)
theorem dX2_breakContracts_41 : decode cX2_breakContracts 41 = .ok (.astore_n 2, 1) := dk_77 (dk_at dksX2_breakContracts_1 19 rfl rfl)
theorem dX2_breakContracts_42 : decode cX2_breakContracts 42 = .ok (.goto (-33), 3) := dk_167 255 223 (dk_at dksX2_breakContracts_1 20 rfl rfl)
theorem dX2_breakContracts_45 : decode cX2_breakContracts 45 = .ok (.return_, 1) := dk_177 (dk_at dksX2_breakContracts_1 23 rfl rfl)
abbrev cX2_roomAt : ByteArray := prog_18_method_37_code
def yX2_roomAt : MethodName := ⟨RX2, "roomAt", "(I)I"⟩
def dkwX2_roomAt_3 : List UInt8 := [167, 255, 200, 29, 27, 160, 0, 5, 28, 172, 132, 2, 1, 167, 255, 176, 2, 172]
abbrev dktX2_roomAt_3 : List UInt8 := dkwX2_roomAt_3 ++ []
def dkwX2_roomAt_2 : List UInt8 := [180, 0, 9, 28, 46, 160, 0, 13, 21, 4, 28, 162, 0, 7, 4, 167, 0, 4, 3, 96, 62, 132, 4, 1]
abbrev dktX2_roomAt_2 : List UInt8 := dkwX2_roomAt_2 ++ dktX2_roomAt_3
def dkwX2_roomAt_1 : List UInt8 := [180, 0, 9, 21, 4, 46, 42, 180, 0, 9, 28, 46, 163, 0, 25, 42, 180, 0, 9, 21, 4, 46, 42]
abbrev dktX2_roomAt_1 : List UInt8 := dkwX2_roomAt_1 ++ dktX2_roomAt_2
def dkwX2_roomAt_0 : List UInt8 := [3, 61, 28, 16, 6, 162, 0, 80, 3, 62, 3, 54, 4, 21, 4, 16, 6, 162, 0, 55, 29, 42]
abbrev dktX2_roomAt_0 : List UInt8 := dkwX2_roomAt_0 ++ dktX2_roomAt_1
theorem dksX2_roomAt_0 : cX2_roomAt.data.toList.drop 0 = dktX2_roomAt_0 := by decide +kernel
theorem dksX2_roomAt_1 : cX2_roomAt.data.toList.drop 22 = dktX2_roomAt_1 := dk_seg dksX2_roomAt_0 22 rfl rfl
theorem dksX2_roomAt_2 : cX2_roomAt.data.toList.drop 45 = dktX2_roomAt_2 := dk_seg dksX2_roomAt_1 23 rfl rfl
theorem dksX2_roomAt_3 : cX2_roomAt.data.toList.drop 69 = dktX2_roomAt_3 := dk_seg dksX2_roomAt_2 24 rfl rfl
theorem dX2_roomAt_0 : decode cX2_roomAt 0 = .ok (.iconst 0, 1) := dk_3 (dk_at dksX2_roomAt_0 0 rfl rfl)
theorem dX2_roomAt_1 : decode cX2_roomAt 1 = .ok (.istore_n 2, 1) := dk_61 (dk_at dksX2_roomAt_0 1 rfl rfl)
theorem dX2_roomAt_2 : decode cX2_roomAt 2 = .ok (.iload_n 2, 1) := dk_28 (dk_at dksX2_roomAt_0 2 rfl rfl)
theorem dX2_roomAt_3 : decode cX2_roomAt 3 = .ok (.bipush 6, 2) := dk_16 6 (dk_at dksX2_roomAt_0 3 rfl rfl)
theorem dX2_roomAt_5 : decode cX2_roomAt 5 = .ok (.if_icmp .ge 80, 3) := dk_162 0 80 (dk_at dksX2_roomAt_0 5 rfl rfl)
theorem dX2_roomAt_8 : decode cX2_roomAt 8 = .ok (.iconst 0, 1) := dk_3 (dk_at dksX2_roomAt_0 8 rfl rfl)
theorem dX2_roomAt_9 : decode cX2_roomAt 9 = .ok (.istore_n 3, 1) := dk_62 (dk_at dksX2_roomAt_0 9 rfl rfl)
theorem dX2_roomAt_10 : decode cX2_roomAt 10 = .ok (.iconst 0, 1) := dk_3 (dk_at dksX2_roomAt_0 10 rfl rfl)
theorem dX2_roomAt_11 : decode cX2_roomAt 11 = .ok (.istore 4, 2) := dk_54 4 (dk_at dksX2_roomAt_0 11 rfl rfl)
theorem dX2_roomAt_13 : decode cX2_roomAt 13 = .ok (.iload 4, 2) := dk_21 4 (dk_at dksX2_roomAt_0 13 rfl rfl)
theorem dX2_roomAt_15 : decode cX2_roomAt 15 = .ok (.bipush 6, 2) := dk_16 6 (dk_at dksX2_roomAt_0 15 rfl rfl)
theorem dX2_roomAt_17 : decode cX2_roomAt 17 = .ok (.if_icmp .ge 55, 3) := dk_162 0 55 (dk_at dksX2_roomAt_0 17 rfl rfl)
theorem dX2_roomAt_20 : decode cX2_roomAt 20 = .ok (.iload_n 3, 1) := dk_29 (dk_at dksX2_roomAt_0 20 rfl rfl)
theorem dX2_roomAt_21 : decode cX2_roomAt 21 = .ok (.aload_n 0, 1) := dk_42 (dk_at dksX2_roomAt_0 21 rfl rfl)
theorem dX2_roomAt_22 : decode cX2_roomAt 22 = .ok (.getfield 9, 3) := dk_180 0 9 (dk_at dksX2_roomAt_1 0 rfl rfl)
theorem dX2_roomAt_25 : decode cX2_roomAt 25 = .ok (.iload 4, 2) := dk_21 4 (dk_at dksX2_roomAt_1 3 rfl rfl)
theorem dX2_roomAt_27 : decode cX2_roomAt 27 = .ok (.iaload, 1) := dk_46 (dk_at dksX2_roomAt_1 5 rfl rfl)
theorem dX2_roomAt_28 : decode cX2_roomAt 28 = .ok (.aload_n 0, 1) := dk_42 (dk_at dksX2_roomAt_1 6 rfl rfl)
theorem dX2_roomAt_29 : decode cX2_roomAt 29 = .ok (.getfield 9, 3) := dk_180 0 9 (dk_at dksX2_roomAt_1 7 rfl rfl)
theorem dX2_roomAt_32 : decode cX2_roomAt 32 = .ok (.iload_n 2, 1) := dk_28 (dk_at dksX2_roomAt_1 10 rfl rfl)
theorem dX2_roomAt_33 : decode cX2_roomAt 33 = .ok (.iaload, 1) := dk_46 (dk_at dksX2_roomAt_1 11 rfl rfl)
theorem dX2_roomAt_34 : decode cX2_roomAt 34 = .ok (.if_icmp .gt 25, 3) := dk_163 0 25 (dk_at dksX2_roomAt_1 12 rfl rfl)
theorem dX2_roomAt_37 : decode cX2_roomAt 37 = .ok (.aload_n 0, 1) := dk_42 (dk_at dksX2_roomAt_1 15 rfl rfl)
theorem dX2_roomAt_38 : decode cX2_roomAt 38 = .ok (.getfield 9, 3) := dk_180 0 9 (dk_at dksX2_roomAt_1 16 rfl rfl)
theorem dX2_roomAt_41 : decode cX2_roomAt 41 = .ok (.iload 4, 2) := dk_21 4 (dk_at dksX2_roomAt_1 19 rfl rfl)
theorem dX2_roomAt_43 : decode cX2_roomAt 43 = .ok (.iaload, 1) := dk_46 (dk_at dksX2_roomAt_1 21 rfl rfl)
theorem dX2_roomAt_44 : decode cX2_roomAt 44 = .ok (.aload_n 0, 1) := dk_42 (dk_at dksX2_roomAt_1 22 rfl rfl)
theorem dX2_roomAt_45 : decode cX2_roomAt 45 = .ok (.getfield 9, 3) := dk_180 0 9 (dk_at dksX2_roomAt_2 0 rfl rfl)
theorem dX2_roomAt_48 : decode cX2_roomAt 48 = .ok (.iload_n 2, 1) := dk_28 (dk_at dksX2_roomAt_2 3 rfl rfl)
theorem dX2_roomAt_49 : decode cX2_roomAt 49 = .ok (.iaload, 1) := dk_46 (dk_at dksX2_roomAt_2 4 rfl rfl)
theorem dX2_roomAt_50 : decode cX2_roomAt 50 = .ok (.if_icmp .ne 13, 3) := dk_160 0 13 (dk_at dksX2_roomAt_2 5 rfl rfl)
theorem dX2_roomAt_53 : decode cX2_roomAt 53 = .ok (.iload 4, 2) := dk_21 4 (dk_at dksX2_roomAt_2 8 rfl rfl)
theorem dX2_roomAt_55 : decode cX2_roomAt 55 = .ok (.iload_n 2, 1) := dk_28 (dk_at dksX2_roomAt_2 10 rfl rfl)
theorem dX2_roomAt_56 : decode cX2_roomAt 56 = .ok (.if_icmp .ge 7, 3) := dk_162 0 7 (dk_at dksX2_roomAt_2 11 rfl rfl)
theorem dX2_roomAt_59 : decode cX2_roomAt 59 = .ok (.iconst 1, 1) := dk_4 (dk_at dksX2_roomAt_2 14 rfl rfl)
theorem dX2_roomAt_60 : decode cX2_roomAt 60 = .ok (.goto 4, 3) := dk_167 0 4 (dk_at dksX2_roomAt_2 15 rfl rfl)
theorem dX2_roomAt_63 : decode cX2_roomAt 63 = .ok (.iconst 0, 1) := dk_3 (dk_at dksX2_roomAt_2 18 rfl rfl)
theorem dX2_roomAt_64 : decode cX2_roomAt 64 = .ok (.iadd, 1) := dk_96 (dk_at dksX2_roomAt_2 19 rfl rfl)
theorem dX2_roomAt_65 : decode cX2_roomAt 65 = .ok (.istore_n 3, 1) := dk_62 (dk_at dksX2_roomAt_2 20 rfl rfl)
theorem dX2_roomAt_66 : decode cX2_roomAt 66 = .ok (.iinc 4 1, 3) := dk_132 4 1 (dk_at dksX2_roomAt_2 21 rfl rfl)
theorem dX2_roomAt_69 : decode cX2_roomAt 69 = .ok (.goto (-56), 3) := dk_167 255 200 (dk_at dksX2_roomAt_3 0 rfl rfl)
theorem dX2_roomAt_72 : decode cX2_roomAt 72 = .ok (.iload_n 3, 1) := dk_29 (dk_at dksX2_roomAt_3 3 rfl rfl)
theorem dX2_roomAt_73 : decode cX2_roomAt 73 = .ok (.iload_n 1, 1) := dk_27 (dk_at dksX2_roomAt_3 4 rfl rfl)
theorem dX2_roomAt_74 : decode cX2_roomAt 74 = .ok (.if_icmp .ne 5, 3) := dk_160 0 5 (dk_at dksX2_roomAt_3 5 rfl rfl)
theorem dX2_roomAt_77 : decode cX2_roomAt 77 = .ok (.iload_n 2, 1) := dk_28 (dk_at dksX2_roomAt_3 8 rfl rfl)
theorem dX2_roomAt_78 : decode cX2_roomAt 78 = .ok (.ireturn, 1) := dk_172 (dk_at dksX2_roomAt_3 9 rfl rfl)
theorem dX2_roomAt_79 : decode cX2_roomAt 79 = .ok (.iinc 2 1, 3) := dk_132 2 1 (dk_at dksX2_roomAt_3 10 rfl rfl)
theorem dX2_roomAt_82 : decode cX2_roomAt 82 = .ok (.goto (-80), 3) := dk_167 255 176 (dk_at dksX2_roomAt_3 13 rfl rfl)
theorem dX2_roomAt_85 : decode cX2_roomAt 85 = .ok (.iconst (-1), 1) := dk_2 (dk_at dksX2_roomAt_3 16 rfl rfl)
theorem dX2_roomAt_86 : decode cX2_roomAt 86 = .ok (.ireturn, 1) := dk_172 (dk_at dksX2_roomAt_3 17 rfl rfl)
abbrev cX2_goblinAt : ByteArray := prog_18_method_38_code
def yX2_goblinAt : MethodName := ⟨RX2, "goblinAt", "(I)I"⟩
def dkwX2_goblinAt_4 : List UInt8 := [132, 2, 1, 167, 255, 161, 2, 172]
abbrev dktX2_goblinAt_4 : List UInt8 := dkwX2_goblinAt_4 ++ []
def dkwX2_goblinAt_3 : List UInt8 := [153, 0, 7, 4, 167, 0, 4, 3, 96, 62, 132, 4, 1, 167, 255, 192, 29, 27, 160, 0, 5, 28, 172]
abbrev dktX2_goblinAt_3 : List UInt8 := dkwX2_goblinAt_3 ++ dktX2_goblinAt_4
def dkwX2_goblinAt_2 : List UInt8 := [185, 0, 49, 2, 0, 192, 0, 106, 42, 180, 0, 22, 28, 185, 0, 49, 2, 0, 192, 0, 106, 182, 1, 27]
abbrev dktX2_goblinAt_2 : List UInt8 := dkwX2_goblinAt_2 ++ dktX2_goblinAt_3
def dkwX2_goblinAt_1 : List UInt8 := [180, 0, 22, 185, 0, 43, 1, 0, 162, 0, 56, 29, 21, 4, 28, 159, 0, 40, 42, 180, 0, 22, 21, 4]
abbrev dktX2_goblinAt_1 : List UInt8 := dkwX2_goblinAt_1 ++ dktX2_goblinAt_2
def dkwX2_goblinAt_0 : List UInt8 := [3, 61, 28, 42, 180, 0, 22, 185, 0, 43, 1, 0, 162, 0, 88, 3, 62, 3, 54, 4, 21, 4, 42]
abbrev dktX2_goblinAt_0 : List UInt8 := dkwX2_goblinAt_0 ++ dktX2_goblinAt_1
theorem dksX2_goblinAt_0 : cX2_goblinAt.data.toList.drop 0 = dktX2_goblinAt_0 := by decide +kernel
theorem dksX2_goblinAt_1 : cX2_goblinAt.data.toList.drop 23 = dktX2_goblinAt_1 := dk_seg dksX2_goblinAt_0 23 rfl rfl
theorem dksX2_goblinAt_2 : cX2_goblinAt.data.toList.drop 47 = dktX2_goblinAt_2 := dk_seg dksX2_goblinAt_1 24 rfl rfl
theorem dksX2_goblinAt_3 : cX2_goblinAt.data.toList.drop 71 = dktX2_goblinAt_3 := dk_seg dksX2_goblinAt_2 24 rfl rfl
theorem dksX2_goblinAt_4 : cX2_goblinAt.data.toList.drop 94 = dktX2_goblinAt_4 := dk_seg dksX2_goblinAt_3 23 rfl rfl
theorem dX2_goblinAt_0 : decode cX2_goblinAt 0 = .ok (.iconst 0, 1) := dk_3 (dk_at dksX2_goblinAt_0 0 rfl rfl)
theorem dX2_goblinAt_1 : decode cX2_goblinAt 1 = .ok (.istore_n 2, 1) := dk_61 (dk_at dksX2_goblinAt_0 1 rfl rfl)
theorem dX2_goblinAt_2 : decode cX2_goblinAt 2 = .ok (.iload_n 2, 1) := dk_28 (dk_at dksX2_goblinAt_0 2 rfl rfl)
theorem dX2_goblinAt_3 : decode cX2_goblinAt 3 = .ok (.aload_n 0, 1) := dk_42 (dk_at dksX2_goblinAt_0 3 rfl rfl)
theorem dX2_goblinAt_4 : decode cX2_goblinAt 4 = .ok (.getfield 22, 3) := dk_180 0 22 (dk_at dksX2_goblinAt_0 4 rfl rfl)
theorem dX2_goblinAt_7 : decode cX2_goblinAt 7 = .ok (.invokeinterface 43 1, 5) := by decide +kernel
theorem dX2_goblinAt_12 : decode cX2_goblinAt 12 = .ok (.if_icmp .ge 88, 3) := dk_162 0 88 (dk_at dksX2_goblinAt_0 12 rfl rfl)
theorem dX2_goblinAt_15 : decode cX2_goblinAt 15 = .ok (.iconst 0, 1) := dk_3 (dk_at dksX2_goblinAt_0 15 rfl rfl)
theorem dX2_goblinAt_16 : decode cX2_goblinAt 16 = .ok (.istore_n 3, 1) := dk_62 (dk_at dksX2_goblinAt_0 16 rfl rfl)
theorem dX2_goblinAt_17 : decode cX2_goblinAt 17 = .ok (.iconst 0, 1) := dk_3 (dk_at dksX2_goblinAt_0 17 rfl rfl)
theorem dX2_goblinAt_18 : decode cX2_goblinAt 18 = .ok (.istore 4, 2) := dk_54 4 (dk_at dksX2_goblinAt_0 18 rfl rfl)
theorem dX2_goblinAt_20 : decode cX2_goblinAt 20 = .ok (.iload 4, 2) := dk_21 4 (dk_at dksX2_goblinAt_0 20 rfl rfl)
theorem dX2_goblinAt_22 : decode cX2_goblinAt 22 = .ok (.aload_n 0, 1) := dk_42 (dk_at dksX2_goblinAt_0 22 rfl rfl)
theorem dX2_goblinAt_23 : decode cX2_goblinAt 23 = .ok (.getfield 22, 3) := dk_180 0 22 (dk_at dksX2_goblinAt_1 0 rfl rfl)
theorem dX2_goblinAt_26 : decode cX2_goblinAt 26 = .ok (.invokeinterface 43 1, 5) := by decide +kernel
theorem dX2_goblinAt_31 : decode cX2_goblinAt 31 = .ok (.if_icmp .ge 56, 3) := dk_162 0 56 (dk_at dksX2_goblinAt_1 8 rfl rfl)
theorem dX2_goblinAt_34 : decode cX2_goblinAt 34 = .ok (.iload_n 3, 1) := dk_29 (dk_at dksX2_goblinAt_1 11 rfl rfl)
theorem dX2_goblinAt_35 : decode cX2_goblinAt 35 = .ok (.iload 4, 2) := dk_21 4 (dk_at dksX2_goblinAt_1 12 rfl rfl)
theorem dX2_goblinAt_37 : decode cX2_goblinAt 37 = .ok (.iload_n 2, 1) := dk_28 (dk_at dksX2_goblinAt_1 14 rfl rfl)
theorem dX2_goblinAt_38 : decode cX2_goblinAt 38 = .ok (.if_icmp .eq 40, 3) := dk_159 0 40 (dk_at dksX2_goblinAt_1 15 rfl rfl)
theorem dX2_goblinAt_41 : decode cX2_goblinAt 41 = .ok (.aload_n 0, 1) := dk_42 (dk_at dksX2_goblinAt_1 18 rfl rfl)
theorem dX2_goblinAt_42 : decode cX2_goblinAt 42 = .ok (.getfield 22, 3) := dk_180 0 22 (dk_at dksX2_goblinAt_1 19 rfl rfl)
theorem dX2_goblinAt_45 : decode cX2_goblinAt 45 = .ok (.iload 4, 2) := dk_21 4 (dk_at dksX2_goblinAt_1 22 rfl rfl)
theorem dX2_goblinAt_47 : decode cX2_goblinAt 47 = .ok (.invokeinterface 49 2, 5) := by decide +kernel
theorem dX2_goblinAt_52 : decode cX2_goblinAt 52 = .ok (.checkcast 106, 3) := dk_192 0 106 (dk_at dksX2_goblinAt_2 5 rfl rfl)
theorem dX2_goblinAt_55 : decode cX2_goblinAt 55 = .ok (.aload_n 0, 1) := dk_42 (dk_at dksX2_goblinAt_2 8 rfl rfl)
theorem dX2_goblinAt_56 : decode cX2_goblinAt 56 = .ok (.getfield 22, 3) := dk_180 0 22 (dk_at dksX2_goblinAt_2 9 rfl rfl)
theorem dX2_goblinAt_59 : decode cX2_goblinAt 59 = .ok (.iload_n 2, 1) := dk_28 (dk_at dksX2_goblinAt_2 12 rfl rfl)
theorem dX2_goblinAt_60 : decode cX2_goblinAt 60 = .ok (.invokeinterface 49 2, 5) := by decide +kernel
theorem dX2_goblinAt_65 : decode cX2_goblinAt 65 = .ok (.checkcast 106, 3) := dk_192 0 106 (dk_at dksX2_goblinAt_2 18 rfl rfl)
theorem dX2_goblinAt_68 : decode cX2_goblinAt 68 = .ok (.invokevirtual 283, 3) := dk_182 1 27 (dk_at dksX2_goblinAt_2 21 rfl rfl)
theorem dX2_goblinAt_71 : decode cX2_goblinAt 71 = .ok (.ifCond .eq 7, 3) := dk_153 0 7 (dk_at dksX2_goblinAt_3 0 rfl rfl)
theorem dX2_goblinAt_74 : decode cX2_goblinAt 74 = .ok (.iconst 1, 1) := dk_4 (dk_at dksX2_goblinAt_3 3 rfl rfl)
theorem dX2_goblinAt_75 : decode cX2_goblinAt 75 = .ok (.goto 4, 3) := dk_167 0 4 (dk_at dksX2_goblinAt_3 4 rfl rfl)
theorem dX2_goblinAt_78 : decode cX2_goblinAt 78 = .ok (.iconst 0, 1) := dk_3 (dk_at dksX2_goblinAt_3 7 rfl rfl)
theorem dX2_goblinAt_79 : decode cX2_goblinAt 79 = .ok (.iadd, 1) := dk_96 (dk_at dksX2_goblinAt_3 8 rfl rfl)
theorem dX2_goblinAt_80 : decode cX2_goblinAt 80 = .ok (.istore_n 3, 1) := dk_62 (dk_at dksX2_goblinAt_3 9 rfl rfl)
theorem dX2_goblinAt_81 : decode cX2_goblinAt 81 = .ok (.iinc 4 1, 3) := dk_132 4 1 (dk_at dksX2_goblinAt_3 10 rfl rfl)
theorem dX2_goblinAt_84 : decode cX2_goblinAt 84 = .ok (.goto (-64), 3) := dk_167 255 192 (dk_at dksX2_goblinAt_3 13 rfl rfl)
theorem dX2_goblinAt_87 : decode cX2_goblinAt 87 = .ok (.iload_n 3, 1) := dk_29 (dk_at dksX2_goblinAt_3 16 rfl rfl)
theorem dX2_goblinAt_88 : decode cX2_goblinAt 88 = .ok (.iload_n 1, 1) := dk_27 (dk_at dksX2_goblinAt_3 17 rfl rfl)
theorem dX2_goblinAt_89 : decode cX2_goblinAt 89 = .ok (.if_icmp .ne 5, 3) := dk_160 0 5 (dk_at dksX2_goblinAt_3 18 rfl rfl)
theorem dX2_goblinAt_92 : decode cX2_goblinAt 92 = .ok (.iload_n 2, 1) := dk_28 (dk_at dksX2_goblinAt_3 21 rfl rfl)
theorem dX2_goblinAt_93 : decode cX2_goblinAt 93 = .ok (.ireturn, 1) := dk_172 (dk_at dksX2_goblinAt_3 22 rfl rfl)
theorem dX2_goblinAt_94 : decode cX2_goblinAt 94 = .ok (.iinc 2 1, 3) := dk_132 2 1 (dk_at dksX2_goblinAt_4 0 rfl rfl)
theorem dX2_goblinAt_97 : decode cX2_goblinAt 97 = .ok (.goto (-95), 3) := dk_167 255 161 (dk_at dksX2_goblinAt_4 3 rfl rfl)
theorem dX2_goblinAt_100 : decode cX2_goblinAt 100 = .ok (.iconst (-1), 1) := dk_2 (dk_at dksX2_goblinAt_4 6 rfl rfl)
theorem dX2_goblinAt_101 : decode cX2_goblinAt 101 = .ok (.ireturn, 1) := dk_172 (dk_at dksX2_goblinAt_4 7 rfl rfl)
abbrev cX2_nightsUntilDone : ByteArray := prog_18_method_30_code
def yX2_nightsUntilDone : MethodName := ⟨RX2, "nightsUntilDone", "(I)I"⟩
def dkwX2_nightsUntilDone_2 : List UInt8 := [167, 0, 4, 29, 172, 132, 3, 1, 167, 255, 208, 2, 172]
abbrev dktX2_nightsUntilDone_2 : List UInt8 := dkwX2_nightsUntilDone_2 ++ []
def dkwX2_nightsUntilDone_1 : List UInt8 := [44, 27, 182, 0, 167, 199, 0, 23, 44, 21, 4, 42, 27, 182, 1, 8, 182, 1, 11, 153, 0, 7, 2]
abbrev dktX2_nightsUntilDone_1 : List UInt8 := dkwX2_nightsUntilDone_1 ++ dktX2_nightsUntilDone_2
def dkwX2_nightsUntilDone_0 : List UInt8 := [42, 182, 1, 4, 77, 4, 62, 29, 16, 60, 163, 0, 48, 44, 180, 0, 74, 54, 4, 44, 4, 182, 0, 207]
abbrev dktX2_nightsUntilDone_0 : List UInt8 := dkwX2_nightsUntilDone_0 ++ dktX2_nightsUntilDone_1
theorem dksX2_nightsUntilDone_0 : cX2_nightsUntilDone.data.toList.drop 0 = dktX2_nightsUntilDone_0 := by decide +kernel
theorem dksX2_nightsUntilDone_1 : cX2_nightsUntilDone.data.toList.drop 24 = dktX2_nightsUntilDone_1 := dk_seg dksX2_nightsUntilDone_0 24 rfl rfl
theorem dksX2_nightsUntilDone_2 : cX2_nightsUntilDone.data.toList.drop 47 = dktX2_nightsUntilDone_2 := dk_seg dksX2_nightsUntilDone_1 23 rfl rfl
theorem dX2_nightsUntilDone_0 : decode cX2_nightsUntilDone 0 = .ok (.aload_n 0, 1) := dk_42 (dk_at dksX2_nightsUntilDone_0 0 rfl rfl)
theorem dX2_nightsUntilDone_1 : decode cX2_nightsUntilDone 1 = .ok (.invokevirtual 260, 3) := dk_182 1 4 (dk_at dksX2_nightsUntilDone_0 1 rfl rfl)
theorem dX2_nightsUntilDone_4 : decode cX2_nightsUntilDone 4 = .ok (.astore_n 2, 1) := dk_77 (dk_at dksX2_nightsUntilDone_0 4 rfl rfl)
theorem dX2_nightsUntilDone_5 : decode cX2_nightsUntilDone 5 = .ok (.iconst 1, 1) := dk_4 (dk_at dksX2_nightsUntilDone_0 5 rfl rfl)
theorem dX2_nightsUntilDone_6 : decode cX2_nightsUntilDone 6 = .ok (.istore_n 3, 1) := dk_62 (dk_at dksX2_nightsUntilDone_0 6 rfl rfl)
theorem dX2_nightsUntilDone_7 : decode cX2_nightsUntilDone 7 = .ok (.iload_n 3, 1) := dk_29 (dk_at dksX2_nightsUntilDone_0 7 rfl rfl)
theorem dX2_nightsUntilDone_8 : decode cX2_nightsUntilDone 8 = .ok (.bipush 60, 2) := dk_16 60 (dk_at dksX2_nightsUntilDone_0 8 rfl rfl)
theorem dX2_nightsUntilDone_10 : decode cX2_nightsUntilDone 10 = .ok (.if_icmp .gt 48, 3) := dk_163 0 48 (dk_at dksX2_nightsUntilDone_0 10 rfl rfl)
theorem dX2_nightsUntilDone_13 : decode cX2_nightsUntilDone 13 = .ok (.aload_n 2, 1) := dk_44 (dk_at dksX2_nightsUntilDone_0 13 rfl rfl)
theorem dX2_nightsUntilDone_14 : decode cX2_nightsUntilDone 14 = .ok (.getfield 74, 3) := dk_180 0 74 (dk_at dksX2_nightsUntilDone_0 14 rfl rfl)
theorem dX2_nightsUntilDone_17 : decode cX2_nightsUntilDone 17 = .ok (.istore 4, 2) := dk_54 4 (dk_at dksX2_nightsUntilDone_0 17 rfl rfl)
theorem dX2_nightsUntilDone_19 : decode cX2_nightsUntilDone 19 = .ok (.aload_n 2, 1) := dk_44 (dk_at dksX2_nightsUntilDone_0 19 rfl rfl)
theorem dX2_nightsUntilDone_20 : decode cX2_nightsUntilDone 20 = .ok (.iconst 1, 1) := dk_4 (dk_at dksX2_nightsUntilDone_0 20 rfl rfl)
theorem dX2_nightsUntilDone_21 : decode cX2_nightsUntilDone 21 = .ok (.invokevirtual 207, 3) := dk_182 0 207 (dk_at dksX2_nightsUntilDone_0 21 rfl rfl)
theorem dX2_nightsUntilDone_24 : decode cX2_nightsUntilDone 24 = .ok (.aload_n 2, 1) := dk_44 (dk_at dksX2_nightsUntilDone_1 0 rfl rfl)
theorem dX2_nightsUntilDone_25 : decode cX2_nightsUntilDone 25 = .ok (.iload_n 1, 1) := dk_27 (dk_at dksX2_nightsUntilDone_1 1 rfl rfl)
theorem dX2_nightsUntilDone_26 : decode cX2_nightsUntilDone 26 = .ok (.invokevirtual 167, 3) := dk_182 0 167 (dk_at dksX2_nightsUntilDone_1 2 rfl rfl)
theorem dX2_nightsUntilDone_29 : decode cX2_nightsUntilDone 29 = .ok (.ifnonnull 23, 3) := dk_199 0 23 (dk_at dksX2_nightsUntilDone_1 5 rfl rfl)
theorem dX2_nightsUntilDone_32 : decode cX2_nightsUntilDone 32 = .ok (.aload_n 2, 1) := dk_44 (dk_at dksX2_nightsUntilDone_1 8 rfl rfl)
theorem dX2_nightsUntilDone_33 : decode cX2_nightsUntilDone 33 = .ok (.iload 4, 2) := dk_21 4 (dk_at dksX2_nightsUntilDone_1 9 rfl rfl)
theorem dX2_nightsUntilDone_35 : decode cX2_nightsUntilDone 35 = .ok (.aload_n 0, 1) := dk_42 (dk_at dksX2_nightsUntilDone_1 11 rfl rfl)
theorem dX2_nightsUntilDone_36 : decode cX2_nightsUntilDone 36 = .ok (.iload_n 1, 1) := dk_27 (dk_at dksX2_nightsUntilDone_1 12 rfl rfl)
theorem dX2_nightsUntilDone_37 : decode cX2_nightsUntilDone 37 = .ok (.invokevirtual 264, 3) := dk_182 1 8 (dk_at dksX2_nightsUntilDone_1 13 rfl rfl)
theorem dX2_nightsUntilDone_40 : decode cX2_nightsUntilDone 40 = .ok (.invokevirtual 267, 3) := dk_182 1 11 (dk_at dksX2_nightsUntilDone_1 16 rfl rfl)
theorem dX2_nightsUntilDone_43 : decode cX2_nightsUntilDone 43 = .ok (.ifCond .eq 7, 3) := dk_153 0 7 (dk_at dksX2_nightsUntilDone_1 19 rfl rfl)
theorem dX2_nightsUntilDone_46 : decode cX2_nightsUntilDone 46 = .ok (.iconst (-1), 1) := dk_2 (dk_at dksX2_nightsUntilDone_1 22 rfl rfl)
theorem dX2_nightsUntilDone_47 : decode cX2_nightsUntilDone 47 = .ok (.goto 4, 3) := dk_167 0 4 (dk_at dksX2_nightsUntilDone_2 0 rfl rfl)
theorem dX2_nightsUntilDone_50 : decode cX2_nightsUntilDone 50 = .ok (.iload_n 3, 1) := dk_29 (dk_at dksX2_nightsUntilDone_2 3 rfl rfl)
theorem dX2_nightsUntilDone_51 : decode cX2_nightsUntilDone 51 = .ok (.ireturn, 1) := dk_172 (dk_at dksX2_nightsUntilDone_2 4 rfl rfl)
theorem dX2_nightsUntilDone_52 : decode cX2_nightsUntilDone 52 = .ok (.iinc 3 1, 3) := dk_132 3 1 (dk_at dksX2_nightsUntilDone_2 5 rfl rfl)
theorem dX2_nightsUntilDone_55 : decode cX2_nightsUntilDone 55 = .ok (.goto (-48), 3) := dk_167 255 208 (dk_at dksX2_nightsUntilDone_2 8 rfl rfl)
theorem dX2_nightsUntilDone_58 : decode cX2_nightsUntilDone 58 = .ok (.iconst (-1), 1) := dk_2 (dk_at dksX2_nightsUntilDone_2 11 rfl rfl)
theorem dX2_nightsUntilDone_59 : decode cX2_nightsUntilDone 59 = .ok (.ireturn, 1) := dk_172 (dk_at dksX2_nightsUntilDone_2 12 rfl rfl)
abbrev cX2_goblinOf : ByteArray := prog_18_method_31_code
def yX2_goblinOf : MethodName := ⟨RX2, "goblinOf", "(I)I"⟩
def dkwX2_goblinOf_0 : List UInt8 := [42, 27, 182, 0, 167, 180, 0, 149, 172]
abbrev dktX2_goblinOf_0 : List UInt8 := dkwX2_goblinOf_0 ++ []
theorem dksX2_goblinOf_0 : cX2_goblinOf.data.toList.drop 0 = dktX2_goblinOf_0 := by decide +kernel
theorem dX2_goblinOf_0 : decode cX2_goblinOf 0 = .ok (.aload_n 0, 1) := dk_42 (dk_at dksX2_goblinOf_0 0 rfl rfl)
theorem dX2_goblinOf_1 : decode cX2_goblinOf 1 = .ok (.iload_n 1, 1) := dk_27 (dk_at dksX2_goblinOf_0 1 rfl rfl)
theorem dX2_goblinOf_2 : decode cX2_goblinOf 2 = .ok (.invokevirtual 167, 3) := dk_182 0 167 (dk_at dksX2_goblinOf_0 2 rfl rfl)
theorem dX2_goblinOf_5 : decode cX2_goblinOf 5 = .ok (.getfield 149, 3) := dk_180 0 149 (dk_at dksX2_goblinOf_0 5 rfl rfl)
theorem dX2_goblinOf_8 : decode cX2_goblinOf 8 = .ok (.ireturn, 1) := dk_172 (dk_at dksX2_goblinOf_0 8 rfl rfl)
abbrev cX2_wasBroken : ByteArray := prog_18_method_32_code
def yX2_wasBroken : MethodName := ⟨RX2, "wasBroken", "(II)Z"⟩
def dkwX2_wasBroken_1 : List UInt8 := [153, 0, 7, 4, 167, 0, 4, 3, 172]
abbrev dktX2_wasBroken_1 : List UInt8 := dkwX2_wasBroken_1 ++ []
def dkwX2_wasBroken_0 : List UInt8 := [42, 180, 0, 74, 27, 164, 0, 26, 42, 180, 0, 22, 28, 185, 0, 49, 2, 0, 192, 0, 106, 180, 0, 191]
abbrev dktX2_wasBroken_0 : List UInt8 := dkwX2_wasBroken_0 ++ dktX2_wasBroken_1
theorem dksX2_wasBroken_0 : cX2_wasBroken.data.toList.drop 0 = dktX2_wasBroken_0 := by decide +kernel
theorem dksX2_wasBroken_1 : cX2_wasBroken.data.toList.drop 24 = dktX2_wasBroken_1 := dk_seg dksX2_wasBroken_0 24 rfl rfl
theorem dX2_wasBroken_0 : decode cX2_wasBroken 0 = .ok (.aload_n 0, 1) := dk_42 (dk_at dksX2_wasBroken_0 0 rfl rfl)
theorem dX2_wasBroken_1 : decode cX2_wasBroken 1 = .ok (.getfield 74, 3) := dk_180 0 74 (dk_at dksX2_wasBroken_0 1 rfl rfl)
theorem dX2_wasBroken_4 : decode cX2_wasBroken 4 = .ok (.iload_n 1, 1) := dk_27 (dk_at dksX2_wasBroken_0 4 rfl rfl)
theorem dX2_wasBroken_5 : decode cX2_wasBroken 5 = .ok (.if_icmp .le 26, 3) := dk_164 0 26 (dk_at dksX2_wasBroken_0 5 rfl rfl)
theorem dX2_wasBroken_8 : decode cX2_wasBroken 8 = .ok (.aload_n 0, 1) := dk_42 (dk_at dksX2_wasBroken_0 8 rfl rfl)
theorem dX2_wasBroken_9 : decode cX2_wasBroken 9 = .ok (.getfield 22, 3) := dk_180 0 22 (dk_at dksX2_wasBroken_0 9 rfl rfl)
theorem dX2_wasBroken_12 : decode cX2_wasBroken 12 = .ok (.iload_n 2, 1) := dk_28 (dk_at dksX2_wasBroken_0 12 rfl rfl)
theorem dX2_wasBroken_13 : decode cX2_wasBroken 13 = .ok (.invokeinterface 49 2, 5) := by decide +kernel
theorem dX2_wasBroken_18 : decode cX2_wasBroken 18 = .ok (.checkcast 106, 3) := dk_192 0 106 (dk_at dksX2_wasBroken_0 18 rfl rfl)
theorem dX2_wasBroken_21 : decode cX2_wasBroken 21 = .ok (.getfield 191, 3) := dk_180 0 191 (dk_at dksX2_wasBroken_0 21 rfl rfl)
theorem dX2_wasBroken_24 : decode cX2_wasBroken 24 = .ok (.ifCond .eq 7, 3) := dk_153 0 7 (dk_at dksX2_wasBroken_1 0 rfl rfl)
theorem dX2_wasBroken_27 : decode cX2_wasBroken 27 = .ok (.iconst 1, 1) := dk_4 (dk_at dksX2_wasBroken_1 3 rfl rfl)
theorem dX2_wasBroken_28 : decode cX2_wasBroken 28 = .ok (.goto 4, 3) := dk_167 0 4 (dk_at dksX2_wasBroken_1 4 rfl rfl)
theorem dX2_wasBroken_31 : decode cX2_wasBroken 31 = .ok (.iconst 0, 1) := dk_3 (dk_at dksX2_wasBroken_1 7 rfl rfl)
theorem dX2_wasBroken_32 : decode cX2_wasBroken 32 = .ok (.ireturn, 1) := dk_172 (dk_at dksX2_wasBroken_1 8 rfl rfl)
abbrev cX2_after : ByteArray := prog_18_method_33_code
def yX2_after : MethodName := ⟨RX2, "after", "(I)LGoblinHousehold$Household;"⟩
def dkwX2_after_0 : List UInt8 := [42, 182, 1, 4, 77, 44, 27, 182, 0, 207, 44, 176]
abbrev dktX2_after_0 : List UInt8 := dkwX2_after_0 ++ []
theorem dksX2_after_0 : cX2_after.data.toList.drop 0 = dktX2_after_0 := by decide +kernel
theorem dX2_after_0 : decode cX2_after 0 = .ok (.aload_n 0, 1) := dk_42 (dk_at dksX2_after_0 0 rfl rfl)
theorem dX2_after_1 : decode cX2_after 1 = .ok (.invokevirtual 260, 3) := dk_182 1 4 (dk_at dksX2_after_0 1 rfl rfl)
theorem dX2_after_4 : decode cX2_after 4 = .ok (.astore_n 2, 1) := dk_77 (dk_at dksX2_after_0 4 rfl rfl)
theorem dX2_after_5 : decode cX2_after 5 = .ok (.aload_n 2, 1) := dk_44 (dk_at dksX2_after_0 5 rfl rfl)
theorem dX2_after_6 : decode cX2_after 6 = .ok (.iload_n 1, 1) := dk_27 (dk_at dksX2_after_0 6 rfl rfl)
theorem dX2_after_7 : decode cX2_after 7 = .ok (.invokevirtual 207, 3) := dk_182 0 207 (dk_at dksX2_after_0 7 rfl rfl)
theorem dX2_after_10 : decode cX2_after 10 = .ok (.aload_n 2, 1) := dk_44 (dk_at dksX2_after_0 10 rfl rfl)
theorem dX2_after_11 : decode cX2_after 11 = .ok (.areturn, 1) := dk_176 (dk_at dksX2_after_0 11 rfl rfl)
theorem q95 : (Jvm.Cond.initialized "GoblinHousehold$Household") ∈ lw_all := lw_g (lw_at lw_m1 2 rfl) rfl
theorem q154 : (Jvm.Cond.instantiable "GoblinHousehold$Household" (13 : Nat)) ∈ lw_all := lw_g (lw_at lw_m1 61 rfl) rfl
theorem q156 : (Jvm.Cond.instanceMethod ({ cls := "GoblinHousehold$Household", name := "<init>", desc := "()V" } : Jvm.MethodName)) ∈ lw_all := lw_g (lw_at lw_m1 63 rfl) rfl
theorem q157 : (Jvm.Cond.code ({ cls := "GoblinHousehold$Household", name := "<init>", desc := "()V" } : Jvm.MethodName) prog_18_method_1_code (2 : Nat) (Option.none : Option Jvm.ClassFile.FieldType)) ∈ lw_all := lw_g (lw_at lw_m1 64 rfl) rfl
theorem q158 : (Jvm.Cond.methodLink "GoblinHousehold$Household" (3 : Nat) ({ cls := "java/lang/Object", name := "<init>", desc := "()V" } : Jvm.MethodName)) ∈ lw_all := lw_g (lw_at lw_m1 65 rfl) rfl
theorem q159 : (Jvm.Cond.classLink "GoblinHousehold$Household" (15 : Nat) "java/util/ArrayList") ∈ lw_all := lw_g (lw_at lw_m1 66 rfl) rfl
theorem q161 : (Jvm.Cond.methodLink "GoblinHousehold$Household" (17 : Nat) ({ cls := "java/util/ArrayList", name := "<init>", desc := "()V" } : Jvm.MethodName)) ∈ lw_all := lw_g (lw_at lw_m1 68 rfl) rfl
theorem q188 : (Jvm.Cond.fieldLink "GoblinHousehold$Household" (9 : Nat) "GoblinHousehold$Household" "dust" "[I") ∈ lw_all := lw_g (lw_at lw_m1 95 rfl) rfl
theorem q190 : (Jvm.Cond.fieldLink "GoblinHousehold$Household" (18 : Nat) "GoblinHousehold$Household" "brooms" "Ljava/util/List;") ∈ lw_all := lw_g (lw_at lw_m1 97 rfl) rfl
theorem q192 : (Jvm.Cond.fieldLink "GoblinHousehold$Household" (22 : Nat) "GoblinHousehold$Household" "goblins" "Ljava/util/List;") ∈ lw_all := lw_g (lw_at lw_m1 99 rfl) rfl
theorem q194 : (Jvm.Cond.fieldLink "GoblinHousehold$Household" (25 : Nat) "GoblinHousehold$Household" "contracts" "Ljava/util/List;") ∈ lw_all := lw_g (lw_at lw_m1 101 rfl) rfl
theorem q196 : (Jvm.Cond.fieldLink "GoblinHousehold$Household" (59 : Nat) "GoblinHousehold$Household" "nextContract" "I") ∈ lw_all := lw_g (lw_at lw_m1 103 rfl) rfl
theorem q197 : (Jvm.Cond.fieldLink "GoblinHousehold$Household" (28 : Nat) "GoblinHousehold$Household" "chest" "I") ∈ lw_all := lw_g (lw_at lw_m1 104 rfl) rfl
theorem q199 : (Jvm.Cond.fieldLink "GoblinHousehold$Household" (62 : Nat) "GoblinHousehold$Household" "night" "I") ∈ lw_all := lw_g (lw_at lw_m1 106 rfl) rfl
theorem q201 : (Jvm.Cond.fieldLink "GoblinHousehold$Household" (65 : Nat) "GoblinHousehold$Household" "funded" "I") ∈ lw_all := lw_g (lw_at lw_m1 108 rfl) rfl
theorem q202 : (Jvm.Cond.fieldLink "GoblinHousehold$Household" (68 : Nat) "GoblinHousehold$Household" "spent" "I") ∈ lw_all := lw_g (lw_at lw_m1 109 rfl) rfl
theorem q203 : (Jvm.Cond.fieldLink "GoblinHousehold$Household" (71 : Nat) "GoblinHousehold$Household" "done" "I") ∈ lw_all := lw_g (lw_at lw_m1 110 rfl) rfl
theorem q205 : (Jvm.Cond.fieldLink "GoblinHousehold$Household" (74 : Nat) "GoblinHousehold$Household" "broken" "I") ∈ lw_all := lw_g (lw_at lw_m1 112 rfl) rfl
theorem q207 : (Jvm.Cond.fieldLink "GoblinHousehold$Household" (77 : Nat) "GoblinHousehold$Household" "unpaid" "I") ∈ lw_all := lw_g (lw_at lw_m1 114 rfl) rfl
theorem q209 : (Jvm.Cond.fieldLink "GoblinHousehold$Household" (80 : Nat) "GoblinHousehold$Household" "interest" "I") ∈ lw_all := lw_g (lw_at lw_m1 116 rfl) rfl
theorem q211 : (Jvm.Cond.laysFinal "GoblinHousehold$Household" "GoblinHousehold$Household" "dust" "[I") ∈ lw_all := lw_g (lw_at lw_m1 118 rfl) rfl
theorem q212 : (Jvm.Cond.soleField "GoblinHousehold$Household" "dust") ∈ lw_all := lw_g (lw_at lw_m1 119 rfl) rfl
theorem q213 : (Jvm.Cond.laysFinal "GoblinHousehold$Household" "GoblinHousehold$Household" "brooms" "Ljava/util/List;") ∈ lw_all := lw_g (lw_at lw_m1 120 rfl) rfl
theorem q214 : (Jvm.Cond.soleField "GoblinHousehold$Household" "brooms") ∈ lw_all := lw_g (lw_at lw_m1 121 rfl) rfl
theorem q215 : (Jvm.Cond.laysFinal "GoblinHousehold$Household" "GoblinHousehold$Household" "goblins" "Ljava/util/List;") ∈ lw_all := lw_g (lw_at lw_m1 122 rfl) rfl
theorem q216 : (Jvm.Cond.soleField "GoblinHousehold$Household" "goblins") ∈ lw_all := lw_g (lw_at lw_m1 123 rfl) rfl
theorem q217 : (Jvm.Cond.laysFinal "GoblinHousehold$Household" "GoblinHousehold$Household" "contracts" "Ljava/util/List;") ∈ lw_all := lw_g (lw_at lw_m1 124 rfl) rfl
theorem q218 : (Jvm.Cond.soleField "GoblinHousehold$Household" "contracts") ∈ lw_all := lw_g (lw_at lw_m1 125 rfl) rfl
theorem q219 : (Jvm.Cond.lays "GoblinHousehold$Household" "GoblinHousehold$Household" "nextContract" "I") ∈ lw_all := lw_g (lw_at lw_m1 126 rfl) rfl
theorem q220 : (Jvm.Cond.soleField "GoblinHousehold$Household" "nextContract") ∈ lw_all := lw_g (lw_at lw_m1 127 rfl) rfl
theorem q221 : (Jvm.Cond.lays "GoblinHousehold$Household" "GoblinHousehold$Household" "chest" "I") ∈ lw_all := lw_g (lw_at lw_m1 128 rfl) rfl
theorem q222 : (Jvm.Cond.soleField "GoblinHousehold$Household" "chest") ∈ lw_all := lw_g (lw_at lw_m1 129 rfl) rfl
theorem q223 : (Jvm.Cond.lays "GoblinHousehold$Household" "GoblinHousehold$Household" "night" "I") ∈ lw_all := lw_g (lw_at lw_m1 130 rfl) rfl
theorem q224 : (Jvm.Cond.soleField "GoblinHousehold$Household" "night") ∈ lw_all := lw_g (lw_at lw_m1 131 rfl) rfl
theorem q225 : (Jvm.Cond.lays "GoblinHousehold$Household" "GoblinHousehold$Household" "funded" "I") ∈ lw_all := lw_g (lw_at lw_m1 132 rfl) rfl
theorem q226 : (Jvm.Cond.soleField "GoblinHousehold$Household" "funded") ∈ lw_all := lw_g (lw_at lw_m1 133 rfl) rfl
theorem q227 : (Jvm.Cond.lays "GoblinHousehold$Household" "GoblinHousehold$Household" "spent" "I") ∈ lw_all := lw_g (lw_at lw_m1 134 rfl) rfl
theorem q228 : (Jvm.Cond.soleField "GoblinHousehold$Household" "spent") ∈ lw_all := lw_g (lw_at lw_m1 135 rfl) rfl
theorem q229 : (Jvm.Cond.lays "GoblinHousehold$Household" "GoblinHousehold$Household" "done" "I") ∈ lw_all := lw_g (lw_at lw_m1 136 rfl) rfl
theorem q230 : (Jvm.Cond.soleField "GoblinHousehold$Household" "done") ∈ lw_all := lw_g (lw_at lw_m1 137 rfl) rfl
theorem q231 : (Jvm.Cond.lays "GoblinHousehold$Household" "GoblinHousehold$Household" "broken" "I") ∈ lw_all := lw_g (lw_at lw_m1 138 rfl) rfl
theorem q232 : (Jvm.Cond.soleField "GoblinHousehold$Household" "broken") ∈ lw_all := lw_g (lw_at lw_m1 139 rfl) rfl
theorem q233 : (Jvm.Cond.lays "GoblinHousehold$Household" "GoblinHousehold$Household" "unpaid" "I") ∈ lw_all := lw_g (lw_at lw_m1 140 rfl) rfl
theorem q234 : (Jvm.Cond.soleField "GoblinHousehold$Household" "unpaid") ∈ lw_all := lw_g (lw_at lw_m1 141 rfl) rfl
theorem q235 : (Jvm.Cond.lays "GoblinHousehold$Household" "GoblinHousehold$Household" "interest" "I") ∈ lw_all := lw_g (lw_at lw_m1 142 rfl) rfl
theorem q236 : (Jvm.Cond.soleField "GoblinHousehold$Household" "interest") ∈ lw_all := lw_g (lw_at lw_m1 143 rfl) rfl
theorem q237 : (Jvm.Cond.superclass "GoblinHousehold$Household" "java/lang/Object") ∈ lw_all := lw_g (lw_at lw_m1 144 rfl) rfl
theorem q355 : (Jvm.Cond.instanceMethod ({ cls := "GoblinHousehold$Household", name := "allCrumbs", desc := "()I" } : Jvm.MethodName)) ∈ lw_all := lw_g (lw_at lw_m2 22 rfl) rfl
theorem q356 : (Jvm.Cond.selects "GoblinHousehold$Household" ({ cls := "GoblinHousehold$Household", name := "allCrumbs", desc := "()I" } : Jvm.MethodName) ({ cls := "GoblinHousehold$Household", name := "allCrumbs", desc := "()I" } : Jvm.MethodName)) ∈ lw_all := lw_g (lw_at lw_m2 23 rfl) rfl
theorem q357 : (Jvm.Cond.code ({ cls := "GoblinHousehold$Household", name := "allCrumbs", desc := "()I" } : Jvm.MethodName) prog_18_method_39_code (3 : Nat) (Option.some Jvm.ClassFile.FieldType.int)) ∈ lw_all := lw_g (lw_at lw_m2 24 rfl) rfl
theorem q358 : (Jvm.Cond.interfaceEntry "GoblinHousehold$Household" (43 : Nat)) ∈ lw_tbl := lw_at lw_m2 25 rfl
theorem q359 : (Jvm.Cond.methodLink "GoblinHousehold$Household" (43 : Nat) ({ cls := "java/util/List", name := "size", desc := "()I" } : Jvm.MethodName)) ∈ lw_all := lw_g (lw_at lw_m2 26 rfl) rfl
theorem q360 : (Jvm.Cond.interfaceEntry "GoblinHousehold$Household" (49 : Nat)) ∈ lw_tbl := lw_at lw_m2 27 rfl
theorem q361 : (Jvm.Cond.methodLink "GoblinHousehold$Household" (49 : Nat) ({ cls := "java/util/List", name := "get", desc := "(I)Ljava/lang/Object;" } : Jvm.MethodName)) ∈ lw_all := lw_g (lw_at lw_m2 28 rfl) rfl
theorem q706 : (Jvm.Cond.classLink "GoblinHousehold$Household" (106 : Nat) "GoblinHousehold$Goblin") ∈ lw_all := lw_g (lw_at lw_m3 133 rfl) rfl
theorem q707 : (Jvm.Cond.methodLink "GoblinHousehold$Household" (287 : Nat) ({ cls := "GoblinHousehold$Goblin", name := "purse", desc := "()I" } : Jvm.MethodName)) ∈ lw_all := lw_g (lw_at lw_m3 134 rfl) rfl
theorem q718 : (Jvm.Cond.instanceMethod ({ cls := "GoblinHousehold$Household", name := "allCrumbsByAccounts", desc := "()I" } : Jvm.MethodName)) ∈ lw_all := lw_g (lw_at lw_m3 145 rfl) rfl
theorem q719 : (Jvm.Cond.selects "GoblinHousehold$Household" ({ cls := "GoblinHousehold$Household", name := "allCrumbsByAccounts", desc := "()I" } : Jvm.MethodName) ({ cls := "GoblinHousehold$Household", name := "allCrumbsByAccounts", desc := "()I" } : Jvm.MethodName)) ∈ lw_all := lw_g (lw_at lw_m3 146 rfl) rfl
theorem q720 : (Jvm.Cond.code ({ cls := "GoblinHousehold$Household", name := "allCrumbsByAccounts", desc := "()I" } : Jvm.MethodName) prog_18_method_40_code (1 : Nat) (Option.some Jvm.ClassFile.FieldType.int)) ∈ lw_all := lw_g (lw_at lw_m3 147 rfl) rfl
theorem q742 : (Jvm.Cond.instanceMethod ({ cls := "GoblinHousehold$Household", name := "allDust", desc := "()I" } : Jvm.MethodName)) ∈ lw_all := lw_g (lw_at lw_m3 169 rfl) rfl
theorem q743 : (Jvm.Cond.selects "GoblinHousehold$Household" ({ cls := "GoblinHousehold$Household", name := "allDust", desc := "()I" } : Jvm.MethodName) ({ cls := "GoblinHousehold$Household", name := "allDust", desc := "()I" } : Jvm.MethodName)) ∈ lw_all := lw_g (lw_at lw_m3 170 rfl) rfl
theorem q744 : (Jvm.Cond.code ({ cls := "GoblinHousehold$Household", name := "allDust", desc := "()I" } : Jvm.MethodName) prog_18_method_44_code (6 : Nat) (Option.some Jvm.ClassFile.FieldType.int)) ∈ lw_all := lw_g (lw_at lw_m3 171 rfl) rfl
theorem q751 : (Jvm.Cond.instanceMethod ({ cls := "GoblinHousehold$Household", name := "isConsistent", desc := "()Z" } : Jvm.MethodName)) ∈ lw_all := lw_g (lw_at lw_m3 178 rfl) rfl
theorem q752 : (Jvm.Cond.selects "GoblinHousehold$Household" ({ cls := "GoblinHousehold$Household", name := "isConsistent", desc := "()Z" } : Jvm.MethodName) ({ cls := "GoblinHousehold$Household", name := "isConsistent", desc := "()Z" } : Jvm.MethodName)) ∈ lw_all := lw_g (lw_at lw_m3 179 rfl) rfl
theorem q753 : (Jvm.Cond.code ({ cls := "GoblinHousehold$Household", name := "isConsistent", desc := "()Z" } : Jvm.MethodName) prog_18_method_43_code (4 : Nat) (Option.some Jvm.ClassFile.FieldType.boolean)) ∈ lw_all := lw_g (lw_at lw_m3 180 rfl) rfl
theorem q754 : (Jvm.Cond.methodLink "GoblinHousehold$Household" (303 : Nat) ({ cls := "GoblinHousehold$Household", name := "allCrumbs", desc := "()I" } : Jvm.MethodName)) ∈ lw_all := lw_g (lw_at lw_m3 181 rfl) rfl
theorem q755 : (Jvm.Cond.methodLink "GoblinHousehold$Household" (306 : Nat) ({ cls := "GoblinHousehold$Household", name := "allCrumbsByAccounts", desc := "()I" } : Jvm.MethodName)) ∈ lw_all := lw_g (lw_at lw_m3 182 rfl) rfl
theorem q756 : (Jvm.Cond.methodLink "GoblinHousehold$Household" (309 : Nat) ({ cls := "GoblinHousehold$Household", name := "bestWages", desc := "(I)I" } : Jvm.MethodName)) ∈ lw_all := lw_g (lw_at lw_m3 183 rfl) rfl
theorem q757 : (Jvm.Cond.instanceMethod ({ cls := "GoblinHousehold$Household", name := "bestWages", desc := "(I)I" } : Jvm.MethodName)) ∈ lw_all := lw_g (lw_at lw_m3 184 rfl) rfl
theorem q758 : (Jvm.Cond.selects "GoblinHousehold$Household" ({ cls := "GoblinHousehold$Household", name := "bestWages", desc := "(I)I" } : Jvm.MethodName) ({ cls := "GoblinHousehold$Household", name := "bestWages", desc := "(I)I" } : Jvm.MethodName)) ∈ lw_all := lw_g (lw_at lw_m3 185 rfl) rfl
theorem q759 : (Jvm.Cond.code ({ cls := "GoblinHousehold$Household", name := "bestWages", desc := "(I)I" } : Jvm.MethodName) prog_18_method_35_code (2 : Nat) (Option.some Jvm.ClassFile.FieldType.int)) ∈ lw_all := lw_g (lw_at lw_m3 186 rfl) rfl
theorem q760 : (Jvm.Cond.methodLink "GoblinHousehold$Household" (275 : Nat) ({ cls := "GoblinHousehold$Household", name := "chainOf", desc := "(I)LGoblinHousehold$Chain;" } : Jvm.MethodName)) ∈ lw_all := lw_g (lw_at lw_m3 187 rfl) rfl
theorem q761 : (Jvm.Cond.privateMethod ({ cls := "GoblinHousehold$Household", name := "chainOf", desc := "(I)LGoblinHousehold$Chain;" } : Jvm.MethodName)) ∈ lw_tbl := lw_at lw_m3 188 rfl
theorem q762 : (Jvm.Cond.instanceMethod ({ cls := "GoblinHousehold$Household", name := "chainOf", desc := "(I)LGoblinHousehold$Chain;" } : Jvm.MethodName)) ∈ lw_all := lw_g (lw_at lw_m3 189 rfl) rfl
theorem q763 : (Jvm.Cond.code ({ cls := "GoblinHousehold$Household", name := "chainOf", desc := "(I)LGoblinHousehold$Chain;" } : Jvm.MethodName) prog_18_method_34_code (4 : Nat) (Option.some (Jvm.ClassFile.FieldType.object "GoblinHousehold$Chain"))) ∈ lw_all := lw_g (lw_at lw_m3 190 rfl) rfl
theorem q764 : (Jvm.Cond.classLink "GoblinHousehold$Household" (53 : Nat) "GoblinHousehold$Contract") ∈ lw_all := lw_g (lw_at lw_m3 191 rfl) rfl
theorem q765 : (Jvm.Cond.classLink "GoblinHousehold$Household" (270 : Nat) "GoblinHousehold$Chain") ∈ lw_all := lw_g (lw_at lw_m3 192 rfl) rfl
theorem q767 : (Jvm.Cond.methodLink "GoblinHousehold$Household" (272 : Nat) ({ cls := "GoblinHousehold$Chain", name := "<init>", desc := "(LGoblinHousehold$Contract;LGoblinHousehold$Chain;)V" } : Jvm.MethodName)) ∈ lw_all := lw_g (lw_at lw_m3 194 rfl) rfl
theorem q778 : (Jvm.Cond.methodLink "GoblinHousehold$Household" (227 : Nat) ({ cls := "GoblinHousehold$Household", name := "energy", desc := "(LGoblinHousehold$Goblin;)I" } : Jvm.MethodName)) ∈ lw_all := lw_g (lw_at lw_m3 205 rfl) rfl
theorem q779 : (Jvm.Cond.instanceMethod ({ cls := "GoblinHousehold$Household", name := "energy", desc := "(LGoblinHousehold$Goblin;)I" } : Jvm.MethodName)) ∈ lw_all := lw_g (lw_at lw_m3 206 rfl) rfl
theorem q780 : (Jvm.Cond.selects "GoblinHousehold$Household" ({ cls := "GoblinHousehold$Household", name := "energy", desc := "(LGoblinHousehold$Goblin;)I" } : Jvm.MethodName) ({ cls := "GoblinHousehold$Household", name := "energy", desc := "(LGoblinHousehold$Goblin;)I" } : Jvm.MethodName)) ∈ lw_all := lw_g (lw_at lw_m3 207 rfl) rfl
theorem q781 : (Jvm.Cond.code ({ cls := "GoblinHousehold$Household", name := "energy", desc := "(LGoblinHousehold$Goblin;)I" } : Jvm.MethodName) prog_18_method_8_code (2 : Nat) (Option.some Jvm.ClassFile.FieldType.int)) ∈ lw_all := lw_g (lw_at lw_m3 208 rfl) rfl
theorem q782 : (Jvm.Cond.methodLink "GoblinHousehold$Household" (110 : Nat) ({ cls := "GoblinHousehold$Household", name := "usedBrooms", desc := "()I" } : Jvm.MethodName)) ∈ lw_all := lw_g (lw_at lw_m3 209 rfl) rfl
theorem q783 : (Jvm.Cond.instanceMethod ({ cls := "GoblinHousehold$Household", name := "usedBrooms", desc := "()I" } : Jvm.MethodName)) ∈ lw_all := lw_g (lw_at lw_m3 210 rfl) rfl
theorem q784 : (Jvm.Cond.selects "GoblinHousehold$Household" ({ cls := "GoblinHousehold$Household", name := "usedBrooms", desc := "()I" } : Jvm.MethodName) ({ cls := "GoblinHousehold$Household", name := "usedBrooms", desc := "()I" } : Jvm.MethodName)) ∈ lw_all := lw_g (lw_at lw_m3 211 rfl) rfl
theorem q785 : (Jvm.Cond.code ({ cls := "GoblinHousehold$Household", name := "usedBrooms", desc := "()I" } : Jvm.MethodName) prog_18_method_6_code (3 : Nat) (Option.some Jvm.ClassFile.FieldType.int)) ∈ lw_all := lw_g (lw_at lw_m3 212 rfl) rfl
theorem q786 : (Jvm.Cond.classLink "GoblinHousehold$Household" (90 : Nat) "GoblinHousehold$Broom") ∈ lw_all := lw_g (lw_at lw_m3 213 rfl) rfl
theorem q787 : (Jvm.Cond.methodLink "GoblinHousehold$Household" (92 : Nat) ({ cls := "GoblinHousehold$Broom", name := "isUsed", desc := "()Z" } : Jvm.MethodName)) ∈ lw_all := lw_g (lw_at lw_m3 214 rfl) rfl
theorem q793 : (Jvm.Cond.methodLinkNest "GoblinHousehold$Household" (279 : Nat) ({ cls := "GoblinHousehold$Chain", name := "best", desc := "(LGoblinHousehold$Chain;I)I" } : Jvm.MethodName) "GoblinHousehold") ∈ lw_tbl := lw_at lw_m3 220 rfl
theorem q802 : (Jvm.Cond.methodLink "GoblinHousehold$Household" (312 : Nat) ({ cls := "GoblinHousehold$Household", name := "bestWagesByTable", desc := "(I)I" } : Jvm.MethodName)) ∈ lw_all := lw_g (lw_at lw_m3 229 rfl) rfl
theorem q803 : (Jvm.Cond.instanceMethod ({ cls := "GoblinHousehold$Household", name := "bestWagesByTable", desc := "(I)I" } : Jvm.MethodName)) ∈ lw_all := lw_g (lw_at lw_m3 230 rfl) rfl
theorem q804 : (Jvm.Cond.selects "GoblinHousehold$Household" ({ cls := "GoblinHousehold$Household", name := "bestWagesByTable", desc := "(I)I" } : Jvm.MethodName) ({ cls := "GoblinHousehold$Household", name := "bestWagesByTable", desc := "(I)I" } : Jvm.MethodName)) ∈ lw_all := lw_g (lw_at lw_m3 231 rfl) rfl
theorem q805 : (Jvm.Cond.code ({ cls := "GoblinHousehold$Household", name := "bestWagesByTable", desc := "(I)I" } : Jvm.MethodName) prog_18_method_36_code (6 : Nat) (Option.some Jvm.ClassFile.FieldType.int)) ∈ lw_all := lw_g (lw_at lw_m3 232 rfl) rfl
theorem q806 : (Jvm.Cond.methodLink "GoblinHousehold$Household" (99 : Nat) ({ cls := "java/lang/Math", name := "max", desc := "(II)I" } : Jvm.MethodName)) ∈ lw_all := lw_g (lw_at lw_m3 233 rfl) rfl
theorem q807 : (Jvm.Cond.methodLink "GoblinHousehold$Household" (315 : Nat) ({ cls := "GoblinHousehold$Household", name := "areContractsApart", desc := "(I)Z" } : Jvm.MethodName)) ∈ lw_all := lw_g (lw_at lw_m3 234 rfl) rfl
theorem q808 : (Jvm.Cond.privateMethod ({ cls := "GoblinHousehold$Household", name := "areContractsApart", desc := "(I)Z" } : Jvm.MethodName)) ∈ lw_tbl := lw_at lw_m3 235 rfl
theorem q809 : (Jvm.Cond.instanceMethod ({ cls := "GoblinHousehold$Household", name := "areContractsApart", desc := "(I)Z" } : Jvm.MethodName)) ∈ lw_all := lw_g (lw_at lw_m3 236 rfl) rfl
theorem q810 : (Jvm.Cond.code ({ cls := "GoblinHousehold$Household", name := "areContractsApart", desc := "(I)Z" } : Jvm.MethodName) prog_18_method_42_code (6 : Nat) (Option.some Jvm.ClassFile.FieldType.boolean)) ∈ lw_all := lw_g (lw_at lw_m3 237 rfl) rfl
theorem q811 : (Jvm.Cond.static ({ cls := "GoblinHousehold$Household", name := "lambda$areContractsApart$0", desc := "(IILGoblinHousehold$Contract;)I" } : Jvm.MethodName)) ∈ lw_all := lw_g (lw_at lw_m3 238 rfl) rfl
theorem q812 : (Jvm.Cond.code ({ cls := "GoblinHousehold$Household", name := "lambda$areContractsApart$0", desc := "(IILGoblinHousehold$Contract;)I" } : Jvm.MethodName) prog_18_method_46_code (3 : Nat) (Option.some Jvm.ClassFile.FieldType.int)) ∈ lw_all := lw_g (lw_at lw_m3 239 rfl) rfl
theorem q813 : (Jvm.Cond.methodLink "GoblinHousehold$Household" (299 : Nat) ({ cls := "GoblinHousehold$Household", name := "sum", desc := "(LGoblinHousehold$Question;)I" } : Jvm.MethodName)) ∈ lw_all := lw_g (lw_at lw_m4 0 rfl) rfl
theorem q814 : (Jvm.Cond.privateMethod ({ cls := "GoblinHousehold$Household", name := "sum", desc := "(LGoblinHousehold$Question;)I" } : Jvm.MethodName)) ∈ lw_tbl := lw_at lw_m4 1 rfl
theorem q815 : (Jvm.Cond.instanceMethod ({ cls := "GoblinHousehold$Household", name := "sum", desc := "(LGoblinHousehold$Question;)I" } : Jvm.MethodName)) ∈ lw_all := lw_g (lw_at lw_m4 2 rfl) rfl
theorem q816 : (Jvm.Cond.code ({ cls := "GoblinHousehold$Household", name := "sum", desc := "(LGoblinHousehold$Question;)I" } : Jvm.MethodName) prog_18_method_41_code (4 : Nat) (Option.some Jvm.ClassFile.FieldType.int)) ∈ lw_all := lw_g (lw_at lw_m4 3 rfl) rfl
theorem q817 : (Jvm.Cond.interfaceEntry "GoblinHousehold$Household" (290 : Nat)) ∈ lw_tbl := lw_at lw_m4 4 rfl
theorem q818 : (Jvm.Cond.methodLink "GoblinHousehold$Household" (290 : Nat) ({ cls := "GoblinHousehold$Question", name := "ask", desc := "(LGoblinHousehold$Contract;)I" } : Jvm.MethodName)) ∈ lw_all := lw_g (lw_at lw_m4 5 rfl) rfl
theorem q821 : (Jvm.Cond.methodLink "GoblinHousehold$Household" (158 : Nat) ({ cls := "GoblinHousehold$Household", name := "hasContract", desc := "(II)Z" } : Jvm.MethodName)) ∈ lw_all := lw_g (lw_at lw_m4 8 rfl) rfl
theorem q822 : (Jvm.Cond.privateMethod ({ cls := "GoblinHousehold$Household", name := "hasContract", desc := "(II)Z" } : Jvm.MethodName)) ∈ lw_tbl := lw_at lw_m4 9 rfl
theorem q823 : (Jvm.Cond.instanceMethod ({ cls := "GoblinHousehold$Household", name := "hasContract", desc := "(II)Z" } : Jvm.MethodName)) ∈ lw_all := lw_g (lw_at lw_m4 10 rfl) rfl
theorem q824 : (Jvm.Cond.code ({ cls := "GoblinHousehold$Household", name := "hasContract", desc := "(II)Z" } : Jvm.MethodName) prog_18_method_14_code (6 : Nat) (Option.some Jvm.ClassFile.FieldType.boolean)) ∈ lw_all := lw_g (lw_at lw_m4 11 rfl) rfl
theorem q825 : (Jvm.Cond.methodLink "GoblinHousehold$Household" (201 : Nat) ({ cls := "GoblinHousehold$Goblin", name := "debt", desc := "()I" } : Jvm.MethodName)) ∈ lw_all := lw_g (lw_at lw_m4 12 rfl) rfl
theorem q836 : (Jvm.Cond.instanceMethod ({ cls := "GoblinHousehold$Household", name := "contractsText", desc := "()Ljava/lang/String;" } : Jvm.MethodName)) ∈ lw_all := lw_g (lw_at lw_m4 23 rfl) rfl
theorem q837 : (Jvm.Cond.selects "GoblinHousehold$Household" ({ cls := "GoblinHousehold$Household", name := "contractsText", desc := "()Ljava/lang/String;" } : Jvm.MethodName) ({ cls := "GoblinHousehold$Household", name := "contractsText", desc := "()Ljava/lang/String;" } : Jvm.MethodName)) ∈ lw_all := lw_g (lw_at lw_m4 24 rfl) rfl
theorem q838 : (Jvm.Cond.code ({ cls := "GoblinHousehold$Household", name := "contractsText", desc := "()Ljava/lang/String;" } : Jvm.MethodName) prog_18_method_45_code (3 : Nat) (Option.some (Jvm.ClassFile.FieldType.object "java/lang/String"))) ∈ lw_all := lw_g (lw_at lw_m4 25 rfl) rfl
theorem q839 : (Jvm.Cond.classLink "GoblinHousehold$Household" (318 : Nat) "java/lang/StringBuilder") ∈ lw_all := lw_g (lw_at lw_m4 26 rfl) rfl
theorem q840 : (Jvm.Cond.methodLink "GoblinHousehold$Household" (320 : Nat) ({ cls := "java/lang/StringBuilder", name := "<init>", desc := "()V" } : Jvm.MethodName)) ∈ lw_all := lw_g (lw_at lw_m4 27 rfl) rfl
theorem q841 : (Jvm.Cond.stringRef "GoblinHousehold$Household" (321 : Nat) " ") ∈ lw_tbl := lw_at lw_m4 28 rfl
theorem q842 : (Jvm.Cond.stringRef "GoblinHousehold$Household" (323 : Nat) "") ∈ lw_tbl := lw_at lw_m4 29 rfl
theorem q843 : (Jvm.Cond.methodLink "GoblinHousehold$Household" (325 : Nat) ({ cls := "java/lang/StringBuilder", name := "append", desc := "(Ljava/lang/String;)Ljava/lang/StringBuilder;" } : Jvm.MethodName)) ∈ lw_all := lw_g (lw_at lw_m4 30 rfl) rfl
theorem q844 : (Jvm.Cond.methodLink "GoblinHousehold$Household" (329 : Nat) ({ cls := "GoblinHousehold$Contract", name := "text", desc := "()Ljava/lang/String;" } : Jvm.MethodName)) ∈ lw_all := lw_g (lw_at lw_m4 31 rfl) rfl
theorem q857 : (Jvm.Cond.methodLink "GoblinHousehold$Household" (333 : Nat) ({ cls := "java/lang/StringBuilder", name := "toString", desc := "()Ljava/lang/String;" } : Jvm.MethodName)) ∈ lw_all := lw_g (lw_at lw_m4 44 rfl) rfl
theorem q880 : (Jvm.Cond.instanceMethod ({ cls := "GoblinHousehold$Household", name := "addGoblin", desc := "(I)I" } : Jvm.MethodName)) ∈ lw_all := lw_g (lw_at lw_m4 67 rfl) rfl
theorem q881 : (Jvm.Cond.selects "GoblinHousehold$Household" ({ cls := "GoblinHousehold$Household", name := "addGoblin", desc := "(I)I" } : Jvm.MethodName) ({ cls := "GoblinHousehold$Household", name := "addGoblin", desc := "(I)I" } : Jvm.MethodName)) ∈ lw_all := lw_g (lw_at lw_m4 68 rfl) rfl
theorem q882 : (Jvm.Cond.code ({ cls := "GoblinHousehold$Household", name := "addGoblin", desc := "(I)I" } : Jvm.MethodName) prog_18_method_9_code (2 : Nat) (Option.some Jvm.ClassFile.FieldType.int)) ∈ lw_all := lw_g (lw_at lw_m4 69 rfl) rfl
theorem q883 : (Jvm.Cond.methodLinkNest "GoblinHousehold$Household" (83 : Nat) ({ cls := "GoblinHousehold", name := "isBetween", desc := "(III)Z" } : Jvm.MethodName) "GoblinHousehold") ∈ lw_tbl := lw_at lw_m4 70 rfl
theorem q886 : (Jvm.Cond.stringRef "GoblinHousehold$Household" (113 : Nat) "argument") ∈ lw_tbl := lw_at lw_m4 73 rfl
theorem q887 : (Jvm.Cond.methodLinkNest "GoblinHousehold$Household" (115 : Nat) ({ cls := "GoblinHousehold", name := "demand", desc := "(ZLjava/lang/String;)V" } : Jvm.MethodName) "GoblinHousehold") ∈ lw_tbl := lw_at lw_m4 74 rfl
theorem q916 : (Jvm.Cond.stringRef "GoblinHousehold$Household" (119 : Nat) "state") ∈ lw_tbl := lw_at lw_m4 103 rfl
theorem q918 : (Jvm.Cond.methodLink "GoblinHousehold$Household" (121 : Nat) ({ cls := "GoblinHousehold$Goblin", name := "<init>", desc := "(II)V" } : Jvm.MethodName)) ∈ lw_all := lw_g (lw_at lw_m4 105 rfl) rfl
theorem q929 : (Jvm.Cond.fieldLinkNest "GoblinHousehold$Household" (105 : Nat) "GoblinHousehold$Goblin" "strength" "I" "GoblinHousehold") ∈ lw_tbl := lw_at lw_m4 116 rfl
theorem q932 : (Jvm.Cond.fieldLinkNest "GoblinHousehold$Household" (191 : Nat) "GoblinHousehold$Goblin" "isResting" "Z" "GoblinHousehold") ∈ lw_tbl := lw_at lw_m4 119 rfl
theorem q935 : (Jvm.Cond.fieldLinkNest "GoblinHousehold$Household" (198 : Nat) "GoblinHousehold$Goblin" "skipped" "I" "GoblinHousehold") ∈ lw_tbl := lw_at lw_m4 122 rfl
theorem q953 : (Jvm.Cond.interfaceEntry "GoblinHousehold$Household" (55 : Nat)) ∈ lw_tbl := lw_at lw_m4 140 rfl
theorem q954 : (Jvm.Cond.methodLink "GoblinHousehold$Household" (55 : Nat) ({ cls := "java/util/List", name := "add", desc := "(Ljava/lang/Object;)Z" } : Jvm.MethodName)) ∈ lw_all := lw_g (lw_at lw_m4 141 rfl) rfl
theorem q992 : (Jvm.Cond.selects "GoblinHousehold$Household" ({ cls := "java/lang/Object", name := "getClass", desc := "()Ljava/lang/Class;" } : Jvm.MethodName) ({ cls := "java/lang/Object", name := "getClass", desc := "()Ljava/lang/Class;" } : Jvm.MethodName)) ∈ lw_all := lw_g (lw_at lw_m4 179 rfl) rfl
theorem q1055 : (Jvm.Cond.instanceMethod ({ cls := "GoblinHousehold$Household", name := "copy", desc := "()LGoblinHousehold$Household;" } : Jvm.MethodName)) ∈ lw_all := lw_g (lw_at lw_m5 2 rfl) rfl
theorem q1056 : (Jvm.Cond.selects "GoblinHousehold$Household" ({ cls := "GoblinHousehold$Household", name := "copy", desc := "()LGoblinHousehold$Household;" } : Jvm.MethodName) ({ cls := "GoblinHousehold$Household", name := "copy", desc := "()LGoblinHousehold$Household;" } : Jvm.MethodName)) ∈ lw_all := lw_g (lw_at lw_m5 3 rfl) rfl
theorem q1057 : (Jvm.Cond.code ({ cls := "GoblinHousehold$Household", name := "copy", desc := "()LGoblinHousehold$Household;" } : Jvm.MethodName) prog_18_method_2_code (3 : Nat) (Option.some (Jvm.ClassFile.FieldType.object "GoblinHousehold$Household"))) ∈ lw_all := lw_g (lw_at lw_m5 4 rfl) rfl
theorem q1058 : (Jvm.Cond.classLink "GoblinHousehold$Household" (10 : Nat) "GoblinHousehold$Household") ∈ lw_all := lw_g (lw_at lw_m5 5 rfl) rfl
theorem q1059 : (Jvm.Cond.methodLink "GoblinHousehold$Household" (32 : Nat) ({ cls := "GoblinHousehold$Household", name := "<init>", desc := "()V" } : Jvm.MethodName)) ∈ lw_all := lw_g (lw_at lw_m5 6 rfl) rfl
theorem q1060 : (Jvm.Cond.methodLink "GoblinHousehold$Household" (33 : Nat) ({ cls := "java/lang/System", name := "arraycopy", desc := "(Ljava/lang/Object;ILjava/lang/Object;II)V" } : Jvm.MethodName)) ∈ lw_all := lw_g (lw_at lw_m5 7 rfl) rfl
theorem q1061 : (Jvm.Cond.methodLinkNest "GoblinHousehold$Household" (39 : Nat) ({ cls := "GoblinHousehold", name := "copyAll", desc := "(Ljava/util/List;Ljava/util/List;)V" } : Jvm.MethodName) "GoblinHousehold") ∈ lw_tbl := lw_at lw_m5 8 rfl
theorem q1090 : (Jvm.Cond.fieldLinkNest "GoblinHousehold$Household" (133 : Nat) "GoblinHousehold$Broom" "standing" "LGoblinHousehold$Standing;" "GoblinHousehold") ∈ lw_tbl := lw_at lw_m5 37 rfl
theorem q1305 : (Jvm.Cond.instanceMethod ({ cls := "GoblinHousehold$Household", name := "addBroom", desc := "(I)I" } : Jvm.MethodName)) ∈ lw_all := lw_g (lw_at lw_m6 12 rfl) rfl
theorem q1306 : (Jvm.Cond.selects "GoblinHousehold$Household" ({ cls := "GoblinHousehold$Household", name := "addBroom", desc := "(I)I" } : Jvm.MethodName) ({ cls := "GoblinHousehold$Household", name := "addBroom", desc := "(I)I" } : Jvm.MethodName)) ∈ lw_all := lw_g (lw_at lw_m6 13 rfl) rfl
theorem q1307 : (Jvm.Cond.code ({ cls := "GoblinHousehold$Household", name := "addBroom", desc := "(I)I" } : Jvm.MethodName) prog_18_method_10_code (2 : Nat) (Option.some Jvm.ClassFile.FieldType.int)) ∈ lw_all := lw_g (lw_at lw_m6 14 rfl) rfl
theorem q1308 : (Jvm.Cond.methodLink "GoblinHousehold$Household" (124 : Nat) ({ cls := "GoblinHousehold$Broom", name := "<init>", desc := "(I)V" } : Jvm.MethodName)) ∈ lw_all := lw_g (lw_at lw_m6 15 rfl) rfl
theorem q1335 : (Jvm.Cond.instanceMethod ({ cls := "GoblinHousehold$Household", name := "banish", desc := "(I)I" } : Jvm.MethodName)) ∈ lw_all := lw_g (lw_at lw_m6 42 rfl) rfl
theorem q1336 : (Jvm.Cond.selects "GoblinHousehold$Household" ({ cls := "GoblinHousehold$Household", name := "banish", desc := "(I)I" } : Jvm.MethodName) ({ cls := "GoblinHousehold$Household", name := "banish", desc := "(I)I" } : Jvm.MethodName)) ∈ lw_all := lw_g (lw_at lw_m6 43 rfl) rfl
theorem q1337 : (Jvm.Cond.code ({ cls := "GoblinHousehold$Household", name := "banish", desc := "(I)I" } : Jvm.MethodName) prog_18_method_12_code (2 : Nat) (Option.some Jvm.ClassFile.FieldType.int)) ∈ lw_all := lw_g (lw_at lw_m6 44 rfl) rfl
theorem q1338 : (Jvm.Cond.fieldLink "GoblinHousehold$Household" (137 : Nat) "GoblinHousehold$Standing" "BANISHED" "LGoblinHousehold$Standing;") ∈ lw_all := lw_g (lw_at lw_m6 45 rfl) rfl
theorem q1340 : (Jvm.Cond.methodLink "GoblinHousehold$Household" (142 : Nat) ({ cls := "GoblinHousehold$Household", name := "setStanding", desc := "(ILGoblinHousehold$Standing;)I" } : Jvm.MethodName)) ∈ lw_all := lw_g (lw_at lw_m6 47 rfl) rfl
theorem q1341 : (Jvm.Cond.privateMethod ({ cls := "GoblinHousehold$Household", name := "setStanding", desc := "(ILGoblinHousehold$Standing;)I" } : Jvm.MethodName)) ∈ lw_tbl := lw_at lw_m6 48 rfl
theorem q1342 : (Jvm.Cond.instanceMethod ({ cls := "GoblinHousehold$Household", name := "setStanding", desc := "(ILGoblinHousehold$Standing;)I" } : Jvm.MethodName)) ∈ lw_all := lw_g (lw_at lw_m6 49 rfl) rfl
theorem q1343 : (Jvm.Cond.code ({ cls := "GoblinHousehold$Household", name := "setStanding", desc := "(ILGoblinHousehold$Standing;)I" } : Jvm.MethodName) prog_18_method_11_code (3 : Nat) (Option.some Jvm.ClassFile.FieldType.int)) ∈ lw_all := lw_g (lw_at lw_m6 50 rfl) rfl
theorem q1344 : (Jvm.Cond.methodLink "GoblinHousehold$Household" (127 : Nat) ({ cls := "GoblinHousehold$Household", name := "isBroom", desc := "(I)Z" } : Jvm.MethodName)) ∈ lw_all := lw_g (lw_at lw_m6 51 rfl) rfl
theorem q1345 : (Jvm.Cond.instanceMethod ({ cls := "GoblinHousehold$Household", name := "isBroom", desc := "(I)Z" } : Jvm.MethodName)) ∈ lw_all := lw_g (lw_at lw_m6 52 rfl) rfl
theorem q1346 : (Jvm.Cond.selects "GoblinHousehold$Household" ({ cls := "GoblinHousehold$Household", name := "isBroom", desc := "(I)Z" } : Jvm.MethodName) ({ cls := "GoblinHousehold$Household", name := "isBroom", desc := "(I)Z" } : Jvm.MethodName)) ∈ lw_all := lw_g (lw_at lw_m6 53 rfl) rfl
theorem q1347 : (Jvm.Cond.code ({ cls := "GoblinHousehold$Household", name := "isBroom", desc := "(I)Z" } : Jvm.MethodName) prog_18_method_4_code (2 : Nat) (Option.some Jvm.ClassFile.FieldType.boolean)) ∈ lw_all := lw_g (lw_at lw_m6 54 rfl) rfl
theorem q1348 : (Jvm.Cond.stringRef "GoblinHousehold$Household" (131 : Nat) "index") ∈ lw_tbl := lw_at lw_m6 55 rfl
theorem q1359 : (Jvm.Cond.instanceMethod ({ cls := "GoblinHousehold$Household", name := "recall", desc := "(I)I" } : Jvm.MethodName)) ∈ lw_all := lw_g (lw_at lw_m6 66 rfl) rfl
theorem q1360 : (Jvm.Cond.selects "GoblinHousehold$Household" ({ cls := "GoblinHousehold$Household", name := "recall", desc := "(I)I" } : Jvm.MethodName) ({ cls := "GoblinHousehold$Household", name := "recall", desc := "(I)I" } : Jvm.MethodName)) ∈ lw_all := lw_g (lw_at lw_m6 67 rfl) rfl
theorem q1361 : (Jvm.Cond.code ({ cls := "GoblinHousehold$Household", name := "recall", desc := "(I)I" } : Jvm.MethodName) prog_18_method_13_code (2 : Nat) (Option.some Jvm.ClassFile.FieldType.int)) ∈ lw_all := lw_g (lw_at lw_m6 68 rfl) rfl
theorem q1362 : (Jvm.Cond.fieldLink "GoblinHousehold$Household" (146 : Nat) "GoblinHousehold$Standing" "USED" "LGoblinHousehold$Standing;") ∈ lw_all := lw_g (lw_at lw_m6 69 rfl) rfl
theorem q1374 : (Jvm.Cond.instanceMethod ({ cls := "GoblinHousehold$Household", name := "hire", desc := "(IIII)I" } : Jvm.MethodName)) ∈ lw_all := lw_g (lw_at lw_m6 81 rfl) rfl
theorem q1375 : (Jvm.Cond.selects "GoblinHousehold$Household" ({ cls := "GoblinHousehold$Household", name := "hire", desc := "(IIII)I" } : Jvm.MethodName) ({ cls := "GoblinHousehold$Household", name := "hire", desc := "(IIII)I" } : Jvm.MethodName)) ∈ lw_all := lw_g (lw_at lw_m6 82 rfl) rfl
theorem q1376 : (Jvm.Cond.code ({ cls := "GoblinHousehold$Household", name := "hire", desc := "(IIII)I" } : Jvm.MethodName) prog_18_method_15_code (5 : Nat) (Option.some Jvm.ClassFile.FieldType.int)) ∈ lw_all := lw_g (lw_at lw_m6 83 rfl) rfl
theorem q1377 : (Jvm.Cond.methodLink "GoblinHousehold$Household" (155 : Nat) ({ cls := "GoblinHousehold$Household", name := "isGoblin", desc := "(I)Z" } : Jvm.MethodName)) ∈ lw_all := lw_g (lw_at lw_m6 84 rfl) rfl
theorem q1378 : (Jvm.Cond.instanceMethod ({ cls := "GoblinHousehold$Household", name := "isGoblin", desc := "(I)Z" } : Jvm.MethodName)) ∈ lw_all := lw_g (lw_at lw_m6 85 rfl) rfl
theorem q1379 : (Jvm.Cond.selects "GoblinHousehold$Household" ({ cls := "GoblinHousehold$Household", name := "isGoblin", desc := "(I)Z" } : Jvm.MethodName) ({ cls := "GoblinHousehold$Household", name := "isGoblin", desc := "(I)Z" } : Jvm.MethodName)) ∈ lw_all := lw_g (lw_at lw_m6 86 rfl) rfl
theorem q1380 : (Jvm.Cond.code ({ cls := "GoblinHousehold$Household", name := "isGoblin", desc := "(I)Z" } : Jvm.MethodName) prog_18_method_3_code (2 : Nat) (Option.some Jvm.ClassFile.FieldType.boolean)) ∈ lw_all := lw_g (lw_at lw_m6 87 rfl) rfl
theorem q1381 : (Jvm.Cond.stringRef "GoblinHousehold$Household" (162 : Nat) "rule") ∈ lw_tbl := lw_at lw_m6 88 rfl
theorem q1383 : (Jvm.Cond.methodLink "GoblinHousehold$Household" (164 : Nat) ({ cls := "GoblinHousehold$Contract", name := "<init>", desc := "(IIIII)V" } : Jvm.MethodName)) ∈ lw_all := lw_g (lw_at lw_m6 90 rfl) rfl
theorem q1388 : (Jvm.Cond.fieldLinkNest "GoblinHousehold$Household" (87 : Nat) "GoblinHousehold$Contract" "id" "I" "GoblinHousehold") ∈ lw_tbl := lw_at lw_m6 95 rfl
theorem q1391 : (Jvm.Cond.fieldLinkNest "GoblinHousehold$Household" (149 : Nat) "GoblinHousehold$Contract" "goblin" "I" "GoblinHousehold") ∈ lw_tbl := lw_at lw_m6 98 rfl
theorem q1394 : (Jvm.Cond.fieldLinkNest "GoblinHousehold$Household" (152 : Nat) "GoblinHousehold$Contract" "room" "I" "GoblinHousehold") ∈ lw_tbl := lw_at lw_m6 101 rfl
theorem q1398 : (Jvm.Cond.fieldLinkNest "GoblinHousehold$Household" (173 : Nat) "GoblinHousehold$Contract" "wage" "I" "GoblinHousehold") ∈ lw_tbl := lw_at lw_m6 105 rfl
theorem q1402 : (Jvm.Cond.fieldLinkNest "GoblinHousehold$Household" (236 : Nat) "GoblinHousehold$Contract" "effort" "I" "GoblinHousehold") ∈ lw_tbl := lw_at lw_m6 109 rfl
theorem q1426 : (Jvm.Cond.instanceMethod ({ cls := "GoblinHousehold$Household", name := "cancel", desc := "(I)I" } : Jvm.MethodName)) ∈ lw_all := lw_g (lw_at lw_m6 133 rfl) rfl
theorem q1427 : (Jvm.Cond.selects "GoblinHousehold$Household" ({ cls := "GoblinHousehold$Household", name := "cancel", desc := "(I)I" } : Jvm.MethodName) ({ cls := "GoblinHousehold$Household", name := "cancel", desc := "(I)I" } : Jvm.MethodName)) ∈ lw_all := lw_g (lw_at lw_m6 134 rfl) rfl
theorem q1428 : (Jvm.Cond.code ({ cls := "GoblinHousehold$Household", name := "cancel", desc := "(I)I" } : Jvm.MethodName) prog_18_method_16_code (4 : Nat) (Option.some Jvm.ClassFile.FieldType.int)) ∈ lw_all := lw_g (lw_at lw_m6 135 rfl) rfl
theorem q1429 : (Jvm.Cond.methodLink "GoblinHousehold$Household" (167 : Nat) ({ cls := "GoblinHousehold$Household", name := "find", desc := "(I)LGoblinHousehold$Contract;" } : Jvm.MethodName)) ∈ lw_all := lw_g (lw_at lw_m6 136 rfl) rfl
theorem q1430 : (Jvm.Cond.instanceMethod ({ cls := "GoblinHousehold$Household", name := "find", desc := "(I)LGoblinHousehold$Contract;" } : Jvm.MethodName)) ∈ lw_all := lw_g (lw_at lw_m6 137 rfl) rfl
theorem q1431 : (Jvm.Cond.selects "GoblinHousehold$Household" ({ cls := "GoblinHousehold$Household", name := "find", desc := "(I)LGoblinHousehold$Contract;" } : Jvm.MethodName) ({ cls := "GoblinHousehold$Household", name := "find", desc := "(I)LGoblinHousehold$Contract;" } : Jvm.MethodName)) ∈ lw_all := lw_g (lw_at lw_m6 138 rfl) rfl
theorem q1432 : (Jvm.Cond.code ({ cls := "GoblinHousehold$Household", name := "find", desc := "(I)LGoblinHousehold$Contract;" } : Jvm.MethodName) prog_18_method_5_code (4 : Nat) (Option.some (Jvm.ClassFile.FieldType.object "GoblinHousehold$Contract"))) ∈ lw_all := lw_g (lw_at lw_m6 139 rfl) rfl
theorem q1433 : (Jvm.Cond.stringRef "GoblinHousehold$Household" (171 : Nat) "element") ∈ lw_tbl := lw_at lw_m6 140 rfl
theorem q1434 : (Jvm.Cond.methodLink "GoblinHousehold$Household" (176 : Nat) ({ cls := "java/lang/Math", name := "min", desc := "(II)I" } : Jvm.MethodName)) ∈ lw_all := lw_g (lw_at lw_m6 141 rfl) rfl
theorem q1435 : (Jvm.Cond.classLink "GoblinHousehold$Household" (179 : Nat) "GoblinHousehold$Cancelled") ∈ lw_all := lw_g (lw_at lw_m6 142 rfl) rfl
theorem q1437 : (Jvm.Cond.methodLinkNest "GoblinHousehold$Household" (181 : Nat) ({ cls := "GoblinHousehold$Cancelled", name := "<init>", desc := "(LGoblinHousehold$Contract;)V" } : Jvm.MethodName) "GoblinHousehold") ∈ lw_tbl := lw_at lw_m6 144 rfl
theorem q1448 : (Jvm.Cond.methodLink "GoblinHousehold$Household" (184 : Nat) ({ cls := "GoblinHousehold$Household", name := "end", desc := "(LGoblinHousehold$Ending;)V" } : Jvm.MethodName)) ∈ lw_all := lw_g (lw_at lw_m6 155 rfl) rfl
theorem q1449 : (Jvm.Cond.privateMethod ({ cls := "GoblinHousehold$Household", name := "end", desc := "(LGoblinHousehold$Ending;)V" } : Jvm.MethodName)) ∈ lw_tbl := lw_at lw_m6 156 rfl
theorem q1450 : (Jvm.Cond.instanceMethod ({ cls := "GoblinHousehold$Household", name := "end", desc := "(LGoblinHousehold$Ending;)V" } : Jvm.MethodName)) ∈ lw_all := lw_g (lw_at lw_m6 157 rfl) rfl
theorem q1451 : (Jvm.Cond.code ({ cls := "GoblinHousehold$Household", name := "end", desc := "(LGoblinHousehold$Ending;)V" } : Jvm.MethodName) prog_18_method_23_code (2 : Nat) (Option.none : Option Jvm.ClassFile.FieldType)) ∈ lw_all := lw_g (lw_at lw_m6 158 rfl) rfl
theorem q1452 : (Jvm.Cond.interfaceEntry "GoblinHousehold$Household" (210 : Nat)) ∈ lw_tbl := lw_at lw_m6 159 rfl
theorem q1453 : (Jvm.Cond.methodLink "GoblinHousehold$Household" (210 : Nat) ({ cls := "GoblinHousehold$Ending", name := "contract", desc := "()LGoblinHousehold$Contract;" } : Jvm.MethodName)) ∈ lw_all := lw_g (lw_at lw_m6 160 rfl) rfl
theorem q1474 : (Jvm.Cond.interfaceEntry "GoblinHousehold$Household" (216 : Nat)) ∈ lw_tbl := lw_at lw_m6 181 rfl
theorem q1475 : (Jvm.Cond.methodLink "GoblinHousehold$Household" (216 : Nat) ({ cls := "java/util/List", name := "remove", desc := "(Ljava/lang/Object;)Z" } : Jvm.MethodName)) ∈ lw_all := lw_g (lw_at lw_m6 182 rfl) rfl
theorem q1509 : (Jvm.Cond.selects "GoblinHousehold$Household" ({ cls := "java/lang/Object", name := "equals", desc := "(Ljava/lang/Object;)Z" } : Jvm.MethodName) ({ cls := "java/lang/Object", name := "equals", desc := "(Ljava/lang/Object;)Z" } : Jvm.MethodName)) ∈ lw_all := lw_g (lw_at lw_m6 216 rfl) rfl
theorem q1541 : (Jvm.Cond.classLink "GoblinHousehold$Household" (219 : Nat) "GoblinHousehold$Done") ∈ lw_all := lw_g (lw_at lw_m7 8 rfl) rfl
theorem q1542 : (Jvm.Cond.classLink "GoblinHousehold$Household" (221 : Nat) "GoblinHousehold$Broken") ∈ lw_all := lw_g (lw_at lw_m7 9 rfl) rfl
theorem q1543 : (Jvm.Cond.methodLink "GoblinHousehold$Household" (188 : Nat) ({ cls := "GoblinHousehold$Goblin", name := "take", desc := "(I)V" } : Jvm.MethodName)) ∈ lw_all := lw_g (lw_at lw_m7 10 rfl) rfl
theorem q1559 : (Jvm.Cond.instanceMethod ({ cls := "GoblinHousehold$Household", name := "setResting", desc := "(IZ)I" } : Jvm.MethodName)) ∈ lw_all := lw_g (lw_at lw_m7 26 rfl) rfl
theorem q1560 : (Jvm.Cond.selects "GoblinHousehold$Household" ({ cls := "GoblinHousehold$Household", name := "setResting", desc := "(IZ)I" } : Jvm.MethodName) ({ cls := "GoblinHousehold$Household", name := "setResting", desc := "(IZ)I" } : Jvm.MethodName)) ∈ lw_all := lw_g (lw_at lw_m7 27 rfl) rfl
theorem q1561 : (Jvm.Cond.code ({ cls := "GoblinHousehold$Household", name := "setResting", desc := "(IZ)I" } : Jvm.MethodName) prog_18_method_17_code (4 : Nat) (Option.some Jvm.ClassFile.FieldType.int)) ∈ lw_all := lw_g (lw_at lw_m7 28 rfl) rfl
theorem q1562 : (Jvm.Cond.methodLink "GoblinHousehold$Household" (195 : Nat) ({ cls := "GoblinHousehold$Household", name := "restingCount", desc := "()I" } : Jvm.MethodName)) ∈ lw_all := lw_g (lw_at lw_m7 29 rfl) rfl
theorem q1563 : (Jvm.Cond.privateMethod ({ cls := "GoblinHousehold$Household", name := "restingCount", desc := "()I" } : Jvm.MethodName)) ∈ lw_tbl := lw_at lw_m7 30 rfl
theorem q1564 : (Jvm.Cond.instanceMethod ({ cls := "GoblinHousehold$Household", name := "restingCount", desc := "()I" } : Jvm.MethodName)) ∈ lw_all := lw_g (lw_at lw_m7 31 rfl) rfl
theorem q1565 : (Jvm.Cond.code ({ cls := "GoblinHousehold$Household", name := "restingCount", desc := "()I" } : Jvm.MethodName) prog_18_method_18_code (3 : Nat) (Option.some Jvm.ClassFile.FieldType.int)) ∈ lw_all := lw_g (lw_at lw_m7 32 rfl) rfl
theorem q1585 : (Jvm.Cond.instanceMethod ({ cls := "GoblinHousehold$Household", name := "lend", desc := "(II)I" } : Jvm.MethodName)) ∈ lw_all := lw_g (lw_at lw_m7 52 rfl) rfl
theorem q1586 : (Jvm.Cond.selects "GoblinHousehold$Household" ({ cls := "GoblinHousehold$Household", name := "lend", desc := "(II)I" } : Jvm.MethodName) ({ cls := "GoblinHousehold$Household", name := "lend", desc := "(II)I" } : Jvm.MethodName)) ∈ lw_all := lw_g (lw_at lw_m7 53 rfl) rfl
theorem q1587 : (Jvm.Cond.code ({ cls := "GoblinHousehold$Household", name := "lend", desc := "(II)I" } : Jvm.MethodName) prog_18_method_19_code (4 : Nat) (Option.some Jvm.ClassFile.FieldType.int)) ∈ lw_all := lw_g (lw_at lw_m7 54 rfl) rfl
theorem q1588 : (Jvm.Cond.methodLink "GoblinHousehold$Household" (204 : Nat) ({ cls := "GoblinHousehold$Goblin", name := "borrow", desc := "(I)V" } : Jvm.MethodName)) ∈ lw_all := lw_g (lw_at lw_m7 55 rfl) rfl
theorem q1604 : (Jvm.Cond.instanceMethod ({ cls := "GoblinHousehold$Household", name := "fund", desc := "(I)I" } : Jvm.MethodName)) ∈ lw_all := lw_g (lw_at lw_m7 71 rfl) rfl
theorem q1605 : (Jvm.Cond.selects "GoblinHousehold$Household" ({ cls := "GoblinHousehold$Household", name := "fund", desc := "(I)I" } : Jvm.MethodName) ({ cls := "GoblinHousehold$Household", name := "fund", desc := "(I)I" } : Jvm.MethodName)) ∈ lw_all := lw_g (lw_at lw_m7 72 rfl) rfl
theorem q1606 : (Jvm.Cond.code ({ cls := "GoblinHousehold$Household", name := "fund", desc := "(I)I" } : Jvm.MethodName) prog_18_method_20_code (2 : Nat) (Option.some Jvm.ClassFile.FieldType.int)) ∈ lw_all := lw_g (lw_at lw_m7 73 rfl) rfl
theorem q1617 : (Jvm.Cond.instanceMethod ({ cls := "GoblinHousehold$Household", name := "spend", desc := "(I)I" } : Jvm.MethodName)) ∈ lw_all := lw_g (lw_at lw_m7 84 rfl) rfl
theorem q1618 : (Jvm.Cond.selects "GoblinHousehold$Household" ({ cls := "GoblinHousehold$Household", name := "spend", desc := "(I)I" } : Jvm.MethodName) ({ cls := "GoblinHousehold$Household", name := "spend", desc := "(I)I" } : Jvm.MethodName)) ∈ lw_all := lw_g (lw_at lw_m7 85 rfl) rfl
theorem q1619 : (Jvm.Cond.code ({ cls := "GoblinHousehold$Household", name := "spend", desc := "(I)I" } : Jvm.MethodName) prog_18_method_21_code (2 : Nat) (Option.some Jvm.ClassFile.FieldType.int)) ∈ lw_all := lw_g (lw_at lw_m7 86 rfl) rfl
theorem q1630 : (Jvm.Cond.instanceMethod ({ cls := "GoblinHousehold$Household", name := "passNights", desc := "(I)I" } : Jvm.MethodName)) ∈ lw_all := lw_g (lw_at lw_m7 97 rfl) rfl
theorem q1631 : (Jvm.Cond.selects "GoblinHousehold$Household" ({ cls := "GoblinHousehold$Household", name := "passNights", desc := "(I)I" } : Jvm.MethodName) ({ cls := "GoblinHousehold$Household", name := "passNights", desc := "(I)I" } : Jvm.MethodName)) ∈ lw_all := lw_g (lw_at lw_m7 98 rfl) rfl
theorem q1632 : (Jvm.Cond.code ({ cls := "GoblinHousehold$Household", name := "passNights", desc := "(I)I" } : Jvm.MethodName) prog_18_method_22_code (3 : Nat) (Option.some Jvm.ClassFile.FieldType.int)) ∈ lw_all := lw_g (lw_at lw_m7 99 rfl) rfl
theorem q1633 : (Jvm.Cond.methodLink "GoblinHousehold$Household" (207 : Nat) ({ cls := "GoblinHousehold$Household", name := "pass", desc := "(I)V" } : Jvm.MethodName)) ∈ lw_all := lw_g (lw_at lw_m7 100 rfl) rfl
theorem q1634 : (Jvm.Cond.instanceMethod ({ cls := "GoblinHousehold$Household", name := "pass", desc := "(I)V" } : Jvm.MethodName)) ∈ lw_all := lw_g (lw_at lw_m7 101 rfl) rfl
theorem q1635 : (Jvm.Cond.selects "GoblinHousehold$Household" ({ cls := "GoblinHousehold$Household", name := "pass", desc := "(I)V" } : Jvm.MethodName) ({ cls := "GoblinHousehold$Household", name := "pass", desc := "(I)V" } : Jvm.MethodName)) ∈ lw_all := lw_g (lw_at lw_m7 102 rfl) rfl
theorem q1636 : (Jvm.Cond.code ({ cls := "GoblinHousehold$Household", name := "pass", desc := "(I)V" } : Jvm.MethodName) prog_18_method_29_code (3 : Nat) (Option.none : Option Jvm.ClassFile.FieldType)) ∈ lw_all := lw_g (lw_at lw_m7 103 rfl) rfl
theorem q1637 : (Jvm.Cond.methodLink "GoblinHousehold$Household" (257 : Nat) ({ cls := "GoblinHousehold$Household", name := "passNight", desc := "()V" } : Jvm.MethodName)) ∈ lw_all := lw_g (lw_at lw_m7 104 rfl) rfl
theorem q1638 : (Jvm.Cond.privateMethod ({ cls := "GoblinHousehold$Household", name := "passNight", desc := "()V" } : Jvm.MethodName)) ∈ lw_tbl := lw_at lw_m7 105 rfl
theorem q1639 : (Jvm.Cond.instanceMethod ({ cls := "GoblinHousehold$Household", name := "passNight", desc := "()V" } : Jvm.MethodName)) ∈ lw_all := lw_g (lw_at lw_m7 106 rfl) rfl
theorem q1640 : (Jvm.Cond.code ({ cls := "GoblinHousehold$Household", name := "passNight", desc := "()V" } : Jvm.MethodName) prog_18_method_28_code (3 : Nat) (Option.none : Option Jvm.ClassFile.FieldType)) ∈ lw_all := lw_g (lw_at lw_m7 107 rfl) rfl
theorem q1641 : (Jvm.Cond.methodLink "GoblinHousehold$Household" (247 : Nat) ({ cls := "GoblinHousehold$Household", name := "work", desc := "(LGoblinHousehold$Goblin;)V" } : Jvm.MethodName)) ∈ lw_all := lw_g (lw_at lw_m7 108 rfl) rfl
theorem q1642 : (Jvm.Cond.privateMethod ({ cls := "GoblinHousehold$Household", name := "work", desc := "(LGoblinHousehold$Goblin;)V" } : Jvm.MethodName)) ∈ lw_tbl := lw_at lw_m7 109 rfl
theorem q1643 : (Jvm.Cond.instanceMethod ({ cls := "GoblinHousehold$Household", name := "work", desc := "(LGoblinHousehold$Goblin;)V" } : Jvm.MethodName)) ∈ lw_all := lw_g (lw_at lw_m7 110 rfl) rfl
theorem q1644 : (Jvm.Cond.code ({ cls := "GoblinHousehold$Household", name := "work", desc := "(LGoblinHousehold$Goblin;)V" } : Jvm.MethodName) prog_18_method_26_code (4 : Nat) (Option.none : Option Jvm.ClassFile.FieldType)) ∈ lw_all := lw_g (lw_at lw_m7 111 rfl) rfl
theorem q1645 : (Jvm.Cond.methodLink "GoblinHousehold$Household" (231 : Nat) ({ cls := "GoblinHousehold$Goblin", name := "index", desc := "()I" } : Jvm.MethodName)) ∈ lw_all := lw_g (lw_at lw_m7 112 rfl) rfl
theorem q1646 : (Jvm.Cond.methodLink "GoblinHousehold$Household" (233 : Nat) ({ cls := "GoblinHousehold$Household", name := "firstOf", desc := "(I)LGoblinHousehold$Contract;" } : Jvm.MethodName)) ∈ lw_all := lw_g (lw_at lw_m7 113 rfl) rfl
theorem q1647 : (Jvm.Cond.privateMethod ({ cls := "GoblinHousehold$Household", name := "firstOf", desc := "(I)LGoblinHousehold$Contract;" } : Jvm.MethodName)) ∈ lw_tbl := lw_at lw_m7 114 rfl
theorem q1648 : (Jvm.Cond.instanceMethod ({ cls := "GoblinHousehold$Household", name := "firstOf", desc := "(I)LGoblinHousehold$Contract;" } : Jvm.MethodName)) ∈ lw_all := lw_g (lw_at lw_m7 115 rfl) rfl
theorem q1649 : (Jvm.Cond.code ({ cls := "GoblinHousehold$Household", name := "firstOf", desc := "(I)LGoblinHousehold$Contract;" } : Jvm.MethodName) prog_18_method_25_code (3 : Nat) (Option.some (Jvm.ClassFile.FieldType.object "GoblinHousehold$Contract"))) ∈ lw_all := lw_g (lw_at lw_m7 116 rfl) rfl
theorem q1650 : (Jvm.Cond.methodLink "GoblinHousehold$Household" (239 : Nat) ({ cls := "GoblinHousehold$Household", name := "sweepingPower", desc := "()I" } : Jvm.MethodName)) ∈ lw_all := lw_g (lw_at lw_m7 117 rfl) rfl
theorem q1651 : (Jvm.Cond.privateMethod ({ cls := "GoblinHousehold$Household", name := "sweepingPower", desc := "()I" } : Jvm.MethodName)) ∈ lw_tbl := lw_at lw_m7 118 rfl
theorem q1652 : (Jvm.Cond.instanceMethod ({ cls := "GoblinHousehold$Household", name := "sweepingPower", desc := "()I" } : Jvm.MethodName)) ∈ lw_all := lw_g (lw_at lw_m7 119 rfl) rfl
theorem q1653 : (Jvm.Cond.code ({ cls := "GoblinHousehold$Household", name := "sweepingPower", desc := "()I" } : Jvm.MethodName) prog_18_method_7_code (3 : Nat) (Option.some Jvm.ClassFile.FieldType.int)) ∈ lw_all := lw_g (lw_at lw_m7 120 rfl) rfl
theorem q1654 : (Jvm.Cond.methodLink "GoblinHousehold$Household" (96 : Nat) ({ cls := "GoblinHousehold$Broom", name := "usefulPower", desc := "()I" } : Jvm.MethodName)) ∈ lw_all := lw_g (lw_at lw_m7 121 rfl) rfl
theorem q1668 : (Jvm.Cond.methodLinkNest "GoblinHousehold$Household" (242 : Nat) ({ cls := "GoblinHousehold$Done", name := "<init>", desc := "(LGoblinHousehold$Contract;)V" } : Jvm.MethodName) "GoblinHousehold") ∈ lw_tbl := lw_at lw_m7 135 rfl
theorem q1676 : (Jvm.Cond.methodLink "GoblinHousehold$Household" (243 : Nat) ({ cls := "GoblinHousehold$Household", name := "pay", desc := "(LGoblinHousehold$Contract;)V" } : Jvm.MethodName)) ∈ lw_all := lw_g (lw_at lw_m7 143 rfl) rfl
theorem q1677 : (Jvm.Cond.privateMethod ({ cls := "GoblinHousehold$Household", name := "pay", desc := "(LGoblinHousehold$Contract;)V" } : Jvm.MethodName)) ∈ lw_tbl := lw_at lw_m7 144 rfl
theorem q1678 : (Jvm.Cond.instanceMethod ({ cls := "GoblinHousehold$Household", name := "pay", desc := "(LGoblinHousehold$Contract;)V" } : Jvm.MethodName)) ∈ lw_all := lw_g (lw_at lw_m7 145 rfl) rfl
theorem q1679 : (Jvm.Cond.code ({ cls := "GoblinHousehold$Household", name := "pay", desc := "(LGoblinHousehold$Contract;)V" } : Jvm.MethodName) prog_18_method_24_code (3 : Nat) (Option.none : Option Jvm.ClassFile.FieldType)) ∈ lw_all := lw_g (lw_at lw_m7 146 rfl) rfl
theorem q1680 : (Jvm.Cond.methodLink "GoblinHousehold$Household" (223 : Nat) ({ cls := "GoblinHousehold$Goblin", name := "earn", desc := "(I)I" } : Jvm.MethodName)) ∈ lw_all := lw_g (lw_at lw_m7 147 rfl) rfl
theorem q1687 : (Jvm.Cond.methodLink "GoblinHousehold$Household" (251 : Nat) ({ cls := "GoblinHousehold$Household", name := "breakContracts", desc := "(LGoblinHousehold$Goblin;)V" } : Jvm.MethodName)) ∈ lw_all := lw_g (lw_at lw_m7 154 rfl) rfl
theorem q1688 : (Jvm.Cond.privateMethod ({ cls := "GoblinHousehold$Household", name := "breakContracts", desc := "(LGoblinHousehold$Goblin;)V" } : Jvm.MethodName)) ∈ lw_tbl := lw_at lw_m7 155 rfl
theorem q1689 : (Jvm.Cond.instanceMethod ({ cls := "GoblinHousehold$Household", name := "breakContracts", desc := "(LGoblinHousehold$Goblin;)V" } : Jvm.MethodName)) ∈ lw_all := lw_g (lw_at lw_m7 156 rfl) rfl
theorem q1690 : (Jvm.Cond.code ({ cls := "GoblinHousehold$Household", name := "breakContracts", desc := "(LGoblinHousehold$Goblin;)V" } : Jvm.MethodName) prog_18_method_27_code (3 : Nat) (Option.none : Option Jvm.ClassFile.FieldType)) ∈ lw_all := lw_g (lw_at lw_m7 157 rfl) rfl
theorem q1692 : (Jvm.Cond.methodLinkNest "GoblinHousehold$Household" (246 : Nat) ({ cls := "GoblinHousehold$Broken", name := "<init>", desc := "(LGoblinHousehold$Contract;)V" } : Jvm.MethodName) "GoblinHousehold") ∈ lw_tbl := lw_at lw_m7 159 rfl
theorem q1700 : (Jvm.Cond.methodLink "GoblinHousehold$Household" (254 : Nat) ({ cls := "GoblinHousehold$Goblin", name := "growDebt", desc := "()I" } : Jvm.MethodName)) ∈ lw_all := lw_g (lw_at lw_m7 167 rfl) rfl
theorem q1727 : (Jvm.Cond.instanceMethod ({ cls := "GoblinHousehold$Household", name := "roomAt", desc := "(I)I" } : Jvm.MethodName)) ∈ lw_all := lw_g (lw_at lw_m7 194 rfl) rfl
theorem q1728 : (Jvm.Cond.selects "GoblinHousehold$Household" ({ cls := "GoblinHousehold$Household", name := "roomAt", desc := "(I)I" } : Jvm.MethodName) ({ cls := "GoblinHousehold$Household", name := "roomAt", desc := "(I)I" } : Jvm.MethodName)) ∈ lw_all := lw_g (lw_at lw_m7 195 rfl) rfl
theorem q1729 : (Jvm.Cond.code ({ cls := "GoblinHousehold$Household", name := "roomAt", desc := "(I)I" } : Jvm.MethodName) prog_18_method_37_code (5 : Nat) (Option.some Jvm.ClassFile.FieldType.int)) ∈ lw_all := lw_g (lw_at lw_m7 196 rfl) rfl
theorem q1818 : (Jvm.Cond.instanceMethod ({ cls := "GoblinHousehold$Household", name := "goblinAt", desc := "(I)I" } : Jvm.MethodName)) ∈ lw_all := lw_g (lw_at lw_m8 45 rfl) rfl
theorem q1819 : (Jvm.Cond.selects "GoblinHousehold$Household" ({ cls := "GoblinHousehold$Household", name := "goblinAt", desc := "(I)I" } : Jvm.MethodName) ({ cls := "GoblinHousehold$Household", name := "goblinAt", desc := "(I)I" } : Jvm.MethodName)) ∈ lw_all := lw_g (lw_at lw_m8 46 rfl) rfl
theorem q1820 : (Jvm.Cond.code ({ cls := "GoblinHousehold$Household", name := "goblinAt", desc := "(I)I" } : Jvm.MethodName) prog_18_method_38_code (5 : Nat) (Option.some Jvm.ClassFile.FieldType.int)) ∈ lw_all := lw_g (lw_at lw_m8 47 rfl) rfl
theorem q1821 : (Jvm.Cond.methodLink "GoblinHousehold$Household" (283 : Nat) ({ cls := "GoblinHousehold$Goblin", name := "isRicherThan", desc := "(LGoblinHousehold$Goblin;)Z" } : Jvm.MethodName)) ∈ lw_all := lw_g (lw_at lw_m8 48 rfl) rfl
theorem q1906 : (Jvm.Cond.instanceMethod ({ cls := "GoblinHousehold$Household", name := "nightsUntilDone", desc := "(I)I" } : Jvm.MethodName)) ∈ lw_all := lw_g (lw_at lw_m8 133 rfl) rfl
theorem q1907 : (Jvm.Cond.selects "GoblinHousehold$Household" ({ cls := "GoblinHousehold$Household", name := "nightsUntilDone", desc := "(I)I" } : Jvm.MethodName) ({ cls := "GoblinHousehold$Household", name := "nightsUntilDone", desc := "(I)I" } : Jvm.MethodName)) ∈ lw_all := lw_g (lw_at lw_m8 134 rfl) rfl
theorem q1908 : (Jvm.Cond.code ({ cls := "GoblinHousehold$Household", name := "nightsUntilDone", desc := "(I)I" } : Jvm.MethodName) prog_18_method_30_code (5 : Nat) (Option.some Jvm.ClassFile.FieldType.int)) ∈ lw_all := lw_g (lw_at lw_m8 135 rfl) rfl
theorem q1909 : (Jvm.Cond.methodLink "GoblinHousehold$Household" (260 : Nat) ({ cls := "GoblinHousehold$Household", name := "copy", desc := "()LGoblinHousehold$Household;" } : Jvm.MethodName)) ∈ lw_all := lw_g (lw_at lw_m8 136 rfl) rfl
theorem q1910 : (Jvm.Cond.methodLink "GoblinHousehold$Household" (264 : Nat) ({ cls := "GoblinHousehold$Household", name := "goblinOf", desc := "(I)I" } : Jvm.MethodName)) ∈ lw_all := lw_g (lw_at lw_m8 137 rfl) rfl
theorem q1911 : (Jvm.Cond.privateMethod ({ cls := "GoblinHousehold$Household", name := "goblinOf", desc := "(I)I" } : Jvm.MethodName)) ∈ lw_tbl := lw_at lw_m8 138 rfl
theorem q1912 : (Jvm.Cond.instanceMethod ({ cls := "GoblinHousehold$Household", name := "goblinOf", desc := "(I)I" } : Jvm.MethodName)) ∈ lw_all := lw_g (lw_at lw_m8 139 rfl) rfl
theorem q1913 : (Jvm.Cond.code ({ cls := "GoblinHousehold$Household", name := "goblinOf", desc := "(I)I" } : Jvm.MethodName) prog_18_method_31_code (2 : Nat) (Option.some Jvm.ClassFile.FieldType.int)) ∈ lw_all := lw_g (lw_at lw_m8 140 rfl) rfl
theorem q1914 : (Jvm.Cond.methodLink "GoblinHousehold$Household" (267 : Nat) ({ cls := "GoblinHousehold$Household", name := "wasBroken", desc := "(II)Z" } : Jvm.MethodName)) ∈ lw_all := lw_g (lw_at lw_m8 141 rfl) rfl
theorem q1915 : (Jvm.Cond.privateMethod ({ cls := "GoblinHousehold$Household", name := "wasBroken", desc := "(II)Z" } : Jvm.MethodName)) ∈ lw_tbl := lw_at lw_m8 142 rfl
theorem q1916 : (Jvm.Cond.instanceMethod ({ cls := "GoblinHousehold$Household", name := "wasBroken", desc := "(II)Z" } : Jvm.MethodName)) ∈ lw_all := lw_g (lw_at lw_m8 143 rfl) rfl
theorem q1917 : (Jvm.Cond.code ({ cls := "GoblinHousehold$Household", name := "wasBroken", desc := "(II)Z" } : Jvm.MethodName) prog_18_method_32_code (3 : Nat) (Option.some Jvm.ClassFile.FieldType.boolean)) ∈ lw_all := lw_g (lw_at lw_m8 144 rfl) rfl
theorem q1936 : (Jvm.Cond.instanceMethod ({ cls := "GoblinHousehold$Household", name := "after", desc := "(I)LGoblinHousehold$Household;" } : Jvm.MethodName)) ∈ lw_all := lw_g (lw_at lw_m8 163 rfl) rfl
theorem q1937 : (Jvm.Cond.selects "GoblinHousehold$Household" ({ cls := "GoblinHousehold$Household", name := "after", desc := "(I)LGoblinHousehold$Household;" } : Jvm.MethodName) ({ cls := "GoblinHousehold$Household", name := "after", desc := "(I)LGoblinHousehold$Household;" } : Jvm.MethodName)) ∈ lw_all := lw_g (lw_at lw_m8 164 rfl) rfl
theorem q1938 : (Jvm.Cond.code ({ cls := "GoblinHousehold$Household", name := "after", desc := "(I)LGoblinHousehold$Household;" } : Jvm.MethodName) prog_18_method_33_code (3 : Nat) (Option.some (Jvm.ClassFile.FieldType.object "GoblinHousehold$Household"))) ∈ lw_all := lw_g (lw_at lw_m8 165 rfl) rfl
theorem q2161 : (Jvm.Cond.selects "GoblinHousehold$Household" ({ cls := "java/lang/Object", name := "toString", desc := "()Ljava/lang/String;" } : Jvm.MethodName) ({ cls := "java/lang/Object", name := "toString", desc := "()Ljava/lang/String;" } : Jvm.MethodName)) ∈ lw_all := lw_g (lw_at lw_m9 148 rfl) rfl
theorem q3011 : (Jvm.Cond.castable "GoblinHousehold$Household" "java/lang/Object") ∈ lw_tbl := lw_at lw_m13 38 rfl
theorem in_X2 : ∀ w ∈ wsX20, w ∈ lw_all := lw_in wsX20 [211, 213, 215, 217, 219, 221, 223, 225, 227, 229, 231, 233, 235] (by decide +kernel) (by decide +kernel)
/-! GoblinHousehold$Failure -/
set_option maxRecDepth 100000
def RX4 : String := "GoblinHousehold$Failure"
abbrev cX4_init : ByteArray := prog_16_method_1_code
def yX4_init : MethodName := ⟨RX4, "<init>", "(LGoblinHousehold$Failure;)V"⟩
def dkwX4_init_0 : List UInt8 := [42, 1, 43, 183, 0, 1, 177]
abbrev dktX4_init_0 : List UInt8 := dkwX4_init_0 ++ []
theorem dksX4_init_0 : cX4_init.data.toList.drop 0 = dktX4_init_0 := by decide +kernel
theorem dX4_init_0 : decode cX4_init 0 = .ok (.aload_n 0, 1) := dk_42 (dk_at dksX4_init_0 0 rfl rfl)
theorem dX4_init_1 : decode cX4_init 1 = .ok (.aconst_null, 1) := dk_1 (dk_at dksX4_init_0 1 rfl rfl)
theorem dX4_init_2 : decode cX4_init 2 = .ok (.aload_n 1, 1) := dk_43 (dk_at dksX4_init_0 2 rfl rfl)
theorem dX4_init_3 : decode cX4_init 3 = .ok (.invokespecial 1, 3) := dk_183 0 1 (dk_at dksX4_init_0 3 rfl rfl)
theorem dX4_init_6 : decode cX4_init 6 = .ok (.return_, 1) := dk_177 (dk_at dksX4_init_0 6 rfl rfl)
theorem q108 : (Jvm.Cond.initialized "GoblinHousehold$Failure") ∈ lw_all := lw_g (lw_at lw_m1 15 rfl) rfl
theorem q903 : (Jvm.Cond.instanceMethod ({ cls := "GoblinHousehold$Failure", name := "<init>", desc := "(LGoblinHousehold$Failure;)V" } : Jvm.MethodName)) ∈ lw_all := lw_g (lw_at lw_m4 90 rfl) rfl
theorem q904 : (Jvm.Cond.code ({ cls := "GoblinHousehold$Failure", name := "<init>", desc := "(LGoblinHousehold$Failure;)V" } : Jvm.MethodName) prog_16_method_1_code (2 : Nat) (Option.none : Option Jvm.ClassFile.FieldType)) ∈ lw_all := lw_g (lw_at lw_m4 91 rfl) rfl
theorem q905 : (Jvm.Cond.methodLink "GoblinHousehold$Failure" (1 : Nat) ({ cls := "java/lang/Exception", name := "<init>", desc := "(Ljava/lang/String;Ljava/lang/Throwable;)V" } : Jvm.MethodName)) ∈ lw_all := lw_g (lw_at lw_m4 92 rfl) rfl
theorem q1165 : (Jvm.Cond.declares ({ cls := "GoblinHousehold$Failure", name := "asPublicException", desc := "()Ljava/lang/RuntimeException;" } : Jvm.MethodName)) ∈ lw_tbl := lw_at lw_m5 112 rfl
theorem q1166 : (Jvm.Cond.sameMethod "GoblinHousehold$Failure" "GoblinHousehold$Failure" "asPublicException" "()Ljava/lang/RuntimeException;") ∈ lw_all := lw_g (lw_at lw_m5 113 rfl) rfl
/-! GoblinHousehold$ConditionFailure -/
set_option maxRecDepth 100000
def RX5 : String := "GoblinHousehold$ConditionFailure"
def TX5 : u_T := fun k => match k with
  | 0 => ("java/lang/Throwable", "cause", "Ljava/lang/Throwable;", false)
  | 1 => ("java/lang/Throwable", "stackTrace", "[Ljava/lang/StackTraceElement;", false)
  | 2 => ("java/lang/Throwable", "suppressedExceptions", "Ljava/util/List;", false)
  | 3 => ("java/lang/Throwable", "detailMessage", "Ljava/lang/String;", false)
  | 4 => ("java/lang/Throwable", "backtrace", "Ljava/lang/Object;", false)
  | 5 => ("java/lang/Throwable", "depth", "I", false)
  | _ => ("GoblinHousehold$ConditionFailure", "kind", "Ljava/lang/String;", true)
def tyX5 : Nat → FieldType := fun k => match k with
  | 0 => .object "java/lang/Throwable"
  | 1 => .array (.object "java/lang/StackTraceElement")
  | 2 => .object "java/util/List"
  | 3 => .object "java/lang/String"
  | 4 => .object "java/lang/Object"
  | 5 => .int
  | _ => .object "java/lang/String"
abbrev wsX50 : List Cond := u_ws RX5 TX5 7
theorem nmX5 : ∀ a, a < 7 → ∀ b, b < 7 → a ≠ b → (TX5 a).2.1 ≠ (TX5 b).2.1 := by decide +kernel
theorem tyX5_ok : ∀ k, k < 7 → parseFieldDescriptor (TX5 k).2.2.1 = some (tyX5 k) := by decide +kernel
abbrev cX5_init : ByteArray := prog_10_method_1_code
def yX5_init : MethodName := ⟨RX5, "<init>", "(Ljava/lang/String;)V"⟩
def dkwX5_init_0 : List UInt8 := [42, 1, 183, 0, 1, 42, 43, 181, 0, 7, 177]
abbrev dktX5_init_0 : List UInt8 := dkwX5_init_0 ++ []
theorem dksX5_init_0 : cX5_init.data.toList.drop 0 = dktX5_init_0 := by decide +kernel
theorem dX5_init_0 : decode cX5_init 0 = .ok (.aload_n 0, 1) := dk_42 (dk_at dksX5_init_0 0 rfl rfl)
theorem dX5_init_1 : decode cX5_init 1 = .ok (.aconst_null, 1) := dk_1 (dk_at dksX5_init_0 1 rfl rfl)
theorem dX5_init_2 : decode cX5_init 2 = .ok (.invokespecial 1, 3) := dk_183 0 1 (dk_at dksX5_init_0 2 rfl rfl)
theorem dX5_init_5 : decode cX5_init 5 = .ok (.aload_n 0, 1) := dk_42 (dk_at dksX5_init_0 5 rfl rfl)
theorem dX5_init_6 : decode cX5_init 6 = .ok (.aload_n 1, 1) := dk_43 (dk_at dksX5_init_0 6 rfl rfl)
theorem dX5_init_7 : decode cX5_init 7 = .ok (.putfield 7, 3) := dk_181 0 7 (dk_at dksX5_init_0 7 rfl rfl)
theorem dX5_init_10 : decode cX5_init 10 = .ok (.return_, 1) := dk_177 (dk_at dksX5_init_0 10 rfl rfl)
abbrev cX5_asPublicException : ByteArray := prog_10_method_2_code
def yX5_asPublicException : MethodName := ⟨RX5, "asPublicException", "()Ljava/lang/RuntimeException;"⟩
def dkwX5_asPublicException_7 : List UInt8 := [187, 0, 42, 89, 183, 0, 44, 176, 187, 0, 45, 89, 183, 0, 47, 176]
abbrev dktX5_asPublicException_7 : List UInt8 := dkwX5_asPublicException_7 ++ []
def dkwX5_asPublicException_6 : List UInt8 := [187, 0, 31, 89, 183, 0, 33, 176, 187, 0, 36, 89, 183, 0, 38, 176, 187, 0, 39, 89, 183, 0, 41, 176]
abbrev dktX5_asPublicException_6 : List UInt8 := dkwX5_asPublicException_6 ++ dktX5_asPublicException_7
def dkwX5_asPublicException_5 : List UInt8 := [170, 0, 0, 0, 0, 62, 0, 0, 0, 0, 0, 0, 0, 3, 0, 0, 0, 30, 0, 0, 0, 38, 0, 0, 0, 46, 0, 0, 0, 54]
abbrev dktX5_asPublicException_5 : List UInt8 := dkwX5_asPublicException_5 ++ dktX5_asPublicException_6
def dkwX5_asPublicException_4 : List UInt8 := [153, 0, 5, 6, 61, 28]
abbrev dktX5_asPublicException_4 : List UInt8 := dkwX5_asPublicException_4 ++ dktX5_asPublicException_5
def dkwX5_asPublicException_3 : List UInt8 := [61, 167, 0, 28, 43, 18, 27, 182, 0, 21, 153, 0, 19, 5, 61, 167, 0, 14, 43, 18, 29, 182, 0, 21]
abbrev dktX5_asPublicException_3 : List UInt8 := dkwX5_asPublicException_3 ++ dktX5_asPublicException_4
def dkwX5_asPublicException_2 : List UInt8 := [43, 18, 19, 182, 0, 21, 153, 0, 47, 3, 61, 167, 0, 42, 43, 18, 25, 182, 0, 21, 153, 0, 33, 4]
abbrev dktX5_asPublicException_2 : List UInt8 := dkwX5_asPublicException_2 ++ dktX5_asPublicException_3
def dkwX5_asPublicException_1 : List UInt8 := [171, 0, 0, 0, 94, 0, 0, 0, 4, 156, 227, 30, 252, 0, 0, 0, 83, 161, 63, 94, 189, 0, 0, 0, 55, 5, 251, 40, 210, 0, 0, 0, 41, 6, 138, 196, 145, 0, 0, 0, 69]
abbrev dktX5_asPublicException_1 : List UInt8 := dkwX5_asPublicException_1 ++ dktX5_asPublicException_2
def dkwX5_asPublicException_0 : List UInt8 := [42, 180, 0, 7, 76, 2, 61, 43, 182, 0, 13]
abbrev dktX5_asPublicException_0 : List UInt8 := dkwX5_asPublicException_0 ++ dktX5_asPublicException_1
theorem dksX5_asPublicException_0 : cX5_asPublicException.data.toList.drop 0 = dktX5_asPublicException_0 := by decide +kernel
theorem dksX5_asPublicException_1 : cX5_asPublicException.data.toList.drop 11 = dktX5_asPublicException_1 := dk_seg dksX5_asPublicException_0 11 rfl rfl
theorem dksX5_asPublicException_2 : cX5_asPublicException.data.toList.drop 52 = dktX5_asPublicException_2 := dk_seg dksX5_asPublicException_1 41 rfl rfl
theorem dksX5_asPublicException_3 : cX5_asPublicException.data.toList.drop 76 = dktX5_asPublicException_3 := dk_seg dksX5_asPublicException_2 24 rfl rfl
theorem dksX5_asPublicException_4 : cX5_asPublicException.data.toList.drop 100 = dktX5_asPublicException_4 := dk_seg dksX5_asPublicException_3 24 rfl rfl
theorem dksX5_asPublicException_5 : cX5_asPublicException.data.toList.drop 106 = dktX5_asPublicException_5 := dk_seg dksX5_asPublicException_4 6 rfl rfl
theorem dksX5_asPublicException_6 : cX5_asPublicException.data.toList.drop 136 = dktX5_asPublicException_6 := dk_seg dksX5_asPublicException_5 30 rfl rfl
theorem dksX5_asPublicException_7 : cX5_asPublicException.data.toList.drop 160 = dktX5_asPublicException_7 := dk_seg dksX5_asPublicException_6 24 rfl rfl
theorem dX5_asPublicException_0 : decode cX5_asPublicException 0 = .ok (.aload_n 0, 1) := dk_42 (dk_at dksX5_asPublicException_0 0 rfl rfl)
theorem dX5_asPublicException_1 : decode cX5_asPublicException 1 = .ok (.getfield 7, 3) := dk_180 0 7 (dk_at dksX5_asPublicException_0 1 rfl rfl)
theorem dX5_asPublicException_4 : decode cX5_asPublicException 4 = .ok (.astore_n 1, 1) := dk_76 (dk_at dksX5_asPublicException_0 4 rfl rfl)
theorem dX5_asPublicException_5 : decode cX5_asPublicException 5 = .ok (.iconst (-1), 1) := dk_2 (dk_at dksX5_asPublicException_0 5 rfl rfl)
theorem dX5_asPublicException_6 : decode cX5_asPublicException 6 = .ok (.istore_n 2, 1) := dk_61 (dk_at dksX5_asPublicException_0 6 rfl rfl)
theorem dX5_asPublicException_7 : decode cX5_asPublicException 7 = .ok (.aload_n 1, 1) := dk_43 (dk_at dksX5_asPublicException_0 7 rfl rfl)
theorem dX5_asPublicException_8 : decode cX5_asPublicException 8 = .ok (.invokevirtual 13, 3) := dk_182 0 13 (dk_at dksX5_asPublicException_0 8 rfl rfl)
theorem dX5_asPublicException_11 : decode cX5_asPublicException 11 = .ok (.lookupswitch 94 #[(-1662836996, 83), (-1589682499, 55), (100346066, 41), (109757585, 69)], 41) := by decide +kernel
theorem dX5_asPublicException_52 : decode cX5_asPublicException 52 = .ok (.aload_n 1, 1) := dk_43 (dk_at dksX5_asPublicException_2 0 rfl rfl)
theorem dX5_asPublicException_53 : decode cX5_asPublicException 53 = .ok (.ldc 19, 2) := dk_18 19 (dk_at dksX5_asPublicException_2 1 rfl rfl)
theorem dX5_asPublicException_55 : decode cX5_asPublicException 55 = .ok (.invokevirtual 21, 3) := dk_182 0 21 (dk_at dksX5_asPublicException_2 3 rfl rfl)
theorem dX5_asPublicException_58 : decode cX5_asPublicException 58 = .ok (.ifCond .eq 47, 3) := dk_153 0 47 (dk_at dksX5_asPublicException_2 6 rfl rfl)
theorem dX5_asPublicException_61 : decode cX5_asPublicException 61 = .ok (.iconst 0, 1) := dk_3 (dk_at dksX5_asPublicException_2 9 rfl rfl)
theorem dX5_asPublicException_62 : decode cX5_asPublicException 62 = .ok (.istore_n 2, 1) := dk_61 (dk_at dksX5_asPublicException_2 10 rfl rfl)
theorem dX5_asPublicException_63 : decode cX5_asPublicException 63 = .ok (.goto 42, 3) := dk_167 0 42 (dk_at dksX5_asPublicException_2 11 rfl rfl)
theorem dX5_asPublicException_66 : decode cX5_asPublicException 66 = .ok (.aload_n 1, 1) := dk_43 (dk_at dksX5_asPublicException_2 14 rfl rfl)
theorem dX5_asPublicException_67 : decode cX5_asPublicException 67 = .ok (.ldc 25, 2) := dk_18 25 (dk_at dksX5_asPublicException_2 15 rfl rfl)
theorem dX5_asPublicException_69 : decode cX5_asPublicException 69 = .ok (.invokevirtual 21, 3) := dk_182 0 21 (dk_at dksX5_asPublicException_2 17 rfl rfl)
theorem dX5_asPublicException_72 : decode cX5_asPublicException 72 = .ok (.ifCond .eq 33, 3) := dk_153 0 33 (dk_at dksX5_asPublicException_2 20 rfl rfl)
theorem dX5_asPublicException_75 : decode cX5_asPublicException 75 = .ok (.iconst 1, 1) := dk_4 (dk_at dksX5_asPublicException_2 23 rfl rfl)
theorem dX5_asPublicException_76 : decode cX5_asPublicException 76 = .ok (.istore_n 2, 1) := dk_61 (dk_at dksX5_asPublicException_3 0 rfl rfl)
theorem dX5_asPublicException_77 : decode cX5_asPublicException 77 = .ok (.goto 28, 3) := dk_167 0 28 (dk_at dksX5_asPublicException_3 1 rfl rfl)
theorem dX5_asPublicException_80 : decode cX5_asPublicException 80 = .ok (.aload_n 1, 1) := dk_43 (dk_at dksX5_asPublicException_3 4 rfl rfl)
theorem dX5_asPublicException_81 : decode cX5_asPublicException 81 = .ok (.ldc 27, 2) := dk_18 27 (dk_at dksX5_asPublicException_3 5 rfl rfl)
theorem dX5_asPublicException_83 : decode cX5_asPublicException 83 = .ok (.invokevirtual 21, 3) := dk_182 0 21 (dk_at dksX5_asPublicException_3 7 rfl rfl)
theorem dX5_asPublicException_86 : decode cX5_asPublicException 86 = .ok (.ifCond .eq 19, 3) := dk_153 0 19 (dk_at dksX5_asPublicException_3 10 rfl rfl)
theorem dX5_asPublicException_89 : decode cX5_asPublicException 89 = .ok (.iconst 2, 1) := dk_5 (dk_at dksX5_asPublicException_3 13 rfl rfl)
theorem dX5_asPublicException_90 : decode cX5_asPublicException 90 = .ok (.istore_n 2, 1) := dk_61 (dk_at dksX5_asPublicException_3 14 rfl rfl)
theorem dX5_asPublicException_91 : decode cX5_asPublicException 91 = .ok (.goto 14, 3) := dk_167 0 14 (dk_at dksX5_asPublicException_3 15 rfl rfl)
theorem dX5_asPublicException_94 : decode cX5_asPublicException 94 = .ok (.aload_n 1, 1) := dk_43 (dk_at dksX5_asPublicException_3 18 rfl rfl)
theorem dX5_asPublicException_95 : decode cX5_asPublicException 95 = .ok (.ldc 29, 2) := dk_18 29 (dk_at dksX5_asPublicException_3 19 rfl rfl)
theorem dX5_asPublicException_97 : decode cX5_asPublicException 97 = .ok (.invokevirtual 21, 3) := dk_182 0 21 (dk_at dksX5_asPublicException_3 21 rfl rfl)
theorem dX5_asPublicException_100 : decode cX5_asPublicException 100 = .ok (.ifCond .eq 5, 3) := dk_153 0 5 (dk_at dksX5_asPublicException_4 0 rfl rfl)
theorem dX5_asPublicException_103 : decode cX5_asPublicException 103 = .ok (.iconst 3, 1) := dk_6 (dk_at dksX5_asPublicException_4 3 rfl rfl)
theorem dX5_asPublicException_104 : decode cX5_asPublicException 104 = .ok (.istore_n 2, 1) := dk_61 (dk_at dksX5_asPublicException_4 4 rfl rfl)
theorem dX5_asPublicException_105 : decode cX5_asPublicException 105 = .ok (.iload_n 2, 1) := dk_28 (dk_at dksX5_asPublicException_4 5 rfl rfl)
theorem dX5_asPublicException_106 : decode cX5_asPublicException 106 = .ok (.tableswitch 62 0 3 #[30, 38, 46, 54], 30) := by decide +kernel
theorem dX5_asPublicException_136 : decode cX5_asPublicException 136 = .ok (.new 31, 3) := dk_187 0 31 (dk_at dksX5_asPublicException_6 0 rfl rfl)
theorem dX5_asPublicException_139 : decode cX5_asPublicException 139 = .ok (.dup, 1) := dk_89 (dk_at dksX5_asPublicException_6 3 rfl rfl)
theorem dX5_asPublicException_140 : decode cX5_asPublicException 140 = .ok (.invokespecial 33, 3) := dk_183 0 33 (dk_at dksX5_asPublicException_6 4 rfl rfl)
theorem dX5_asPublicException_143 : decode cX5_asPublicException 143 = .ok (.areturn, 1) := dk_176 (dk_at dksX5_asPublicException_6 7 rfl rfl)
theorem dX5_asPublicException_144 : decode cX5_asPublicException 144 = .ok (.new 36, 3) := dk_187 0 36 (dk_at dksX5_asPublicException_6 8 rfl rfl)
theorem dX5_asPublicException_147 : decode cX5_asPublicException 147 = .ok (.dup, 1) := dk_89 (dk_at dksX5_asPublicException_6 11 rfl rfl)
theorem dX5_asPublicException_148 : decode cX5_asPublicException 148 = .ok (.invokespecial 38, 3) := dk_183 0 38 (dk_at dksX5_asPublicException_6 12 rfl rfl)
theorem dX5_asPublicException_151 : decode cX5_asPublicException 151 = .ok (.areturn, 1) := dk_176 (dk_at dksX5_asPublicException_6 15 rfl rfl)
theorem dX5_asPublicException_152 : decode cX5_asPublicException 152 = .ok (.new 39, 3) := dk_187 0 39 (dk_at dksX5_asPublicException_6 16 rfl rfl)
theorem dX5_asPublicException_155 : decode cX5_asPublicException 155 = .ok (.dup, 1) := dk_89 (dk_at dksX5_asPublicException_6 19 rfl rfl)
theorem dX5_asPublicException_156 : decode cX5_asPublicException 156 = .ok (.invokespecial 41, 3) := dk_183 0 41 (dk_at dksX5_asPublicException_6 20 rfl rfl)
theorem dX5_asPublicException_159 : decode cX5_asPublicException 159 = .ok (.areturn, 1) := dk_176 (dk_at dksX5_asPublicException_6 23 rfl rfl)
theorem dX5_asPublicException_160 : decode cX5_asPublicException 160 = .ok (.new 42, 3) := dk_187 0 42 (dk_at dksX5_asPublicException_7 0 rfl rfl)
theorem dX5_asPublicException_163 : decode cX5_asPublicException 163 = .ok (.dup, 1) := dk_89 (dk_at dksX5_asPublicException_7 3 rfl rfl)
theorem dX5_asPublicException_164 : decode cX5_asPublicException 164 = .ok (.invokespecial 44, 3) := dk_183 0 44 (dk_at dksX5_asPublicException_7 4 rfl rfl)
theorem dX5_asPublicException_167 : decode cX5_asPublicException 167 = .ok (.areturn, 1) := dk_176 (dk_at dksX5_asPublicException_7 7 rfl rfl)
theorem dX5_asPublicException_168 : decode cX5_asPublicException 168 = .ok (.new 45, 3) := dk_187 0 45 (dk_at dksX5_asPublicException_7 8 rfl rfl)
theorem dX5_asPublicException_171 : decode cX5_asPublicException 171 = .ok (.dup, 1) := dk_89 (dk_at dksX5_asPublicException_7 11 rfl rfl)
theorem dX5_asPublicException_172 : decode cX5_asPublicException 172 = .ok (.invokespecial 47, 3) := dk_183 0 47 (dk_at dksX5_asPublicException_7 12 rfl rfl)
theorem dX5_asPublicException_175 : decode cX5_asPublicException 175 = .ok (.areturn, 1) := dk_176 (dk_at dksX5_asPublicException_7 15 rfl rfl)
theorem q109 : (Jvm.Cond.initialized "GoblinHousehold$ConditionFailure") ∈ lw_all := lw_g (lw_at lw_m1 16 rfl) rfl
theorem q426 : (Jvm.Cond.selects "GoblinHousehold$ConditionFailure" ({ cls := "java/lang/Throwable", name := "fillInStackTrace", desc := "()Ljava/lang/Throwable;" } : Jvm.MethodName) ({ cls := "java/lang/Throwable", name := "fillInStackTrace", desc := "()Ljava/lang/Throwable;" } : Jvm.MethodName)) ∈ lw_all := lw_g (lw_at lw_m2 93 rfl) rfl
theorem q891 : (Jvm.Cond.instantiable "GoblinHousehold$ConditionFailure" (7 : Nat)) ∈ lw_all := lw_g (lw_at lw_m4 78 rfl) rfl
theorem q892 : (Jvm.Cond.castable "GoblinHousehold$ConditionFailure" "GoblinHousehold$ConditionFailure") ∈ lw_tbl := lw_at lw_m4 79 rfl
theorem q893 : (Jvm.Cond.selects "GoblinHousehold$ConditionFailure" ({ cls := "java/lang/Throwable", name := "fillInStackTrace", desc := "(I)Ljava/lang/Throwable;" } : Jvm.MethodName) ({ cls := "java/lang/Throwable", name := "fillInStackTrace", desc := "(I)Ljava/lang/Throwable;" } : Jvm.MethodName)) ∈ lw_all := lw_g (lw_at lw_m4 80 rfl) rfl
theorem q894 : (Jvm.Cond.lays "GoblinHousehold$ConditionFailure" "java/lang/Throwable" "cause" "Ljava/lang/Throwable;") ∈ lw_all := lw_g (lw_at lw_m4 81 rfl) rfl
theorem q895 : (Jvm.Cond.lays "GoblinHousehold$ConditionFailure" "java/lang/Throwable" "stackTrace" "[Ljava/lang/StackTraceElement;") ∈ lw_all := lw_g (lw_at lw_m4 82 rfl) rfl
theorem q896 : (Jvm.Cond.lays "GoblinHousehold$ConditionFailure" "java/lang/Throwable" "suppressedExceptions" "Ljava/util/List;") ∈ lw_all := lw_g (lw_at lw_m4 83 rfl) rfl
theorem q897 : (Jvm.Cond.lays "GoblinHousehold$ConditionFailure" "java/lang/Throwable" "detailMessage" "Ljava/lang/String;") ∈ lw_all := lw_g (lw_at lw_m4 84 rfl) rfl
theorem q898 : (Jvm.Cond.lays "GoblinHousehold$ConditionFailure" "java/lang/Throwable" "backtrace" "Ljava/lang/Object;") ∈ lw_all := lw_g (lw_at lw_m4 85 rfl) rfl
theorem q900 : (Jvm.Cond.instanceMethod ({ cls := "GoblinHousehold$ConditionFailure", name := "<init>", desc := "(Ljava/lang/String;)V" } : Jvm.MethodName)) ∈ lw_all := lw_g (lw_at lw_m4 87 rfl) rfl
theorem q901 : (Jvm.Cond.code ({ cls := "GoblinHousehold$ConditionFailure", name := "<init>", desc := "(Ljava/lang/String;)V" } : Jvm.MethodName) prog_10_method_1_code (2 : Nat) (Option.none : Option Jvm.ClassFile.FieldType)) ∈ lw_all := lw_g (lw_at lw_m4 88 rfl) rfl
theorem q902 : (Jvm.Cond.methodLink "GoblinHousehold$ConditionFailure" (1 : Nat) ({ cls := "GoblinHousehold$Failure", name := "<init>", desc := "(LGoblinHousehold$Failure;)V" } : Jvm.MethodName)) ∈ lw_all := lw_g (lw_at lw_m4 89 rfl) rfl
theorem q911 : (Jvm.Cond.fieldLink "GoblinHousehold$ConditionFailure" (7 : Nat) "GoblinHousehold$ConditionFailure" "kind" "Ljava/lang/String;") ∈ lw_all := lw_g (lw_at lw_m4 98 rfl) rfl
theorem q912 : (Jvm.Cond.laysFinal "GoblinHousehold$ConditionFailure" "GoblinHousehold$ConditionFailure" "kind" "Ljava/lang/String;") ∈ lw_all := lw_g (lw_at lw_m4 99 rfl) rfl
theorem q913 : (Jvm.Cond.soleField "GoblinHousehold$ConditionFailure" "kind") ∈ lw_all := lw_g (lw_at lw_m4 100 rfl) rfl
theorem q914 : (Jvm.Cond.lays "GoblinHousehold$ConditionFailure" "java/lang/Throwable" "depth" "I") ∈ lw_all := lw_g (lw_at lw_m4 101 rfl) rfl
theorem q915 : (Jvm.Cond.superclass "GoblinHousehold$ConditionFailure" "GoblinHousehold$Failure") ∈ lw_all := lw_g (lw_at lw_m4 102 rfl) rfl
theorem q988 : (Jvm.Cond.selects "GoblinHousehold$ConditionFailure" ({ cls := "java/lang/Object", name := "getClass", desc := "()Ljava/lang/Class;" } : Jvm.MethodName) ({ cls := "java/lang/Object", name := "getClass", desc := "()Ljava/lang/Class;" } : Jvm.MethodName)) ∈ lw_all := lw_g (lw_at lw_m4 175 rfl) rfl
theorem q1185 : (Jvm.Cond.selects "GoblinHousehold$ConditionFailure" ({ cls := "GoblinHousehold$Failure", name := "asPublicException", desc := "()Ljava/lang/RuntimeException;" } : Jvm.MethodName) ({ cls := "GoblinHousehold$ConditionFailure", name := "asPublicException", desc := "()Ljava/lang/RuntimeException;" } : Jvm.MethodName)) ∈ lw_all := lw_g (lw_at lw_m5 132 rfl) rfl
theorem q1186 : (Jvm.Cond.instanceMethod ({ cls := "GoblinHousehold$ConditionFailure", name := "asPublicException", desc := "()Ljava/lang/RuntimeException;" } : Jvm.MethodName)) ∈ lw_all := lw_g (lw_at lw_m5 133 rfl) rfl
theorem q1187 : (Jvm.Cond.code ({ cls := "GoblinHousehold$ConditionFailure", name := "asPublicException", desc := "()Ljava/lang/RuntimeException;" } : Jvm.MethodName) prog_10_method_2_code (3 : Nat) (Option.some (Jvm.ClassFile.FieldType.object "java/lang/RuntimeException"))) ∈ lw_all := lw_g (lw_at lw_m5 134 rfl) rfl
theorem q1188 : (Jvm.Cond.methodLink "GoblinHousehold$ConditionFailure" (13 : Nat) ({ cls := "java/lang/String", name := "hashCode", desc := "()I" } : Jvm.MethodName)) ∈ lw_all := lw_g (lw_at lw_m5 135 rfl) rfl
theorem q1249 : (Jvm.Cond.stringRef "GoblinHousehold$ConditionFailure" (19 : Nat) "index") ∈ lw_tbl := lw_at lw_m5 196 rfl
theorem q1250 : (Jvm.Cond.methodLink "GoblinHousehold$ConditionFailure" (21 : Nat) ({ cls := "java/lang/String", name := "equals", desc := "(Ljava/lang/Object;)Z" } : Jvm.MethodName)) ∈ lw_all := lw_g (lw_at lw_m5 197 rfl) rfl
theorem q1258 : (Jvm.Cond.stringRef "GoblinHousehold$ConditionFailure" (25 : Nat) "argument") ∈ lw_tbl := lw_at lw_m5 205 rfl
theorem q1259 : (Jvm.Cond.stringRef "GoblinHousehold$ConditionFailure" (27 : Nat) "state") ∈ lw_tbl := lw_at lw_m5 206 rfl
theorem q1260 : (Jvm.Cond.stringRef "GoblinHousehold$ConditionFailure" (29 : Nat) "element") ∈ lw_tbl := lw_at lw_m5 207 rfl
theorem q1261 : (Jvm.Cond.classLink "GoblinHousehold$ConditionFailure" (31 : Nat) "java/lang/IndexOutOfBoundsException") ∈ lw_all := lw_g (lw_at lw_m5 208 rfl) rfl
theorem q1262 : (Jvm.Cond.methodLink "GoblinHousehold$ConditionFailure" (33 : Nat) ({ cls := "java/lang/IndexOutOfBoundsException", name := "<init>", desc := "()V" } : Jvm.MethodName)) ∈ lw_all := lw_g (lw_at lw_m5 209 rfl) rfl
theorem q1266 : (Jvm.Cond.classLink "GoblinHousehold$ConditionFailure" (36 : Nat) "java/lang/IllegalArgumentException") ∈ lw_all := lw_g (lw_at lw_m5 213 rfl) rfl
theorem q1267 : (Jvm.Cond.methodLink "GoblinHousehold$ConditionFailure" (38 : Nat) ({ cls := "java/lang/IllegalArgumentException", name := "<init>", desc := "()V" } : Jvm.MethodName)) ∈ lw_all := lw_g (lw_at lw_m5 214 rfl) rfl
theorem q1271 : (Jvm.Cond.classLink "GoblinHousehold$ConditionFailure" (39 : Nat) "java/lang/IllegalStateException") ∈ lw_all := lw_g (lw_at lw_m5 218 rfl) rfl
theorem q1272 : (Jvm.Cond.methodLink "GoblinHousehold$ConditionFailure" (41 : Nat) ({ cls := "java/lang/IllegalStateException", name := "<init>", desc := "()V" } : Jvm.MethodName)) ∈ lw_all := lw_g (lw_at lw_m5 219 rfl) rfl
theorem q1273 : (Jvm.Cond.classLink "GoblinHousehold$ConditionFailure" (42 : Nat) "java/util/NoSuchElementException") ∈ lw_all := lw_g (lw_at lw_m5 220 rfl) rfl
theorem q1274 : (Jvm.Cond.methodLink "GoblinHousehold$ConditionFailure" (44 : Nat) ({ cls := "java/util/NoSuchElementException", name := "<init>", desc := "()V" } : Jvm.MethodName)) ∈ lw_all := lw_g (lw_at lw_m5 221 rfl) rfl
theorem q1275 : (Jvm.Cond.classLink "GoblinHousehold$ConditionFailure" (45 : Nat) "java/lang/UnsupportedOperationException") ∈ lw_all := lw_g (lw_at lw_m5 222 rfl) rfl
theorem q1284 : (Jvm.Cond.methodLink "GoblinHousehold$ConditionFailure" (47 : Nat) ({ cls := "java/lang/UnsupportedOperationException", name := "<init>", desc := "()V" } : Jvm.MethodName)) ∈ lw_all := lw_g (lw_at lw_m5 231 rfl) rfl
theorem q1505 : (Jvm.Cond.selects "GoblinHousehold$ConditionFailure" ({ cls := "java/lang/Object", name := "equals", desc := "(Ljava/lang/Object;)Z" } : Jvm.MethodName) ({ cls := "java/lang/Object", name := "equals", desc := "(Ljava/lang/Object;)Z" } : Jvm.MethodName)) ∈ lw_all := lw_g (lw_at lw_m6 212 rfl) rfl
theorem q2127 : (Jvm.Cond.selects "GoblinHousehold$ConditionFailure" ({ cls := "java/lang/Throwable", name := "getLocalizedMessage", desc := "()Ljava/lang/String;" } : Jvm.MethodName) ({ cls := "java/lang/Throwable", name := "getLocalizedMessage", desc := "()Ljava/lang/String;" } : Jvm.MethodName)) ∈ lw_all := lw_g (lw_at lw_m9 114 rfl) rfl
theorem q2142 : (Jvm.Cond.selects "GoblinHousehold$ConditionFailure" ({ cls := "java/lang/Throwable", name := "getMessage", desc := "()Ljava/lang/String;" } : Jvm.MethodName) ({ cls := "java/lang/Throwable", name := "getMessage", desc := "()Ljava/lang/String;" } : Jvm.MethodName)) ∈ lw_all := lw_g (lw_at lw_m9 129 rfl) rfl
theorem q2158 : (Jvm.Cond.selects "GoblinHousehold$ConditionFailure" ({ cls := "java/lang/Object", name := "toString", desc := "()Ljava/lang/String;" } : Jvm.MethodName) ({ cls := "java/lang/Throwable", name := "toString", desc := "()Ljava/lang/String;" } : Jvm.MethodName)) ∈ lw_all := lw_g (lw_at lw_m9 145 rfl) rfl
theorem q3006 : (Jvm.Cond.castable "GoblinHousehold$ConditionFailure" "GoblinHousehold$Failure") ∈ lw_tbl := lw_at lw_m13 33 rfl
theorem q3016 : (Jvm.Cond.castable "GoblinHousehold$ConditionFailure" "java/lang/Object") ∈ lw_tbl := lw_at lw_m13 43 rfl
theorem in_X5 : ∀ w ∈ wsX50, w ∈ lw_all := lw_in wsX50 [894, 895, 896, 897, 898, 914, 912] (by decide +kernel) (by decide +kernel)
/-! GoblinHousehold$Being -/
set_option maxRecDepth 100000
def RX6 : String := "GoblinHousehold$Being"
abbrev cX6_init : ByteArray := prog_2_method_1_code
def yX6_init : MethodName := ⟨RX6, "<init>", "(I)V"⟩
def dkwX6_init_0 : List UInt8 := [42, 183, 0, 1, 42, 27, 181, 0, 7, 177]
abbrev dktX6_init_0 : List UInt8 := dkwX6_init_0 ++ []
theorem dksX6_init_0 : cX6_init.data.toList.drop 0 = dktX6_init_0 := by decide +kernel
theorem dX6_init_0 : decode cX6_init 0 = .ok (.aload_n 0, 1) := dk_42 (dk_at dksX6_init_0 0 rfl rfl)
theorem dX6_init_1 : decode cX6_init 1 = .ok (.invokespecial 1, 3) := dk_183 0 1 (dk_at dksX6_init_0 1 rfl rfl)
theorem dX6_init_4 : decode cX6_init 4 = .ok (.aload_n 0, 1) := dk_42 (dk_at dksX6_init_0 4 rfl rfl)
theorem dX6_init_5 : decode cX6_init 5 = .ok (.iload_n 1, 1) := dk_27 (dk_at dksX6_init_0 5 rfl rfl)
theorem dX6_init_6 : decode cX6_init 6 = .ok (.putfield 7, 3) := dk_181 0 7 (dk_at dksX6_init_0 6 rfl rfl)
theorem dX6_init_9 : decode cX6_init 9 = .ok (.return_, 1) := dk_177 (dk_at dksX6_init_0 9 rfl rfl)
abbrev cX6_index : ByteArray := prog_2_method_2_code
def yX6_index : MethodName := ⟨RX6, "index", "()I"⟩
theorem dX6_index_0 : decode cX6_index 0 = .ok (.aload_n 0, 1) := by decide +kernel
theorem dX6_index_1 : decode cX6_index 1 = .ok (.getfield 7, 3) := by decide +kernel
theorem dX6_index_4 : decode cX6_index 4 = .ok (.ireturn, 1) := by decide +kernel
abbrev cX6_text : ByteArray := prog_2_method_3_code
def yX6_text : MethodName := ⟨RX6, "text", "()Ljava/lang/String;"⟩
def dkwX6_text_0 : List UInt8 := [187, 0, 13, 89, 183, 0, 15, 18, 16, 182, 0, 18, 42, 180, 0, 7, 182, 0, 22, 182, 0, 25, 176]
abbrev dktX6_text_0 : List UInt8 := dkwX6_text_0 ++ []
theorem dksX6_text_0 : cX6_text.data.toList.drop 0 = dktX6_text_0 := by decide +kernel
theorem dX6_text_0 : decode cX6_text 0 = .ok (.new 13, 3) := dk_187 0 13 (dk_at dksX6_text_0 0 rfl rfl)
theorem dX6_text_3 : decode cX6_text 3 = .ok (.dup, 1) := dk_89 (dk_at dksX6_text_0 3 rfl rfl)
theorem dX6_text_4 : decode cX6_text 4 = .ok (.invokespecial 15, 3) := dk_183 0 15 (dk_at dksX6_text_0 4 rfl rfl)
theorem dX6_text_7 : decode cX6_text 7 = .ok (.ldc 16, 2) := dk_18 16 (dk_at dksX6_text_0 7 rfl rfl)
theorem dX6_text_9 : decode cX6_text 9 = .ok (.invokevirtual 18, 3) := dk_182 0 18 (dk_at dksX6_text_0 9 rfl rfl)
theorem dX6_text_12 : decode cX6_text 12 = .ok (.aload_n 0, 1) := dk_42 (dk_at dksX6_text_0 12 rfl rfl)
theorem dX6_text_13 : decode cX6_text 13 = .ok (.getfield 7, 3) := dk_180 0 7 (dk_at dksX6_text_0 13 rfl rfl)
theorem dX6_text_16 : decode cX6_text 16 = .ok (.invokevirtual 22, 3) := dk_182 0 22 (dk_at dksX6_text_0 16 rfl rfl)
theorem dX6_text_19 : decode cX6_text 19 = .ok (.invokevirtual 25, 3) := dk_182 0 25 (dk_at dksX6_text_0 19 rfl rfl)
theorem dX6_text_22 : decode cX6_text 22 = .ok (.areturn, 1) := dk_176 (dk_at dksX6_text_0 22 rfl rfl)
theorem q110 : (Jvm.Cond.initialized "GoblinHousehold$Being") ∈ lw_all := lw_g (lw_at lw_m1 17 rfl) rfl
theorem q925 : (Jvm.Cond.instanceMethod ({ cls := "GoblinHousehold$Being", name := "<init>", desc := "(I)V" } : Jvm.MethodName)) ∈ lw_all := lw_g (lw_at lw_m4 112 rfl) rfl
theorem q926 : (Jvm.Cond.code ({ cls := "GoblinHousehold$Being", name := "<init>", desc := "(I)V" } : Jvm.MethodName) prog_2_method_1_code (2 : Nat) (Option.none : Option Jvm.ClassFile.FieldType)) ∈ lw_all := lw_g (lw_at lw_m4 113 rfl) rfl
theorem q927 : (Jvm.Cond.methodLink "GoblinHousehold$Being" (1 : Nat) ({ cls := "java/lang/Object", name := "<init>", desc := "()V" } : Jvm.MethodName)) ∈ lw_all := lw_g (lw_at lw_m4 114 rfl) rfl
theorem q939 : (Jvm.Cond.fieldLink "GoblinHousehold$Being" (7 : Nat) "GoblinHousehold$Being" "index" "I") ∈ lw_all := lw_g (lw_at lw_m4 126 rfl) rfl
theorem q951 : (Jvm.Cond.soleField "GoblinHousehold$Being" "index") ∈ lw_all := lw_g (lw_at lw_m4 138 rfl) rfl
theorem q1109 : (Jvm.Cond.declares ({ cls := "GoblinHousehold$Being", name := "index", desc := "()I" } : Jvm.MethodName)) ∈ lw_tbl := lw_at lw_m5 56 rfl
theorem q1111 : (Jvm.Cond.instanceMethod ({ cls := "GoblinHousehold$Being", name := "index", desc := "()I" } : Jvm.MethodName)) ∈ lw_all := lw_g (lw_at lw_m5 58 rfl) rfl
theorem q1112 : (Jvm.Cond.code ({ cls := "GoblinHousehold$Being", name := "index", desc := "()I" } : Jvm.MethodName) prog_2_method_2_code (1 : Nat) (Option.some Jvm.ClassFile.FieldType.int)) ∈ lw_all := lw_g (lw_at lw_m5 59 rfl) rfl
theorem q1987 : (Jvm.Cond.declares ({ cls := "GoblinHousehold$Being", name := "text", desc := "()Ljava/lang/String;" } : Jvm.MethodName)) ∈ lw_tbl := lw_at lw_m8 214 rfl
theorem q1989 : (Jvm.Cond.instanceMethod ({ cls := "GoblinHousehold$Being", name := "text", desc := "()Ljava/lang/String;" } : Jvm.MethodName)) ∈ lw_all := lw_g (lw_at lw_m8 216 rfl) rfl
theorem q1990 : (Jvm.Cond.code ({ cls := "GoblinHousehold$Being", name := "text", desc := "()Ljava/lang/String;" } : Jvm.MethodName) prog_2_method_3_code (1 : Nat) (Option.some (Jvm.ClassFile.FieldType.object "java/lang/String"))) ∈ lw_all := lw_g (lw_at lw_m8 217 rfl) rfl
theorem q1991 : (Jvm.Cond.classLink "GoblinHousehold$Being" (13 : Nat) "java/lang/StringBuilder") ∈ lw_all := lw_g (lw_at lw_m8 218 rfl) rfl
theorem q1992 : (Jvm.Cond.methodLink "GoblinHousehold$Being" (15 : Nat) ({ cls := "java/lang/StringBuilder", name := "<init>", desc := "()V" } : Jvm.MethodName)) ∈ lw_all := lw_g (lw_at lw_m8 219 rfl) rfl
theorem q1993 : (Jvm.Cond.stringRef "GoblinHousehold$Being" (16 : Nat) "") ∈ lw_tbl := lw_at lw_m8 220 rfl
theorem q1994 : (Jvm.Cond.methodLink "GoblinHousehold$Being" (18 : Nat) ({ cls := "java/lang/StringBuilder", name := "append", desc := "(Ljava/lang/String;)Ljava/lang/StringBuilder;" } : Jvm.MethodName)) ∈ lw_all := lw_g (lw_at lw_m8 221 rfl) rfl
theorem q1995 : (Jvm.Cond.methodLink "GoblinHousehold$Being" (22 : Nat) ({ cls := "java/lang/StringBuilder", name := "append", desc := "(I)Ljava/lang/StringBuilder;" } : Jvm.MethodName)) ∈ lw_all := lw_g (lw_at lw_m8 222 rfl) rfl
theorem q1996 : (Jvm.Cond.methodLink "GoblinHousehold$Being" (25 : Nat) ({ cls := "java/lang/StringBuilder", name := "toString", desc := "()Ljava/lang/String;" } : Jvm.MethodName)) ∈ lw_all := lw_g (lw_at lw_m8 223 rfl) rfl
/-! GoblinHousehold$Debtor -/
set_option maxRecDepth 100000
def RX7 : String := "GoblinHousehold$Debtor"
abbrev cX7_purse : ByteArray := prog_13_method_2_code
def yX7_purse : MethodName := ⟨RX7, "purse", "()I"⟩
theorem dX7_purse_0 : decode cX7_purse 0 = .ok (.aload_n 0, 1) := by decide +kernel
theorem dX7_purse_1 : decode cX7_purse 1 = .ok (.getfield 9, 3) := by decide +kernel
theorem dX7_purse_4 : decode cX7_purse 4 = .ok (.ireturn, 1) := by decide +kernel
abbrev cX7_debt : ByteArray := prog_13_method_3_code
def yX7_debt : MethodName := ⟨RX7, "debt", "()I"⟩
theorem dX7_debt_0 : decode cX7_debt 0 = .ok (.aload_n 0, 1) := by decide +kernel
theorem dX7_debt_1 : decode cX7_debt 1 = .ok (.getfield 15, 3) := by decide +kernel
theorem dX7_debt_4 : decode cX7_debt 4 = .ok (.ireturn, 1) := by decide +kernel
abbrev cX7_init : ByteArray := prog_13_method_1_code
def yX7_init : MethodName := ⟨RX7, "<init>", "(I)V"⟩
def dkwX7_init_0 : List UInt8 := [42, 27, 183, 0, 3, 177]
abbrev dktX7_init_0 : List UInt8 := dkwX7_init_0 ++ []
theorem dksX7_init_0 : cX7_init.data.toList.drop 0 = dktX7_init_0 := by decide +kernel
theorem dX7_init_0 : decode cX7_init 0 = .ok (.aload_n 0, 1) := dk_42 (dk_at dksX7_init_0 0 rfl rfl)
theorem dX7_init_1 : decode cX7_init 1 = .ok (.iload_n 1, 1) := dk_27 (dk_at dksX7_init_0 1 rfl rfl)
theorem dX7_init_2 : decode cX7_init 2 = .ok (.invokespecial 3, 3) := dk_183 0 3 (dk_at dksX7_init_0 2 rfl rfl)
theorem dX7_init_5 : decode cX7_init 5 = .ok (.return_, 1) := dk_177 (dk_at dksX7_init_0 5 rfl rfl)
abbrev cX7_takeOver : ByteArray := prog_13_method_9_code
def yX7_takeOver : MethodName := ⟨RX7, "takeOver", "(LGoblinHousehold$Debtor;)V"⟩
def dkwX7_takeOver_0 : List UInt8 := [42, 43, 180, 0, 9, 181, 0, 9, 42, 43, 180, 0, 15, 181, 0, 15, 177]
abbrev dktX7_takeOver_0 : List UInt8 := dkwX7_takeOver_0 ++ []
theorem dksX7_takeOver_0 : cX7_takeOver.data.toList.drop 0 = dktX7_takeOver_0 := by decide +kernel
theorem dX7_takeOver_0 : decode cX7_takeOver 0 = .ok (.aload_n 0, 1) := dk_42 (dk_at dksX7_takeOver_0 0 rfl rfl)
theorem dX7_takeOver_1 : decode cX7_takeOver 1 = .ok (.aload_n 1, 1) := dk_43 (dk_at dksX7_takeOver_0 1 rfl rfl)
theorem dX7_takeOver_2 : decode cX7_takeOver 2 = .ok (.getfield 9, 3) := dk_180 0 9 (dk_at dksX7_takeOver_0 2 rfl rfl)
theorem dX7_takeOver_5 : decode cX7_takeOver 5 = .ok (.putfield 9, 3) := dk_181 0 9 (dk_at dksX7_takeOver_0 5 rfl rfl)
theorem dX7_takeOver_8 : decode cX7_takeOver 8 = .ok (.aload_n 0, 1) := dk_42 (dk_at dksX7_takeOver_0 8 rfl rfl)
theorem dX7_takeOver_9 : decode cX7_takeOver 9 = .ok (.aload_n 1, 1) := dk_43 (dk_at dksX7_takeOver_0 9 rfl rfl)
theorem dX7_takeOver_10 : decode cX7_takeOver 10 = .ok (.getfield 15, 3) := dk_180 0 15 (dk_at dksX7_takeOver_0 10 rfl rfl)
theorem dX7_takeOver_13 : decode cX7_takeOver 13 = .ok (.putfield 15, 3) := dk_181 0 15 (dk_at dksX7_takeOver_0 13 rfl rfl)
theorem dX7_takeOver_16 : decode cX7_takeOver 16 = .ok (.return_, 1) := dk_177 (dk_at dksX7_takeOver_0 16 rfl rfl)
abbrev cX7_take : ByteArray := prog_13_method_5_code
def yX7_take : MethodName := ⟨RX7, "take", "(I)V"⟩
def dkwX7_take_0 : List UInt8 := [42, 89, 180, 0, 9, 27, 96, 181, 0, 9, 177]
abbrev dktX7_take_0 : List UInt8 := dkwX7_take_0 ++ []
theorem dksX7_take_0 : cX7_take.data.toList.drop 0 = dktX7_take_0 := by decide +kernel
theorem dX7_take_0 : decode cX7_take 0 = .ok (.aload_n 0, 1) := dk_42 (dk_at dksX7_take_0 0 rfl rfl)
theorem dX7_take_1 : decode cX7_take 1 = .ok (.dup, 1) := dk_89 (dk_at dksX7_take_0 1 rfl rfl)
theorem dX7_take_2 : decode cX7_take 2 = .ok (.getfield 9, 3) := dk_180 0 9 (dk_at dksX7_take_0 2 rfl rfl)
theorem dX7_take_5 : decode cX7_take 5 = .ok (.iload_n 1, 1) := dk_27 (dk_at dksX7_take_0 5 rfl rfl)
theorem dX7_take_6 : decode cX7_take 6 = .ok (.iadd, 1) := dk_96 (dk_at dksX7_take_0 6 rfl rfl)
theorem dX7_take_7 : decode cX7_take 7 = .ok (.putfield 9, 3) := dk_181 0 9 (dk_at dksX7_take_0 7 rfl rfl)
theorem dX7_take_10 : decode cX7_take 10 = .ok (.return_, 1) := dk_177 (dk_at dksX7_take_0 10 rfl rfl)
abbrev cX7_borrow : ByteArray := prog_13_method_6_code
def yX7_borrow : MethodName := ⟨RX7, "borrow", "(I)V"⟩
def dkwX7_borrow_0 : List UInt8 := [42, 89, 180, 0, 9, 27, 96, 181, 0, 9, 42, 89, 180, 0, 15, 27, 96, 181, 0, 15, 177]
abbrev dktX7_borrow_0 : List UInt8 := dkwX7_borrow_0 ++ []
theorem dksX7_borrow_0 : cX7_borrow.data.toList.drop 0 = dktX7_borrow_0 := by decide +kernel
theorem dX7_borrow_0 : decode cX7_borrow 0 = .ok (.aload_n 0, 1) := dk_42 (dk_at dksX7_borrow_0 0 rfl rfl)
theorem dX7_borrow_1 : decode cX7_borrow 1 = .ok (.dup, 1) := dk_89 (dk_at dksX7_borrow_0 1 rfl rfl)
theorem dX7_borrow_2 : decode cX7_borrow 2 = .ok (.getfield 9, 3) := dk_180 0 9 (dk_at dksX7_borrow_0 2 rfl rfl)
theorem dX7_borrow_5 : decode cX7_borrow 5 = .ok (.iload_n 1, 1) := dk_27 (dk_at dksX7_borrow_0 5 rfl rfl)
theorem dX7_borrow_6 : decode cX7_borrow 6 = .ok (.iadd, 1) := dk_96 (dk_at dksX7_borrow_0 6 rfl rfl)
theorem dX7_borrow_7 : decode cX7_borrow 7 = .ok (.putfield 9, 3) := dk_181 0 9 (dk_at dksX7_borrow_0 7 rfl rfl)
theorem dX7_borrow_10 : decode cX7_borrow 10 = .ok (.aload_n 0, 1) := dk_42 (dk_at dksX7_borrow_0 10 rfl rfl)
theorem dX7_borrow_11 : decode cX7_borrow 11 = .ok (.dup, 1) := dk_89 (dk_at dksX7_borrow_0 11 rfl rfl)
theorem dX7_borrow_12 : decode cX7_borrow 12 = .ok (.getfield 15, 3) := dk_180 0 15 (dk_at dksX7_borrow_0 12 rfl rfl)
theorem dX7_borrow_15 : decode cX7_borrow 15 = .ok (.iload_n 1, 1) := dk_27 (dk_at dksX7_borrow_0 15 rfl rfl)
theorem dX7_borrow_16 : decode cX7_borrow 16 = .ok (.iadd, 1) := dk_96 (dk_at dksX7_borrow_0 16 rfl rfl)
theorem dX7_borrow_17 : decode cX7_borrow 17 = .ok (.putfield 15, 3) := dk_181 0 15 (dk_at dksX7_borrow_0 17 rfl rfl)
theorem dX7_borrow_20 : decode cX7_borrow 20 = .ok (.return_, 1) := dk_177 (dk_at dksX7_borrow_0 20 rfl rfl)
abbrev cX7_earn : ByteArray := prog_13_method_7_code
def yX7_earn : MethodName := ⟨RX7, "earn", "(I)I"⟩
def dkwX7_earn_1 : List UInt8 := [27, 28, 100, 96, 181, 0, 9, 28, 172]
abbrev dktX7_earn_1 : List UInt8 := dkwX7_earn_1 ++ []
def dkwX7_earn_0 : List UInt8 := [42, 180, 0, 15, 27, 184, 0, 18, 61, 42, 89, 180, 0, 15, 28, 100, 181, 0, 15, 42, 89, 180, 0, 9]
abbrev dktX7_earn_0 : List UInt8 := dkwX7_earn_0 ++ dktX7_earn_1
theorem dksX7_earn_0 : cX7_earn.data.toList.drop 0 = dktX7_earn_0 := by decide +kernel
theorem dksX7_earn_1 : cX7_earn.data.toList.drop 24 = dktX7_earn_1 := dk_seg dksX7_earn_0 24 rfl rfl
theorem dX7_earn_0 : decode cX7_earn 0 = .ok (.aload_n 0, 1) := dk_42 (dk_at dksX7_earn_0 0 rfl rfl)
theorem dX7_earn_1 : decode cX7_earn 1 = .ok (.getfield 15, 3) := dk_180 0 15 (dk_at dksX7_earn_0 1 rfl rfl)
theorem dX7_earn_4 : decode cX7_earn 4 = .ok (.iload_n 1, 1) := dk_27 (dk_at dksX7_earn_0 4 rfl rfl)
theorem dX7_earn_5 : decode cX7_earn 5 = .ok (.invokestatic 18, 3) := dk_184 0 18 (dk_at dksX7_earn_0 5 rfl rfl)
theorem dX7_earn_8 : decode cX7_earn 8 = .ok (.istore_n 2, 1) := dk_61 (dk_at dksX7_earn_0 8 rfl rfl)
theorem dX7_earn_9 : decode cX7_earn 9 = .ok (.aload_n 0, 1) := dk_42 (dk_at dksX7_earn_0 9 rfl rfl)
theorem dX7_earn_10 : decode cX7_earn 10 = .ok (.dup, 1) := dk_89 (dk_at dksX7_earn_0 10 rfl rfl)
theorem dX7_earn_11 : decode cX7_earn 11 = .ok (.getfield 15, 3) := dk_180 0 15 (dk_at dksX7_earn_0 11 rfl rfl)
theorem dX7_earn_14 : decode cX7_earn 14 = .ok (.iload_n 2, 1) := dk_28 (dk_at dksX7_earn_0 14 rfl rfl)
theorem dX7_earn_15 : decode cX7_earn 15 = .ok (.isub, 1) := dk_100 (dk_at dksX7_earn_0 15 rfl rfl)
theorem dX7_earn_16 : decode cX7_earn 16 = .ok (.putfield 15, 3) := dk_181 0 15 (dk_at dksX7_earn_0 16 rfl rfl)
theorem dX7_earn_19 : decode cX7_earn 19 = .ok (.aload_n 0, 1) := dk_42 (dk_at dksX7_earn_0 19 rfl rfl)
theorem dX7_earn_20 : decode cX7_earn 20 = .ok (.dup, 1) := dk_89 (dk_at dksX7_earn_0 20 rfl rfl)
theorem dX7_earn_21 : decode cX7_earn 21 = .ok (.getfield 9, 3) := dk_180 0 9 (dk_at dksX7_earn_0 21 rfl rfl)
theorem dX7_earn_24 : decode cX7_earn 24 = .ok (.iload_n 1, 1) := dk_27 (dk_at dksX7_earn_1 0 rfl rfl)
theorem dX7_earn_25 : decode cX7_earn 25 = .ok (.iload_n 2, 1) := dk_28 (dk_at dksX7_earn_1 1 rfl rfl)
theorem dX7_earn_26 : decode cX7_earn 26 = .ok (.isub, 1) := dk_100 (dk_at dksX7_earn_1 2 rfl rfl)
theorem dX7_earn_27 : decode cX7_earn 27 = .ok (.iadd, 1) := dk_96 (dk_at dksX7_earn_1 3 rfl rfl)
theorem dX7_earn_28 : decode cX7_earn 28 = .ok (.putfield 9, 3) := dk_181 0 9 (dk_at dksX7_earn_1 4 rfl rfl)
theorem dX7_earn_31 : decode cX7_earn 31 = .ok (.iload_n 2, 1) := dk_28 (dk_at dksX7_earn_1 7 rfl rfl)
theorem dX7_earn_32 : decode cX7_earn 32 = .ok (.ireturn, 1) := dk_172 (dk_at dksX7_earn_1 8 rfl rfl)
abbrev cX7_growDebt : ByteArray := prog_13_method_8_code
def yX7_growDebt : MethodName := ⟨RX7, "growDebt", "()I"⟩
def dkwX7_growDebt_1 : List UInt8 := [108, 96, 4, 96, 184, 0, 18, 60, 27, 42, 180, 0, 15, 100, 61, 42, 27, 181, 0, 15, 28, 172]
abbrev dktX7_growDebt_1 : List UInt8 := dkwX7_growDebt_1 ++ []
def dkwX7_growDebt_0 : List UInt8 := [42, 180, 0, 15, 154, 0, 7, 3, 167, 0, 23, 17, 3, 231, 42, 180, 0, 15, 42, 180, 0, 15, 16, 10]
abbrev dktX7_growDebt_0 : List UInt8 := dkwX7_growDebt_0 ++ dktX7_growDebt_1
theorem dksX7_growDebt_0 : cX7_growDebt.data.toList.drop 0 = dktX7_growDebt_0 := by decide +kernel
theorem dksX7_growDebt_1 : cX7_growDebt.data.toList.drop 24 = dktX7_growDebt_1 := dk_seg dksX7_growDebt_0 24 rfl rfl
theorem dX7_growDebt_0 : decode cX7_growDebt 0 = .ok (.aload_n 0, 1) := dk_42 (dk_at dksX7_growDebt_0 0 rfl rfl)
theorem dX7_growDebt_1 : decode cX7_growDebt 1 = .ok (.getfield 15, 3) := dk_180 0 15 (dk_at dksX7_growDebt_0 1 rfl rfl)
theorem dX7_growDebt_4 : decode cX7_growDebt 4 = .ok (.ifCond .ne 7, 3) := dk_154 0 7 (dk_at dksX7_growDebt_0 4 rfl rfl)
theorem dX7_growDebt_7 : decode cX7_growDebt 7 = .ok (.iconst 0, 1) := dk_3 (dk_at dksX7_growDebt_0 7 rfl rfl)
theorem dX7_growDebt_8 : decode cX7_growDebt 8 = .ok (.goto 23, 3) := dk_167 0 23 (dk_at dksX7_growDebt_0 8 rfl rfl)
theorem dX7_growDebt_11 : decode cX7_growDebt 11 = .ok (.sipush 999, 3) := dk_17 3 231 (dk_at dksX7_growDebt_0 11 rfl rfl)
theorem dX7_growDebt_14 : decode cX7_growDebt 14 = .ok (.aload_n 0, 1) := dk_42 (dk_at dksX7_growDebt_0 14 rfl rfl)
theorem dX7_growDebt_15 : decode cX7_growDebt 15 = .ok (.getfield 15, 3) := dk_180 0 15 (dk_at dksX7_growDebt_0 15 rfl rfl)
theorem dX7_growDebt_18 : decode cX7_growDebt 18 = .ok (.aload_n 0, 1) := dk_42 (dk_at dksX7_growDebt_0 18 rfl rfl)
theorem dX7_growDebt_19 : decode cX7_growDebt 19 = .ok (.getfield 15, 3) := dk_180 0 15 (dk_at dksX7_growDebt_0 19 rfl rfl)
theorem dX7_growDebt_22 : decode cX7_growDebt 22 = .ok (.bipush 10, 2) := dk_16 10 (dk_at dksX7_growDebt_0 22 rfl rfl)
theorem dX7_growDebt_24 : decode cX7_growDebt 24 = .ok (.idiv, 1) := dk_108 (dk_at dksX7_growDebt_1 0 rfl rfl)
theorem dX7_growDebt_25 : decode cX7_growDebt 25 = .ok (.iadd, 1) := dk_96 (dk_at dksX7_growDebt_1 1 rfl rfl)
theorem dX7_growDebt_26 : decode cX7_growDebt 26 = .ok (.iconst 1, 1) := dk_4 (dk_at dksX7_growDebt_1 2 rfl rfl)
theorem dX7_growDebt_27 : decode cX7_growDebt 27 = .ok (.iadd, 1) := dk_96 (dk_at dksX7_growDebt_1 3 rfl rfl)
theorem dX7_growDebt_28 : decode cX7_growDebt 28 = .ok (.invokestatic 18, 3) := dk_184 0 18 (dk_at dksX7_growDebt_1 4 rfl rfl)
theorem dX7_growDebt_31 : decode cX7_growDebt 31 = .ok (.istore_n 1, 1) := dk_60 (dk_at dksX7_growDebt_1 7 rfl rfl)
theorem dX7_growDebt_32 : decode cX7_growDebt 32 = .ok (.iload_n 1, 1) := dk_27 (dk_at dksX7_growDebt_1 8 rfl rfl)
theorem dX7_growDebt_33 : decode cX7_growDebt 33 = .ok (.aload_n 0, 1) := dk_42 (dk_at dksX7_growDebt_1 9 rfl rfl)
theorem dX7_growDebt_34 : decode cX7_growDebt 34 = .ok (.getfield 15, 3) := dk_180 0 15 (dk_at dksX7_growDebt_1 10 rfl rfl)
theorem dX7_growDebt_37 : decode cX7_growDebt 37 = .ok (.isub, 1) := dk_100 (dk_at dksX7_growDebt_1 13 rfl rfl)
theorem dX7_growDebt_38 : decode cX7_growDebt 38 = .ok (.istore_n 2, 1) := dk_61 (dk_at dksX7_growDebt_1 14 rfl rfl)
theorem dX7_growDebt_39 : decode cX7_growDebt 39 = .ok (.aload_n 0, 1) := dk_42 (dk_at dksX7_growDebt_1 15 rfl rfl)
theorem dX7_growDebt_40 : decode cX7_growDebt 40 = .ok (.iload_n 1, 1) := dk_27 (dk_at dksX7_growDebt_1 16 rfl rfl)
theorem dX7_growDebt_41 : decode cX7_growDebt 41 = .ok (.putfield 15, 3) := dk_181 0 15 (dk_at dksX7_growDebt_1 17 rfl rfl)
theorem dX7_growDebt_44 : decode cX7_growDebt 44 = .ok (.iload_n 2, 1) := dk_28 (dk_at dksX7_growDebt_1 20 rfl rfl)
theorem dX7_growDebt_45 : decode cX7_growDebt 45 = .ok (.ireturn, 1) := dk_172 (dk_at dksX7_growDebt_1 21 rfl rfl)
abbrev cX7_wealth : ByteArray := prog_13_method_4_code
def yX7_wealth : MethodName := ⟨RX7, "wealth", "()I"⟩
def dkwX7_wealth_0 : List UInt8 := [42, 180, 0, 9, 42, 180, 0, 15, 100, 172]
abbrev dktX7_wealth_0 : List UInt8 := dkwX7_wealth_0 ++ []
theorem dksX7_wealth_0 : cX7_wealth.data.toList.drop 0 = dktX7_wealth_0 := by decide +kernel
theorem dX7_wealth_0 : decode cX7_wealth 0 = .ok (.aload_n 0, 1) := dk_42 (dk_at dksX7_wealth_0 0 rfl rfl)
theorem dX7_wealth_1 : decode cX7_wealth 1 = .ok (.getfield 9, 3) := dk_180 0 9 (dk_at dksX7_wealth_0 1 rfl rfl)
theorem dX7_wealth_4 : decode cX7_wealth 4 = .ok (.aload_n 0, 1) := dk_42 (dk_at dksX7_wealth_0 4 rfl rfl)
theorem dX7_wealth_5 : decode cX7_wealth 5 = .ok (.getfield 15, 3) := dk_180 0 15 (dk_at dksX7_wealth_0 5 rfl rfl)
theorem dX7_wealth_8 : decode cX7_wealth 8 = .ok (.isub, 1) := dk_100 (dk_at dksX7_wealth_0 8 rfl rfl)
theorem dX7_wealth_9 : decode cX7_wealth 9 = .ok (.ireturn, 1) := dk_172 (dk_at dksX7_wealth_0 9 rfl rfl)
theorem q111 : (Jvm.Cond.initialized "GoblinHousehold$Debtor") ∈ lw_all := lw_g (lw_at lw_m1 18 rfl) rfl
theorem q709 : (Jvm.Cond.declares ({ cls := "GoblinHousehold$Debtor", name := "purse", desc := "()I" } : Jvm.MethodName)) ∈ lw_tbl := lw_at lw_m3 136 rfl
theorem q711 : (Jvm.Cond.instanceMethod ({ cls := "GoblinHousehold$Debtor", name := "purse", desc := "()I" } : Jvm.MethodName)) ∈ lw_all := lw_g (lw_at lw_m3 138 rfl) rfl
theorem q712 : (Jvm.Cond.code ({ cls := "GoblinHousehold$Debtor", name := "purse", desc := "()I" } : Jvm.MethodName) prog_13_method_2_code (1 : Nat) (Option.some Jvm.ClassFile.FieldType.int)) ∈ lw_all := lw_g (lw_at lw_m3 139 rfl) rfl
theorem q827 : (Jvm.Cond.declares ({ cls := "GoblinHousehold$Debtor", name := "debt", desc := "()I" } : Jvm.MethodName)) ∈ lw_tbl := lw_at lw_m4 14 rfl
theorem q829 : (Jvm.Cond.instanceMethod ({ cls := "GoblinHousehold$Debtor", name := "debt", desc := "()I" } : Jvm.MethodName)) ∈ lw_all := lw_g (lw_at lw_m4 16 rfl) rfl
theorem q830 : (Jvm.Cond.code ({ cls := "GoblinHousehold$Debtor", name := "debt", desc := "()I" } : Jvm.MethodName) prog_13_method_3_code (1 : Nat) (Option.some Jvm.ClassFile.FieldType.int)) ∈ lw_all := lw_g (lw_at lw_m4 17 rfl) rfl
theorem q922 : (Jvm.Cond.instanceMethod ({ cls := "GoblinHousehold$Debtor", name := "<init>", desc := "(I)V" } : Jvm.MethodName)) ∈ lw_all := lw_g (lw_at lw_m4 109 rfl) rfl
theorem q923 : (Jvm.Cond.code ({ cls := "GoblinHousehold$Debtor", name := "<init>", desc := "(I)V" } : Jvm.MethodName) prog_13_method_1_code (2 : Nat) (Option.none : Option Jvm.ClassFile.FieldType)) ∈ lw_all := lw_g (lw_at lw_m4 110 rfl) rfl
theorem q924 : (Jvm.Cond.methodLink "GoblinHousehold$Debtor" (3 : Nat) ({ cls := "GoblinHousehold$Being", name := "<init>", desc := "(I)V" } : Jvm.MethodName)) ∈ lw_all := lw_g (lw_at lw_m4 111 rfl) rfl
theorem q937 : (Jvm.Cond.fieldLink "GoblinHousehold$Debtor" (9 : Nat) "GoblinHousehold$Debtor" "purse" "I") ∈ lw_all := lw_g (lw_at lw_m4 124 rfl) rfl
theorem q938 : (Jvm.Cond.fieldLink "GoblinHousehold$Debtor" (15 : Nat) "GoblinHousehold$Debtor" "debt" "I") ∈ lw_all := lw_g (lw_at lw_m4 125 rfl) rfl
theorem q947 : (Jvm.Cond.soleField "GoblinHousehold$Debtor" "purse") ∈ lw_all := lw_g (lw_at lw_m4 134 rfl) rfl
theorem q949 : (Jvm.Cond.soleField "GoblinHousehold$Debtor" "debt") ∈ lw_all := lw_g (lw_at lw_m4 136 rfl) rfl
theorem q1116 : (Jvm.Cond.declares ({ cls := "GoblinHousehold$Debtor", name := "takeOver", desc := "(LGoblinHousehold$Debtor;)V" } : Jvm.MethodName)) ∈ lw_tbl := lw_at lw_m5 63 rfl
theorem q1118 : (Jvm.Cond.instanceMethod ({ cls := "GoblinHousehold$Debtor", name := "takeOver", desc := "(LGoblinHousehold$Debtor;)V" } : Jvm.MethodName)) ∈ lw_all := lw_g (lw_at lw_m5 65 rfl) rfl
theorem q1119 : (Jvm.Cond.code ({ cls := "GoblinHousehold$Debtor", name := "takeOver", desc := "(LGoblinHousehold$Debtor;)V" } : Jvm.MethodName) prog_13_method_9_code (2 : Nat) (Option.none : Option Jvm.ClassFile.FieldType)) ∈ lw_all := lw_g (lw_at lw_m5 66 rfl) rfl
theorem q1545 : (Jvm.Cond.declares ({ cls := "GoblinHousehold$Debtor", name := "take", desc := "(I)V" } : Jvm.MethodName)) ∈ lw_tbl := lw_at lw_m7 12 rfl
theorem q1547 : (Jvm.Cond.instanceMethod ({ cls := "GoblinHousehold$Debtor", name := "take", desc := "(I)V" } : Jvm.MethodName)) ∈ lw_all := lw_g (lw_at lw_m7 14 rfl) rfl
theorem q1548 : (Jvm.Cond.code ({ cls := "GoblinHousehold$Debtor", name := "take", desc := "(I)V" } : Jvm.MethodName) prog_13_method_5_code (2 : Nat) (Option.none : Option Jvm.ClassFile.FieldType)) ∈ lw_all := lw_g (lw_at lw_m7 15 rfl) rfl
theorem q1590 : (Jvm.Cond.declares ({ cls := "GoblinHousehold$Debtor", name := "borrow", desc := "(I)V" } : Jvm.MethodName)) ∈ lw_tbl := lw_at lw_m7 57 rfl
theorem q1592 : (Jvm.Cond.instanceMethod ({ cls := "GoblinHousehold$Debtor", name := "borrow", desc := "(I)V" } : Jvm.MethodName)) ∈ lw_all := lw_g (lw_at lw_m7 59 rfl) rfl
theorem q1593 : (Jvm.Cond.code ({ cls := "GoblinHousehold$Debtor", name := "borrow", desc := "(I)V" } : Jvm.MethodName) prog_13_method_6_code (2 : Nat) (Option.none : Option Jvm.ClassFile.FieldType)) ∈ lw_all := lw_g (lw_at lw_m7 60 rfl) rfl
theorem q1682 : (Jvm.Cond.declares ({ cls := "GoblinHousehold$Debtor", name := "earn", desc := "(I)I" } : Jvm.MethodName)) ∈ lw_tbl := lw_at lw_m7 149 rfl
theorem q1684 : (Jvm.Cond.instanceMethod ({ cls := "GoblinHousehold$Debtor", name := "earn", desc := "(I)I" } : Jvm.MethodName)) ∈ lw_all := lw_g (lw_at lw_m7 151 rfl) rfl
theorem q1685 : (Jvm.Cond.code ({ cls := "GoblinHousehold$Debtor", name := "earn", desc := "(I)I" } : Jvm.MethodName) prog_13_method_7_code (3 : Nat) (Option.some Jvm.ClassFile.FieldType.int)) ∈ lw_all := lw_g (lw_at lw_m7 152 rfl) rfl
theorem q1686 : (Jvm.Cond.methodLink "GoblinHousehold$Debtor" (18 : Nat) ({ cls := "java/lang/Math", name := "min", desc := "(II)I" } : Jvm.MethodName)) ∈ lw_all := lw_g (lw_at lw_m7 153 rfl) rfl
theorem q1702 : (Jvm.Cond.declares ({ cls := "GoblinHousehold$Debtor", name := "growDebt", desc := "()I" } : Jvm.MethodName)) ∈ lw_tbl := lw_at lw_m7 169 rfl
theorem q1704 : (Jvm.Cond.instanceMethod ({ cls := "GoblinHousehold$Debtor", name := "growDebt", desc := "()I" } : Jvm.MethodName)) ∈ lw_all := lw_g (lw_at lw_m7 171 rfl) rfl
theorem q1705 : (Jvm.Cond.code ({ cls := "GoblinHousehold$Debtor", name := "growDebt", desc := "()I" } : Jvm.MethodName) prog_13_method_8_code (3 : Nat) (Option.some Jvm.ClassFile.FieldType.int)) ∈ lw_all := lw_g (lw_at lw_m7 172 rfl) rfl
theorem q1827 : (Jvm.Cond.declares ({ cls := "GoblinHousehold$Debtor", name := "wealth", desc := "()I" } : Jvm.MethodName)) ∈ lw_tbl := lw_at lw_m8 54 rfl
theorem q1829 : (Jvm.Cond.instanceMethod ({ cls := "GoblinHousehold$Debtor", name := "wealth", desc := "()I" } : Jvm.MethodName)) ∈ lw_all := lw_g (lw_at lw_m8 56 rfl) rfl
theorem q1830 : (Jvm.Cond.code ({ cls := "GoblinHousehold$Debtor", name := "wealth", desc := "()I" } : Jvm.MethodName) prog_13_method_4_code (1 : Nat) (Option.some Jvm.ClassFile.FieldType.int)) ∈ lw_all := lw_g (lw_at lw_m8 57 rfl) rfl
theorem q1986 : (Jvm.Cond.sameMethod "GoblinHousehold$Debtor" "GoblinHousehold$Being" "text" "()Ljava/lang/String;") ∈ lw_all := lw_g (lw_at lw_m8 213 rfl) rfl
theorem q1988 : (Jvm.Cond.superclass "GoblinHousehold$Debtor" "GoblinHousehold$Being") ∈ lw_all := lw_g (lw_at lw_m8 215 rfl) rfl
/-! GoblinHousehold$Goblin -/
set_option maxRecDepth 100000
def RX8 : String := "GoblinHousehold$Goblin"
def TX8 : u_T := fun k => match k with
  | 0 => ("GoblinHousehold$Being", "index", "I", true)
  | 1 => ("GoblinHousehold$Debtor", "purse", "I", false)
  | 2 => ("GoblinHousehold$Debtor", "debt", "I", false)
  | 3 => ("GoblinHousehold$Goblin", "strength", "I", true)
  | 4 => ("GoblinHousehold$Goblin", "isResting", "Z", false)
  | _ => ("GoblinHousehold$Goblin", "skipped", "I", false)
def tyX8 : Nat → FieldType := fun k => match k with
  | 0 => .int
  | 1 => .int
  | 2 => .int
  | 3 => .int
  | 4 => .boolean
  | _ => .int
abbrev wsX80 : List Cond := u_ws RX8 TX8 6
theorem nmX8 : ∀ a, a < 6 → ∀ b, b < 6 → a ≠ b → (TX8 a).2.1 ≠ (TX8 b).2.1 := by decide +kernel
theorem tyX8_ok : ∀ k, k < 6 → parseFieldDescriptor (TX8 k).2.2.1 = some (tyX8 k) := by decide +kernel
abbrev cX8_init : ByteArray := prog_17_method_1_code
def yX8_init : MethodName := ⟨RX8, "<init>", "(II)V"⟩
def dkwX8_init_0 : List UInt8 := [42, 27, 183, 0, 1, 42, 28, 181, 0, 7, 177]
abbrev dktX8_init_0 : List UInt8 := dkwX8_init_0 ++ []
theorem dksX8_init_0 : cX8_init.data.toList.drop 0 = dktX8_init_0 := by decide +kernel
theorem dX8_init_0 : decode cX8_init 0 = .ok (.aload_n 0, 1) := dk_42 (dk_at dksX8_init_0 0 rfl rfl)
theorem dX8_init_1 : decode cX8_init 1 = .ok (.iload_n 1, 1) := dk_27 (dk_at dksX8_init_0 1 rfl rfl)
theorem dX8_init_2 : decode cX8_init 2 = .ok (.invokespecial 1, 3) := dk_183 0 1 (dk_at dksX8_init_0 2 rfl rfl)
theorem dX8_init_5 : decode cX8_init 5 = .ok (.aload_n 0, 1) := dk_42 (dk_at dksX8_init_0 5 rfl rfl)
theorem dX8_init_6 : decode cX8_init 6 = .ok (.iload_n 2, 1) := dk_28 (dk_at dksX8_init_0 6 rfl rfl)
theorem dX8_init_7 : decode cX8_init 7 = .ok (.putfield 7, 3) := dk_181 0 7 (dk_at dksX8_init_0 7 rfl rfl)
theorem dX8_init_10 : decode cX8_init 10 = .ok (.return_, 1) := dk_177 (dk_at dksX8_init_0 10 rfl rfl)
abbrev cX8_copy : ByteArray := prog_17_method_5_code
def yX8_copy : MethodName := ⟨RX8, "copy", "()Ljava/lang/Object;"⟩
theorem dX8_copy_0 : decode cX8_copy 0 = .ok (.aload_n 0, 1) := by decide +kernel
theorem dX8_copy_1 : decode cX8_copy 1 = .ok (.invokevirtual 69, 3) := by decide +kernel
theorem dX8_copy_4 : decode cX8_copy 4 = .ok (.areturn, 1) := by decide +kernel
abbrev cX8_copy_2 : ByteArray := prog_17_method_2_code
def yX8_copy_2 : MethodName := ⟨RX8, "copy", "()LGoblinHousehold$Goblin;"⟩
def dkwX8_copy_2_1 : List UInt8 := [180, 0, 24, 181, 0, 24, 43, 42, 180, 0, 28, 181, 0, 28, 43, 176]
abbrev dktX8_copy_2_1 : List UInt8 := dkwX8_copy_2_1 ++ []
def dkwX8_copy_2_0 : List UInt8 := [187, 0, 8, 89, 42, 182, 0, 13, 42, 180, 0, 7, 183, 0, 17, 76, 43, 42, 182, 0, 20, 43, 42]
abbrev dktX8_copy_2_0 : List UInt8 := dkwX8_copy_2_0 ++ dktX8_copy_2_1
theorem dksX8_copy_2_0 : cX8_copy_2.data.toList.drop 0 = dktX8_copy_2_0 := by decide +kernel
theorem dksX8_copy_2_1 : cX8_copy_2.data.toList.drop 23 = dktX8_copy_2_1 := dk_seg dksX8_copy_2_0 23 rfl rfl
theorem dX8_copy_2_0 : decode cX8_copy_2 0 = .ok (.new 8, 3) := dk_187 0 8 (dk_at dksX8_copy_2_0 0 rfl rfl)
theorem dX8_copy_2_3 : decode cX8_copy_2 3 = .ok (.dup, 1) := dk_89 (dk_at dksX8_copy_2_0 3 rfl rfl)
theorem dX8_copy_2_4 : decode cX8_copy_2 4 = .ok (.aload_n 0, 1) := dk_42 (dk_at dksX8_copy_2_0 4 rfl rfl)
theorem dX8_copy_2_5 : decode cX8_copy_2 5 = .ok (.invokevirtual 13, 3) := dk_182 0 13 (dk_at dksX8_copy_2_0 5 rfl rfl)
theorem dX8_copy_2_8 : decode cX8_copy_2 8 = .ok (.aload_n 0, 1) := dk_42 (dk_at dksX8_copy_2_0 8 rfl rfl)
theorem dX8_copy_2_9 : decode cX8_copy_2 9 = .ok (.getfield 7, 3) := dk_180 0 7 (dk_at dksX8_copy_2_0 9 rfl rfl)
theorem dX8_copy_2_12 : decode cX8_copy_2 12 = .ok (.invokespecial 17, 3) := dk_183 0 17 (dk_at dksX8_copy_2_0 12 rfl rfl)
theorem dX8_copy_2_15 : decode cX8_copy_2 15 = .ok (.astore_n 1, 1) := dk_76 (dk_at dksX8_copy_2_0 15 rfl rfl)
theorem dX8_copy_2_16 : decode cX8_copy_2 16 = .ok (.aload_n 1, 1) := dk_43 (dk_at dksX8_copy_2_0 16 rfl rfl)
theorem dX8_copy_2_17 : decode cX8_copy_2 17 = .ok (.aload_n 0, 1) := dk_42 (dk_at dksX8_copy_2_0 17 rfl rfl)
theorem dX8_copy_2_18 : decode cX8_copy_2 18 = .ok (.invokevirtual 20, 3) := dk_182 0 20 (dk_at dksX8_copy_2_0 18 rfl rfl)
theorem dX8_copy_2_21 : decode cX8_copy_2 21 = .ok (.aload_n 1, 1) := dk_43 (dk_at dksX8_copy_2_0 21 rfl rfl)
theorem dX8_copy_2_22 : decode cX8_copy_2 22 = .ok (.aload_n 0, 1) := dk_42 (dk_at dksX8_copy_2_0 22 rfl rfl)
theorem dX8_copy_2_23 : decode cX8_copy_2 23 = .ok (.getfield 24, 3) := dk_180 0 24 (dk_at dksX8_copy_2_1 0 rfl rfl)
theorem dX8_copy_2_26 : decode cX8_copy_2 26 = .ok (.putfield 24, 3) := dk_181 0 24 (dk_at dksX8_copy_2_1 3 rfl rfl)
theorem dX8_copy_2_29 : decode cX8_copy_2 29 = .ok (.aload_n 1, 1) := dk_43 (dk_at dksX8_copy_2_1 6 rfl rfl)
theorem dX8_copy_2_30 : decode cX8_copy_2 30 = .ok (.aload_n 0, 1) := dk_42 (dk_at dksX8_copy_2_1 7 rfl rfl)
theorem dX8_copy_2_31 : decode cX8_copy_2 31 = .ok (.getfield 28, 3) := dk_180 0 28 (dk_at dksX8_copy_2_1 8 rfl rfl)
theorem dX8_copy_2_34 : decode cX8_copy_2 34 = .ok (.putfield 28, 3) := dk_181 0 28 (dk_at dksX8_copy_2_1 11 rfl rfl)
theorem dX8_copy_2_37 : decode cX8_copy_2 37 = .ok (.aload_n 1, 1) := dk_43 (dk_at dksX8_copy_2_1 14 rfl rfl)
theorem dX8_copy_2_38 : decode cX8_copy_2 38 = .ok (.areturn, 1) := dk_176 (dk_at dksX8_copy_2_1 15 rfl rfl)
abbrev cX8_isRicherThan : ByteArray := prog_17_method_3_code
def yX8_isRicherThan : MethodName := ⟨RX8, "isRicherThan", "(LGoblinHousehold$Goblin;)Z"⟩
def dkwX8_isRicherThan_2 : List UInt8 := [4, 167, 0, 4, 3, 172]
abbrev dktX8_isRicherThan_2 : List UInt8 := dkwX8_isRicherThan_2 ++ []
def dkwX8_isRicherThan_1 : List UInt8 := [167, 0, 4, 28, 61, 28, 157, 0, 18, 28, 154, 0, 18, 42, 182, 0, 13, 43, 182, 0, 13, 162, 0, 7]
abbrev dktX8_isRicherThan_1 : List UInt8 := dkwX8_isRicherThan_1 ++ dktX8_isRicherThan_2
def dkwX8_isRicherThan_0 : List UInt8 := [42, 182, 0, 31, 43, 182, 0, 31, 100, 61, 28, 154, 0, 15, 42, 180, 0, 7, 43, 180, 0, 7, 100]
abbrev dktX8_isRicherThan_0 : List UInt8 := dkwX8_isRicherThan_0 ++ dktX8_isRicherThan_1
theorem dksX8_isRicherThan_0 : cX8_isRicherThan.data.toList.drop 0 = dktX8_isRicherThan_0 := by decide +kernel
theorem dksX8_isRicherThan_1 : cX8_isRicherThan.data.toList.drop 23 = dktX8_isRicherThan_1 := dk_seg dksX8_isRicherThan_0 23 rfl rfl
theorem dksX8_isRicherThan_2 : cX8_isRicherThan.data.toList.drop 47 = dktX8_isRicherThan_2 := dk_seg dksX8_isRicherThan_1 24 rfl rfl
theorem dX8_isRicherThan_0 : decode cX8_isRicherThan 0 = .ok (.aload_n 0, 1) := dk_42 (dk_at dksX8_isRicherThan_0 0 rfl rfl)
theorem dX8_isRicherThan_1 : decode cX8_isRicherThan 1 = .ok (.invokevirtual 31, 3) := dk_182 0 31 (dk_at dksX8_isRicherThan_0 1 rfl rfl)
theorem dX8_isRicherThan_4 : decode cX8_isRicherThan 4 = .ok (.aload_n 1, 1) := dk_43 (dk_at dksX8_isRicherThan_0 4 rfl rfl)
theorem dX8_isRicherThan_5 : decode cX8_isRicherThan 5 = .ok (.invokevirtual 31, 3) := dk_182 0 31 (dk_at dksX8_isRicherThan_0 5 rfl rfl)
theorem dX8_isRicherThan_8 : decode cX8_isRicherThan 8 = .ok (.isub, 1) := dk_100 (dk_at dksX8_isRicherThan_0 8 rfl rfl)
theorem dX8_isRicherThan_9 : decode cX8_isRicherThan 9 = .ok (.istore_n 2, 1) := dk_61 (dk_at dksX8_isRicherThan_0 9 rfl rfl)
theorem dX8_isRicherThan_10 : decode cX8_isRicherThan 10 = .ok (.iload_n 2, 1) := dk_28 (dk_at dksX8_isRicherThan_0 10 rfl rfl)
theorem dX8_isRicherThan_11 : decode cX8_isRicherThan 11 = .ok (.ifCond .ne 15, 3) := dk_154 0 15 (dk_at dksX8_isRicherThan_0 11 rfl rfl)
theorem dX8_isRicherThan_14 : decode cX8_isRicherThan 14 = .ok (.aload_n 0, 1) := dk_42 (dk_at dksX8_isRicherThan_0 14 rfl rfl)
theorem dX8_isRicherThan_15 : decode cX8_isRicherThan 15 = .ok (.getfield 7, 3) := dk_180 0 7 (dk_at dksX8_isRicherThan_0 15 rfl rfl)
theorem dX8_isRicherThan_18 : decode cX8_isRicherThan 18 = .ok (.aload_n 1, 1) := dk_43 (dk_at dksX8_isRicherThan_0 18 rfl rfl)
theorem dX8_isRicherThan_19 : decode cX8_isRicherThan 19 = .ok (.getfield 7, 3) := dk_180 0 7 (dk_at dksX8_isRicherThan_0 19 rfl rfl)
theorem dX8_isRicherThan_22 : decode cX8_isRicherThan 22 = .ok (.isub, 1) := dk_100 (dk_at dksX8_isRicherThan_0 22 rfl rfl)
theorem dX8_isRicherThan_23 : decode cX8_isRicherThan 23 = .ok (.goto 4, 3) := dk_167 0 4 (dk_at dksX8_isRicherThan_1 0 rfl rfl)
theorem dX8_isRicherThan_26 : decode cX8_isRicherThan 26 = .ok (.iload_n 2, 1) := dk_28 (dk_at dksX8_isRicherThan_1 3 rfl rfl)
theorem dX8_isRicherThan_27 : decode cX8_isRicherThan 27 = .ok (.istore_n 2, 1) := dk_61 (dk_at dksX8_isRicherThan_1 4 rfl rfl)
theorem dX8_isRicherThan_28 : decode cX8_isRicherThan 28 = .ok (.iload_n 2, 1) := dk_28 (dk_at dksX8_isRicherThan_1 5 rfl rfl)
theorem dX8_isRicherThan_29 : decode cX8_isRicherThan 29 = .ok (.ifCond .gt 18, 3) := dk_157 0 18 (dk_at dksX8_isRicherThan_1 6 rfl rfl)
theorem dX8_isRicherThan_32 : decode cX8_isRicherThan 32 = .ok (.iload_n 2, 1) := dk_28 (dk_at dksX8_isRicherThan_1 9 rfl rfl)
theorem dX8_isRicherThan_33 : decode cX8_isRicherThan 33 = .ok (.ifCond .ne 18, 3) := dk_154 0 18 (dk_at dksX8_isRicherThan_1 10 rfl rfl)
theorem dX8_isRicherThan_36 : decode cX8_isRicherThan 36 = .ok (.aload_n 0, 1) := dk_42 (dk_at dksX8_isRicherThan_1 13 rfl rfl)
theorem dX8_isRicherThan_37 : decode cX8_isRicherThan 37 = .ok (.invokevirtual 13, 3) := dk_182 0 13 (dk_at dksX8_isRicherThan_1 14 rfl rfl)
theorem dX8_isRicherThan_40 : decode cX8_isRicherThan 40 = .ok (.aload_n 1, 1) := dk_43 (dk_at dksX8_isRicherThan_1 17 rfl rfl)
theorem dX8_isRicherThan_41 : decode cX8_isRicherThan 41 = .ok (.invokevirtual 13, 3) := dk_182 0 13 (dk_at dksX8_isRicherThan_1 18 rfl rfl)
theorem dX8_isRicherThan_44 : decode cX8_isRicherThan 44 = .ok (.if_icmp .ge 7, 3) := dk_162 0 7 (dk_at dksX8_isRicherThan_1 21 rfl rfl)
theorem dX8_isRicherThan_47 : decode cX8_isRicherThan 47 = .ok (.iconst 1, 1) := dk_4 (dk_at dksX8_isRicherThan_2 0 rfl rfl)
theorem dX8_isRicherThan_48 : decode cX8_isRicherThan 48 = .ok (.goto 4, 3) := dk_167 0 4 (dk_at dksX8_isRicherThan_2 1 rfl rfl)
theorem dX8_isRicherThan_51 : decode cX8_isRicherThan 51 = .ok (.iconst 0, 1) := dk_3 (dk_at dksX8_isRicherThan_2 4 rfl rfl)
theorem dX8_isRicherThan_52 : decode cX8_isRicherThan 52 = .ok (.ireturn, 1) := dk_172 (dk_at dksX8_isRicherThan_2 5 rfl rfl)
abbrev cX8_text : ByteArray := prog_17_method_4_code
def yX8_text : MethodName := ⟨RX8, "text", "()Ljava/lang/String;"⟩
def dkwX8_text_4 : List UInt8 := [182, 0, 64, 176]
abbrev dktX8_text_4 : List UInt8 := dkwX8_text_4 ++ []
def dkwX8_text_3 : List UInt8 := [182, 0, 64, 182, 0, 43, 42, 180, 0, 24, 153, 0, 8, 18, 67, 167, 0, 5, 18, 60, 182, 0, 43]
abbrev dktX8_text_3 : List UInt8 := dkwX8_text_3 ++ dktX8_text_4
def dkwX8_text_2 : List UInt8 := [167, 0, 25, 187, 0, 34, 89, 183, 0, 36, 18, 62, 182, 0, 43, 42, 182, 0, 57, 182, 0, 49]
abbrev dktX8_text_2 : List UInt8 := dkwX8_text_2 ++ dktX8_text_3
def dkwX8_text_1 : List UInt8 := [182, 0, 49, 18, 52, 182, 0, 43, 42, 182, 0, 54, 182, 0, 49, 42, 182, 0, 57, 154, 0, 8, 18, 60]
abbrev dktX8_text_1 : List UInt8 := dkwX8_text_1 ++ dktX8_text_2
def dkwX8_text_0 : List UInt8 := [187, 0, 34, 89, 183, 0, 36, 42, 183, 0, 39, 182, 0, 43, 18, 47, 182, 0, 43, 42, 180, 0, 7]
abbrev dktX8_text_0 : List UInt8 := dkwX8_text_0 ++ dktX8_text_1
theorem dksX8_text_0 : cX8_text.data.toList.drop 0 = dktX8_text_0 := by decide +kernel
theorem dksX8_text_1 : cX8_text.data.toList.drop 23 = dktX8_text_1 := dk_seg dksX8_text_0 23 rfl rfl
theorem dksX8_text_2 : cX8_text.data.toList.drop 47 = dktX8_text_2 := dk_seg dksX8_text_1 24 rfl rfl
theorem dksX8_text_3 : cX8_text.data.toList.drop 69 = dktX8_text_3 := dk_seg dksX8_text_2 22 rfl rfl
theorem dksX8_text_4 : cX8_text.data.toList.drop 92 = dktX8_text_4 := dk_seg dksX8_text_3 23 rfl rfl
theorem dX8_text_0 : decode cX8_text 0 = .ok (.new 34, 3) := dk_187 0 34 (dk_at dksX8_text_0 0 rfl rfl)
theorem dX8_text_3 : decode cX8_text 3 = .ok (.dup, 1) := dk_89 (dk_at dksX8_text_0 3 rfl rfl)
theorem dX8_text_4 : decode cX8_text 4 = .ok (.invokespecial 36, 3) := dk_183 0 36 (dk_at dksX8_text_0 4 rfl rfl)
theorem dX8_text_7 : decode cX8_text 7 = .ok (.aload_n 0, 1) := dk_42 (dk_at dksX8_text_0 7 rfl rfl)
theorem dX8_text_8 : decode cX8_text 8 = .ok (.invokespecial 39, 3) := dk_183 0 39 (dk_at dksX8_text_0 8 rfl rfl)
theorem dX8_text_11 : decode cX8_text 11 = .ok (.invokevirtual 43, 3) := dk_182 0 43 (dk_at dksX8_text_0 11 rfl rfl)
theorem dX8_text_14 : decode cX8_text 14 = .ok (.ldc 47, 2) := dk_18 47 (dk_at dksX8_text_0 14 rfl rfl)
theorem dX8_text_16 : decode cX8_text 16 = .ok (.invokevirtual 43, 3) := dk_182 0 43 (dk_at dksX8_text_0 16 rfl rfl)
theorem dX8_text_19 : decode cX8_text 19 = .ok (.aload_n 0, 1) := dk_42 (dk_at dksX8_text_0 19 rfl rfl)
theorem dX8_text_20 : decode cX8_text 20 = .ok (.getfield 7, 3) := dk_180 0 7 (dk_at dksX8_text_0 20 rfl rfl)
theorem dX8_text_23 : decode cX8_text 23 = .ok (.invokevirtual 49, 3) := dk_182 0 49 (dk_at dksX8_text_1 0 rfl rfl)
theorem dX8_text_26 : decode cX8_text 26 = .ok (.ldc 52, 2) := dk_18 52 (dk_at dksX8_text_1 3 rfl rfl)
theorem dX8_text_28 : decode cX8_text 28 = .ok (.invokevirtual 43, 3) := dk_182 0 43 (dk_at dksX8_text_1 5 rfl rfl)
theorem dX8_text_31 : decode cX8_text 31 = .ok (.aload_n 0, 1) := dk_42 (dk_at dksX8_text_1 8 rfl rfl)
theorem dX8_text_32 : decode cX8_text 32 = .ok (.invokevirtual 54, 3) := dk_182 0 54 (dk_at dksX8_text_1 9 rfl rfl)
theorem dX8_text_35 : decode cX8_text 35 = .ok (.invokevirtual 49, 3) := dk_182 0 49 (dk_at dksX8_text_1 12 rfl rfl)
theorem dX8_text_38 : decode cX8_text 38 = .ok (.aload_n 0, 1) := dk_42 (dk_at dksX8_text_1 15 rfl rfl)
theorem dX8_text_39 : decode cX8_text 39 = .ok (.invokevirtual 57, 3) := dk_182 0 57 (dk_at dksX8_text_1 16 rfl rfl)
theorem dX8_text_42 : decode cX8_text 42 = .ok (.ifCond .ne 8, 3) := dk_154 0 8 (dk_at dksX8_text_1 19 rfl rfl)
theorem dX8_text_45 : decode cX8_text 45 = .ok (.ldc 60, 2) := dk_18 60 (dk_at dksX8_text_1 22 rfl rfl)
theorem dX8_text_47 : decode cX8_text 47 = .ok (.goto 25, 3) := dk_167 0 25 (dk_at dksX8_text_2 0 rfl rfl)
theorem dX8_text_50 : decode cX8_text 50 = .ok (.new 34, 3) := dk_187 0 34 (dk_at dksX8_text_2 3 rfl rfl)
theorem dX8_text_53 : decode cX8_text 53 = .ok (.dup, 1) := dk_89 (dk_at dksX8_text_2 6 rfl rfl)
theorem dX8_text_54 : decode cX8_text 54 = .ok (.invokespecial 36, 3) := dk_183 0 36 (dk_at dksX8_text_2 7 rfl rfl)
theorem dX8_text_57 : decode cX8_text 57 = .ok (.ldc 62, 2) := dk_18 62 (dk_at dksX8_text_2 10 rfl rfl)
theorem dX8_text_59 : decode cX8_text 59 = .ok (.invokevirtual 43, 3) := dk_182 0 43 (dk_at dksX8_text_2 12 rfl rfl)
theorem dX8_text_62 : decode cX8_text 62 = .ok (.aload_n 0, 1) := dk_42 (dk_at dksX8_text_2 15 rfl rfl)
theorem dX8_text_63 : decode cX8_text 63 = .ok (.invokevirtual 57, 3) := dk_182 0 57 (dk_at dksX8_text_2 16 rfl rfl)
theorem dX8_text_66 : decode cX8_text 66 = .ok (.invokevirtual 49, 3) := dk_182 0 49 (dk_at dksX8_text_2 19 rfl rfl)
theorem dX8_text_69 : decode cX8_text 69 = .ok (.invokevirtual 64, 3) := dk_182 0 64 (dk_at dksX8_text_3 0 rfl rfl)
theorem dX8_text_72 : decode cX8_text 72 = .ok (.invokevirtual 43, 3) := dk_182 0 43 (dk_at dksX8_text_3 3 rfl rfl)
theorem dX8_text_75 : decode cX8_text 75 = .ok (.aload_n 0, 1) := dk_42 (dk_at dksX8_text_3 6 rfl rfl)
theorem dX8_text_76 : decode cX8_text 76 = .ok (.getfield 24, 3) := dk_180 0 24 (dk_at dksX8_text_3 7 rfl rfl)
theorem dX8_text_79 : decode cX8_text 79 = .ok (.ifCond .eq 8, 3) := dk_153 0 8 (dk_at dksX8_text_3 10 rfl rfl)
theorem dX8_text_82 : decode cX8_text 82 = .ok (.ldc 67, 2) := dk_18 67 (dk_at dksX8_text_3 13 rfl rfl)
theorem dX8_text_84 : decode cX8_text 84 = .ok (.goto 5, 3) := dk_167 0 5 (dk_at dksX8_text_3 15 rfl rfl)
theorem dX8_text_87 : decode cX8_text 87 = .ok (.ldc 60, 2) := dk_18 60 (dk_at dksX8_text_3 18 rfl rfl)
theorem dX8_text_89 : decode cX8_text 89 = .ok (.invokevirtual 43, 3) := dk_182 0 43 (dk_at dksX8_text_3 20 rfl rfl)
theorem dX8_text_92 : decode cX8_text 92 = .ok (.invokevirtual 64, 3) := dk_182 0 64 (dk_at dksX8_text_4 0 rfl rfl)
theorem dX8_text_95 : decode cX8_text 95 = .ok (.areturn, 1) := dk_176 (dk_at dksX8_text_4 3 rfl rfl)
theorem q112 : (Jvm.Cond.initialized "GoblinHousehold$Goblin") ∈ lw_all := lw_g (lw_at lw_m1 19 rfl) rfl
theorem q708 : (Jvm.Cond.sameMethod "GoblinHousehold$Goblin" "GoblinHousehold$Debtor" "purse" "()I") ∈ lw_all := lw_g (lw_at lw_m3 135 rfl) rfl
theorem q710 : (Jvm.Cond.selects "GoblinHousehold$Goblin" ({ cls := "GoblinHousehold$Goblin", name := "purse", desc := "()I" } : Jvm.MethodName) ({ cls := "GoblinHousehold$Debtor", name := "purse", desc := "()I" } : Jvm.MethodName)) ∈ lw_all := lw_g (lw_at lw_m3 137 rfl) rfl
theorem q826 : (Jvm.Cond.sameMethod "GoblinHousehold$Goblin" "GoblinHousehold$Debtor" "debt" "()I") ∈ lw_all := lw_g (lw_at lw_m4 13 rfl) rfl
theorem q828 : (Jvm.Cond.selects "GoblinHousehold$Goblin" ({ cls := "GoblinHousehold$Goblin", name := "debt", desc := "()I" } : Jvm.MethodName) ({ cls := "GoblinHousehold$Debtor", name := "debt", desc := "()I" } : Jvm.MethodName)) ∈ lw_all := lw_g (lw_at lw_m4 15 rfl) rfl
theorem q917 : (Jvm.Cond.instantiable "GoblinHousehold$Goblin" (6 : Nat)) ∈ lw_all := lw_g (lw_at lw_m4 104 rfl) rfl
theorem q919 : (Jvm.Cond.instanceMethod ({ cls := "GoblinHousehold$Goblin", name := "<init>", desc := "(II)V" } : Jvm.MethodName)) ∈ lw_all := lw_g (lw_at lw_m4 106 rfl) rfl
theorem q920 : (Jvm.Cond.code ({ cls := "GoblinHousehold$Goblin", name := "<init>", desc := "(II)V" } : Jvm.MethodName) prog_17_method_1_code (3 : Nat) (Option.none : Option Jvm.ClassFile.FieldType)) ∈ lw_all := lw_g (lw_at lw_m4 107 rfl) rfl
theorem q921 : (Jvm.Cond.methodLink "GoblinHousehold$Goblin" (1 : Nat) ({ cls := "GoblinHousehold$Debtor", name := "<init>", desc := "(I)V" } : Jvm.MethodName)) ∈ lw_all := lw_g (lw_at lw_m4 108 rfl) rfl
theorem q928 : (Jvm.Cond.fieldLink "GoblinHousehold$Goblin" (7 : Nat) "GoblinHousehold$Goblin" "strength" "I") ∈ lw_all := lw_g (lw_at lw_m4 115 rfl) rfl
theorem q931 : (Jvm.Cond.fieldLink "GoblinHousehold$Goblin" (24 : Nat) "GoblinHousehold$Goblin" "isResting" "Z") ∈ lw_all := lw_g (lw_at lw_m4 118 rfl) rfl
theorem q934 : (Jvm.Cond.fieldLink "GoblinHousehold$Goblin" (28 : Nat) "GoblinHousehold$Goblin" "skipped" "I") ∈ lw_all := lw_g (lw_at lw_m4 121 rfl) rfl
theorem q940 : (Jvm.Cond.laysFinal "GoblinHousehold$Goblin" "GoblinHousehold$Goblin" "strength" "I") ∈ lw_all := lw_g (lw_at lw_m4 127 rfl) rfl
theorem q941 : (Jvm.Cond.soleField "GoblinHousehold$Goblin" "strength") ∈ lw_all := lw_g (lw_at lw_m4 128 rfl) rfl
theorem q942 : (Jvm.Cond.lays "GoblinHousehold$Goblin" "GoblinHousehold$Goblin" "isResting" "Z") ∈ lw_all := lw_g (lw_at lw_m4 129 rfl) rfl
theorem q943 : (Jvm.Cond.soleField "GoblinHousehold$Goblin" "isResting") ∈ lw_all := lw_g (lw_at lw_m4 130 rfl) rfl
theorem q944 : (Jvm.Cond.lays "GoblinHousehold$Goblin" "GoblinHousehold$Goblin" "skipped" "I") ∈ lw_all := lw_g (lw_at lw_m4 131 rfl) rfl
theorem q945 : (Jvm.Cond.soleField "GoblinHousehold$Goblin" "skipped") ∈ lw_all := lw_g (lw_at lw_m4 132 rfl) rfl
theorem q946 : (Jvm.Cond.lays "GoblinHousehold$Goblin" "GoblinHousehold$Debtor" "purse" "I") ∈ lw_all := lw_g (lw_at lw_m4 133 rfl) rfl
theorem q948 : (Jvm.Cond.lays "GoblinHousehold$Goblin" "GoblinHousehold$Debtor" "debt" "I") ∈ lw_all := lw_g (lw_at lw_m4 135 rfl) rfl
theorem q950 : (Jvm.Cond.laysFinal "GoblinHousehold$Goblin" "GoblinHousehold$Being" "index" "I") ∈ lw_all := lw_g (lw_at lw_m4 137 rfl) rfl
theorem q952 : (Jvm.Cond.superclass "GoblinHousehold$Goblin" "GoblinHousehold$Debtor") ∈ lw_all := lw_g (lw_at lw_m4 139 rfl) rfl
theorem q991 : (Jvm.Cond.selects "GoblinHousehold$Goblin" ({ cls := "java/lang/Object", name := "getClass", desc := "()Ljava/lang/Class;" } : Jvm.MethodName) ({ cls := "java/lang/Object", name := "getClass", desc := "()Ljava/lang/Class;" } : Jvm.MethodName)) ∈ lw_all := lw_g (lw_at lw_m4 178 rfl) rfl
theorem q1096 : (Jvm.Cond.castable "GoblinHousehold$Goblin" "GoblinHousehold$Copied") ∈ lw_tbl := lw_at lw_m5 43 rfl
theorem q1097 : (Jvm.Cond.selects "GoblinHousehold$Goblin" ({ cls := "GoblinHousehold$Copied", name := "copy", desc := "()Ljava/lang/Object;" } : Jvm.MethodName) ({ cls := "GoblinHousehold$Goblin", name := "copy", desc := "()Ljava/lang/Object;" } : Jvm.MethodName)) ∈ lw_all := lw_g (lw_at lw_m5 44 rfl) rfl
theorem q1098 : (Jvm.Cond.unhidden "GoblinHousehold$Goblin" "copy" "()Ljava/lang/Object;") ∈ lw_tbl := lw_at lw_m5 45 rfl
theorem q1099 : (Jvm.Cond.instanceMethod ({ cls := "GoblinHousehold$Goblin", name := "copy", desc := "()Ljava/lang/Object;" } : Jvm.MethodName)) ∈ lw_all := lw_g (lw_at lw_m5 46 rfl) rfl
theorem q1100 : (Jvm.Cond.publicMethod ({ cls := "GoblinHousehold$Goblin", name := "copy", desc := "()Ljava/lang/Object;" } : Jvm.MethodName)) ∈ lw_tbl := lw_at lw_m5 47 rfl
theorem q1101 : (Jvm.Cond.code ({ cls := "GoblinHousehold$Goblin", name := "copy", desc := "()Ljava/lang/Object;" } : Jvm.MethodName) prog_17_method_5_code (1 : Nat) (Option.some (Jvm.ClassFile.FieldType.object "java/lang/Object"))) ∈ lw_all := lw_g (lw_at lw_m5 48 rfl) rfl
theorem q1102 : (Jvm.Cond.methodLink "GoblinHousehold$Goblin" (69 : Nat) ({ cls := "GoblinHousehold$Goblin", name := "copy", desc := "()LGoblinHousehold$Goblin;" } : Jvm.MethodName)) ∈ lw_all := lw_g (lw_at lw_m5 49 rfl) rfl
theorem q1103 : (Jvm.Cond.instanceMethod ({ cls := "GoblinHousehold$Goblin", name := "copy", desc := "()LGoblinHousehold$Goblin;" } : Jvm.MethodName)) ∈ lw_all := lw_g (lw_at lw_m5 50 rfl) rfl
theorem q1104 : (Jvm.Cond.selects "GoblinHousehold$Goblin" ({ cls := "GoblinHousehold$Goblin", name := "copy", desc := "()LGoblinHousehold$Goblin;" } : Jvm.MethodName) ({ cls := "GoblinHousehold$Goblin", name := "copy", desc := "()LGoblinHousehold$Goblin;" } : Jvm.MethodName)) ∈ lw_all := lw_g (lw_at lw_m5 51 rfl) rfl
theorem q1105 : (Jvm.Cond.code ({ cls := "GoblinHousehold$Goblin", name := "copy", desc := "()LGoblinHousehold$Goblin;" } : Jvm.MethodName) prog_17_method_2_code (2 : Nat) (Option.some (Jvm.ClassFile.FieldType.object "GoblinHousehold$Goblin"))) ∈ lw_all := lw_g (lw_at lw_m5 52 rfl) rfl
theorem q1106 : (Jvm.Cond.classLink "GoblinHousehold$Goblin" (8 : Nat) "GoblinHousehold$Goblin") ∈ lw_all := lw_g (lw_at lw_m5 53 rfl) rfl
theorem q1107 : (Jvm.Cond.methodLink "GoblinHousehold$Goblin" (13 : Nat) ({ cls := "GoblinHousehold$Goblin", name := "index", desc := "()I" } : Jvm.MethodName)) ∈ lw_all := lw_g (lw_at lw_m5 54 rfl) rfl
theorem q1108 : (Jvm.Cond.sameMethod "GoblinHousehold$Goblin" "GoblinHousehold$Being" "index" "()I") ∈ lw_all := lw_g (lw_at lw_m5 55 rfl) rfl
theorem q1110 : (Jvm.Cond.selects "GoblinHousehold$Goblin" ({ cls := "GoblinHousehold$Goblin", name := "index", desc := "()I" } : Jvm.MethodName) ({ cls := "GoblinHousehold$Being", name := "index", desc := "()I" } : Jvm.MethodName)) ∈ lw_all := lw_g (lw_at lw_m5 57 rfl) rfl
theorem q1113 : (Jvm.Cond.methodLink "GoblinHousehold$Goblin" (17 : Nat) ({ cls := "GoblinHousehold$Goblin", name := "<init>", desc := "(II)V" } : Jvm.MethodName)) ∈ lw_all := lw_g (lw_at lw_m5 60 rfl) rfl
theorem q1114 : (Jvm.Cond.methodLink "GoblinHousehold$Goblin" (20 : Nat) ({ cls := "GoblinHousehold$Goblin", name := "takeOver", desc := "(LGoblinHousehold$Debtor;)V" } : Jvm.MethodName)) ∈ lw_all := lw_g (lw_at lw_m5 61 rfl) rfl
theorem q1115 : (Jvm.Cond.sameMethod "GoblinHousehold$Goblin" "GoblinHousehold$Debtor" "takeOver" "(LGoblinHousehold$Debtor;)V") ∈ lw_all := lw_g (lw_at lw_m5 62 rfl) rfl
theorem q1117 : (Jvm.Cond.selects "GoblinHousehold$Goblin" ({ cls := "GoblinHousehold$Goblin", name := "takeOver", desc := "(LGoblinHousehold$Debtor;)V" } : Jvm.MethodName) ({ cls := "GoblinHousehold$Debtor", name := "takeOver", desc := "(LGoblinHousehold$Debtor;)V" } : Jvm.MethodName)) ∈ lw_all := lw_g (lw_at lw_m5 64 rfl) rfl
theorem q1508 : (Jvm.Cond.selects "GoblinHousehold$Goblin" ({ cls := "java/lang/Object", name := "equals", desc := "(Ljava/lang/Object;)Z" } : Jvm.MethodName) ({ cls := "java/lang/Object", name := "equals", desc := "(Ljava/lang/Object;)Z" } : Jvm.MethodName)) ∈ lw_all := lw_g (lw_at lw_m6 215 rfl) rfl
theorem q1544 : (Jvm.Cond.sameMethod "GoblinHousehold$Goblin" "GoblinHousehold$Debtor" "take" "(I)V") ∈ lw_all := lw_g (lw_at lw_m7 11 rfl) rfl
theorem q1546 : (Jvm.Cond.selects "GoblinHousehold$Goblin" ({ cls := "GoblinHousehold$Goblin", name := "take", desc := "(I)V" } : Jvm.MethodName) ({ cls := "GoblinHousehold$Debtor", name := "take", desc := "(I)V" } : Jvm.MethodName)) ∈ lw_all := lw_g (lw_at lw_m7 13 rfl) rfl
theorem q1589 : (Jvm.Cond.sameMethod "GoblinHousehold$Goblin" "GoblinHousehold$Debtor" "borrow" "(I)V") ∈ lw_all := lw_g (lw_at lw_m7 56 rfl) rfl
theorem q1591 : (Jvm.Cond.selects "GoblinHousehold$Goblin" ({ cls := "GoblinHousehold$Goblin", name := "borrow", desc := "(I)V" } : Jvm.MethodName) ({ cls := "GoblinHousehold$Debtor", name := "borrow", desc := "(I)V" } : Jvm.MethodName)) ∈ lw_all := lw_g (lw_at lw_m7 58 rfl) rfl
theorem q1681 : (Jvm.Cond.sameMethod "GoblinHousehold$Goblin" "GoblinHousehold$Debtor" "earn" "(I)I") ∈ lw_all := lw_g (lw_at lw_m7 148 rfl) rfl
theorem q1683 : (Jvm.Cond.selects "GoblinHousehold$Goblin" ({ cls := "GoblinHousehold$Goblin", name := "earn", desc := "(I)I" } : Jvm.MethodName) ({ cls := "GoblinHousehold$Debtor", name := "earn", desc := "(I)I" } : Jvm.MethodName)) ∈ lw_all := lw_g (lw_at lw_m7 150 rfl) rfl
theorem q1701 : (Jvm.Cond.sameMethod "GoblinHousehold$Goblin" "GoblinHousehold$Debtor" "growDebt" "()I") ∈ lw_all := lw_g (lw_at lw_m7 168 rfl) rfl
theorem q1703 : (Jvm.Cond.selects "GoblinHousehold$Goblin" ({ cls := "GoblinHousehold$Goblin", name := "growDebt", desc := "()I" } : Jvm.MethodName) ({ cls := "GoblinHousehold$Debtor", name := "growDebt", desc := "()I" } : Jvm.MethodName)) ∈ lw_all := lw_g (lw_at lw_m7 170 rfl) rfl
theorem q1822 : (Jvm.Cond.instanceMethod ({ cls := "GoblinHousehold$Goblin", name := "isRicherThan", desc := "(LGoblinHousehold$Goblin;)Z" } : Jvm.MethodName)) ∈ lw_all := lw_g (lw_at lw_m8 49 rfl) rfl
theorem q1823 : (Jvm.Cond.selects "GoblinHousehold$Goblin" ({ cls := "GoblinHousehold$Goblin", name := "isRicherThan", desc := "(LGoblinHousehold$Goblin;)Z" } : Jvm.MethodName) ({ cls := "GoblinHousehold$Goblin", name := "isRicherThan", desc := "(LGoblinHousehold$Goblin;)Z" } : Jvm.MethodName)) ∈ lw_all := lw_g (lw_at lw_m8 50 rfl) rfl
theorem q1824 : (Jvm.Cond.code ({ cls := "GoblinHousehold$Goblin", name := "isRicherThan", desc := "(LGoblinHousehold$Goblin;)Z" } : Jvm.MethodName) prog_17_method_3_code (3 : Nat) (Option.some Jvm.ClassFile.FieldType.boolean)) ∈ lw_all := lw_g (lw_at lw_m8 51 rfl) rfl
theorem q1825 : (Jvm.Cond.methodLink "GoblinHousehold$Goblin" (31 : Nat) ({ cls := "GoblinHousehold$Goblin", name := "wealth", desc := "()I" } : Jvm.MethodName)) ∈ lw_all := lw_g (lw_at lw_m8 52 rfl) rfl
theorem q1826 : (Jvm.Cond.sameMethod "GoblinHousehold$Goblin" "GoblinHousehold$Debtor" "wealth" "()I") ∈ lw_all := lw_g (lw_at lw_m8 53 rfl) rfl
theorem q1828 : (Jvm.Cond.selects "GoblinHousehold$Goblin" ({ cls := "GoblinHousehold$Goblin", name := "wealth", desc := "()I" } : Jvm.MethodName) ({ cls := "GoblinHousehold$Debtor", name := "wealth", desc := "()I" } : Jvm.MethodName)) ∈ lw_all := lw_g (lw_at lw_m8 55 rfl) rfl
theorem q1980 : (Jvm.Cond.instanceMethod ({ cls := "GoblinHousehold$Goblin", name := "text", desc := "()Ljava/lang/String;" } : Jvm.MethodName)) ∈ lw_all := lw_g (lw_at lw_m8 207 rfl) rfl
theorem q1981 : (Jvm.Cond.selects "GoblinHousehold$Goblin" ({ cls := "GoblinHousehold$Goblin", name := "text", desc := "()Ljava/lang/String;" } : Jvm.MethodName) ({ cls := "GoblinHousehold$Goblin", name := "text", desc := "()Ljava/lang/String;" } : Jvm.MethodName)) ∈ lw_all := lw_g (lw_at lw_m8 208 rfl) rfl
theorem q1982 : (Jvm.Cond.code ({ cls := "GoblinHousehold$Goblin", name := "text", desc := "()Ljava/lang/String;" } : Jvm.MethodName) prog_17_method_4_code (1 : Nat) (Option.some (Jvm.ClassFile.FieldType.object "java/lang/String"))) ∈ lw_all := lw_g (lw_at lw_m8 209 rfl) rfl
theorem q1983 : (Jvm.Cond.classLink "GoblinHousehold$Goblin" (34 : Nat) "java/lang/StringBuilder") ∈ lw_all := lw_g (lw_at lw_m8 210 rfl) rfl
theorem q1984 : (Jvm.Cond.methodLink "GoblinHousehold$Goblin" (36 : Nat) ({ cls := "java/lang/StringBuilder", name := "<init>", desc := "()V" } : Jvm.MethodName)) ∈ lw_all := lw_g (lw_at lw_m8 211 rfl) rfl
theorem q1985 : (Jvm.Cond.methodLink "GoblinHousehold$Goblin" (39 : Nat) ({ cls := "GoblinHousehold$Debtor", name := "text", desc := "()Ljava/lang/String;" } : Jvm.MethodName)) ∈ lw_all := lw_g (lw_at lw_m8 212 rfl) rfl
theorem q1997 : (Jvm.Cond.methodLink "GoblinHousehold$Goblin" (43 : Nat) ({ cls := "java/lang/StringBuilder", name := "append", desc := "(Ljava/lang/String;)Ljava/lang/StringBuilder;" } : Jvm.MethodName)) ∈ lw_all := lw_g (lw_at lw_m8 224 rfl) rfl
theorem q1998 : (Jvm.Cond.stringRef "GoblinHousehold$Goblin" (47 : Nat) "s") ∈ lw_tbl := lw_at lw_m8 225 rfl
theorem q1999 : (Jvm.Cond.methodLink "GoblinHousehold$Goblin" (49 : Nat) ({ cls := "java/lang/StringBuilder", name := "append", desc := "(I)Ljava/lang/StringBuilder;" } : Jvm.MethodName)) ∈ lw_all := lw_g (lw_at lw_m8 226 rfl) rfl
theorem q2000 : (Jvm.Cond.stringRef "GoblinHousehold$Goblin" (52 : Nat) "p") ∈ lw_tbl := lw_at lw_m8 227 rfl
theorem q2001 : (Jvm.Cond.methodLink "GoblinHousehold$Goblin" (54 : Nat) ({ cls := "GoblinHousehold$Goblin", name := "purse", desc := "()I" } : Jvm.MethodName)) ∈ lw_all := lw_g (lw_at lw_m8 228 rfl) rfl
theorem q2002 : (Jvm.Cond.methodLink "GoblinHousehold$Goblin" (57 : Nat) ({ cls := "GoblinHousehold$Goblin", name := "debt", desc := "()I" } : Jvm.MethodName)) ∈ lw_all := lw_g (lw_at lw_m8 229 rfl) rfl
theorem q2003 : (Jvm.Cond.stringRef "GoblinHousehold$Goblin" (60 : Nat) "") ∈ lw_tbl := lw_at lw_m8 230 rfl
theorem q2004 : (Jvm.Cond.stringRef "GoblinHousehold$Goblin" (62 : Nat) "d") ∈ lw_tbl := lw_at lw_m8 231 rfl
theorem q2005 : (Jvm.Cond.methodLink "GoblinHousehold$Goblin" (64 : Nat) ({ cls := "java/lang/StringBuilder", name := "toString", desc := "()Ljava/lang/String;" } : Jvm.MethodName)) ∈ lw_all := lw_g (lw_at lw_m8 232 rfl) rfl
theorem q2006 : (Jvm.Cond.stringRef "GoblinHousehold$Goblin" (67 : Nat) "z") ∈ lw_tbl := lw_at lw_m8 233 rfl
theorem q2160 : (Jvm.Cond.selects "GoblinHousehold$Goblin" ({ cls := "java/lang/Object", name := "toString", desc := "()Ljava/lang/String;" } : Jvm.MethodName) ({ cls := "java/lang/Object", name := "toString", desc := "()Ljava/lang/String;" } : Jvm.MethodName)) ∈ lw_all := lw_g (lw_at lw_m9 147 rfl) rfl
theorem q3017 : (Jvm.Cond.castable "GoblinHousehold$Goblin" "java/lang/Object") ∈ lw_tbl := lw_at lw_m13 44 rfl
theorem in_X8 : ∀ w ∈ wsX80, w ∈ lw_all := lw_in wsX80 [950, 946, 948, 940, 942, 944] (by decide +kernel) (by decide +kernel)
/-! GoblinHousehold$Broom -/
set_option maxRecDepth 100000
def RX9 : String := "GoblinHousehold$Broom"
def TX9 : u_T := fun k => match k with
  | 0 => ("GoblinHousehold$Broom", "power", "I", true)
  | _ => ("GoblinHousehold$Broom", "standing", "LGoblinHousehold$Standing;", false)
def tyX9 : Nat → FieldType := fun k => match k with
  | 0 => .int
  | _ => .object "GoblinHousehold$Standing"
abbrev wsX90 : List Cond := u_ws RX9 TX9 2
theorem nmX9 : ∀ a, a < 2 → ∀ b, b < 2 → a ≠ b → (TX9 a).2.1 ≠ (TX9 b).2.1 := by decide +kernel
theorem tyX9_ok : ∀ k, k < 2 → parseFieldDescriptor (TX9 k).2.2.1 = some (tyX9 k) := by decide +kernel
abbrev cX9_isUsed : ByteArray := prog_4_method_3_code
def yX9_isUsed : MethodName := ⟨RX9, "isUsed", "()Z"⟩
def dkwX9_isUsed_0 : List UInt8 := [42, 180, 0, 13, 178, 0, 7, 166, 0, 7, 4, 167, 0, 4, 3, 172]
abbrev dktX9_isUsed_0 : List UInt8 := dkwX9_isUsed_0 ++ []
theorem dksX9_isUsed_0 : cX9_isUsed.data.toList.drop 0 = dktX9_isUsed_0 := by decide +kernel
theorem dX9_isUsed_0 : decode cX9_isUsed 0 = .ok (.aload_n 0, 1) := dk_42 (dk_at dksX9_isUsed_0 0 rfl rfl)
theorem dX9_isUsed_1 : decode cX9_isUsed 1 = .ok (.getfield 13, 3) := dk_180 0 13 (dk_at dksX9_isUsed_0 1 rfl rfl)
theorem dX9_isUsed_4 : decode cX9_isUsed 4 = .ok (.getstatic 7, 3) := dk_178 0 7 (dk_at dksX9_isUsed_0 4 rfl rfl)
theorem dX9_isUsed_7 : decode cX9_isUsed 7 = .ok (.if_acmp .ne 7, 3) := dk_166 0 7 (dk_at dksX9_isUsed_0 7 rfl rfl)
theorem dX9_isUsed_10 : decode cX9_isUsed 10 = .ok (.iconst 1, 1) := dk_4 (dk_at dksX9_isUsed_0 10 rfl rfl)
theorem dX9_isUsed_11 : decode cX9_isUsed 11 = .ok (.goto 4, 3) := dk_167 0 4 (dk_at dksX9_isUsed_0 11 rfl rfl)
theorem dX9_isUsed_14 : decode cX9_isUsed 14 = .ok (.iconst 0, 1) := dk_3 (dk_at dksX9_isUsed_0 14 rfl rfl)
theorem dX9_isUsed_15 : decode cX9_isUsed 15 = .ok (.ireturn, 1) := dk_172 (dk_at dksX9_isUsed_0 15 rfl rfl)
abbrev cX9_copy : ByteArray := prog_4_method_5_code
def yX9_copy : MethodName := ⟨RX9, "copy", "()Ljava/lang/Object;"⟩
theorem dX9_copy_0 : decode cX9_copy 0 = .ok (.aload_n 0, 1) := by decide +kernel
theorem dX9_copy_1 : decode cX9_copy 1 = .ok (.invokevirtual 29, 3) := by decide +kernel
theorem dX9_copy_4 : decode cX9_copy 4 = .ok (.areturn, 1) := by decide +kernel
abbrev cX9_copy_2 : ByteArray := prog_4_method_2_code
def yX9_copy_2 : MethodName := ⟨RX9, "copy", "()LGoblinHousehold$Broom;"⟩
def dkwX9_copy_2_0 : List UInt8 := [187, 0, 14, 89, 42, 180, 0, 18, 183, 0, 22, 76, 43, 42, 180, 0, 13, 181, 0, 13, 43, 176]
abbrev dktX9_copy_2_0 : List UInt8 := dkwX9_copy_2_0 ++ []
theorem dksX9_copy_2_0 : cX9_copy_2.data.toList.drop 0 = dktX9_copy_2_0 := by decide +kernel
theorem dX9_copy_2_0 : decode cX9_copy_2 0 = .ok (.new 14, 3) := dk_187 0 14 (dk_at dksX9_copy_2_0 0 rfl rfl)
theorem dX9_copy_2_3 : decode cX9_copy_2 3 = .ok (.dup, 1) := dk_89 (dk_at dksX9_copy_2_0 3 rfl rfl)
theorem dX9_copy_2_4 : decode cX9_copy_2 4 = .ok (.aload_n 0, 1) := dk_42 (dk_at dksX9_copy_2_0 4 rfl rfl)
theorem dX9_copy_2_5 : decode cX9_copy_2 5 = .ok (.getfield 18, 3) := dk_180 0 18 (dk_at dksX9_copy_2_0 5 rfl rfl)
theorem dX9_copy_2_8 : decode cX9_copy_2 8 = .ok (.invokespecial 22, 3) := dk_183 0 22 (dk_at dksX9_copy_2_0 8 rfl rfl)
theorem dX9_copy_2_11 : decode cX9_copy_2 11 = .ok (.astore_n 1, 1) := dk_76 (dk_at dksX9_copy_2_0 11 rfl rfl)
theorem dX9_copy_2_12 : decode cX9_copy_2 12 = .ok (.aload_n 1, 1) := dk_43 (dk_at dksX9_copy_2_0 12 rfl rfl)
theorem dX9_copy_2_13 : decode cX9_copy_2 13 = .ok (.aload_n 0, 1) := dk_42 (dk_at dksX9_copy_2_0 13 rfl rfl)
theorem dX9_copy_2_14 : decode cX9_copy_2 14 = .ok (.getfield 13, 3) := dk_180 0 13 (dk_at dksX9_copy_2_0 14 rfl rfl)
theorem dX9_copy_2_17 : decode cX9_copy_2 17 = .ok (.putfield 13, 3) := dk_181 0 13 (dk_at dksX9_copy_2_0 17 rfl rfl)
theorem dX9_copy_2_20 : decode cX9_copy_2 20 = .ok (.aload_n 1, 1) := dk_43 (dk_at dksX9_copy_2_0 20 rfl rfl)
theorem dX9_copy_2_21 : decode cX9_copy_2 21 = .ok (.areturn, 1) := dk_176 (dk_at dksX9_copy_2_0 21 rfl rfl)
abbrev cX9_init : ByteArray := prog_4_method_1_code
def yX9_init : MethodName := ⟨RX9, "<init>", "(I)V"⟩
def dkwX9_init_0 : List UInt8 := [42, 183, 0, 1, 42, 178, 0, 7, 181, 0, 13, 42, 27, 181, 0, 18, 177]
abbrev dktX9_init_0 : List UInt8 := dkwX9_init_0 ++ []
theorem dksX9_init_0 : cX9_init.data.toList.drop 0 = dktX9_init_0 := by decide +kernel
theorem dX9_init_0 : decode cX9_init 0 = .ok (.aload_n 0, 1) := dk_42 (dk_at dksX9_init_0 0 rfl rfl)
theorem dX9_init_1 : decode cX9_init 1 = .ok (.invokespecial 1, 3) := dk_183 0 1 (dk_at dksX9_init_0 1 rfl rfl)
theorem dX9_init_4 : decode cX9_init 4 = .ok (.aload_n 0, 1) := dk_42 (dk_at dksX9_init_0 4 rfl rfl)
theorem dX9_init_5 : decode cX9_init 5 = .ok (.getstatic 7, 3) := dk_178 0 7 (dk_at dksX9_init_0 5 rfl rfl)
theorem dX9_init_8 : decode cX9_init 8 = .ok (.putfield 13, 3) := dk_181 0 13 (dk_at dksX9_init_0 8 rfl rfl)
theorem dX9_init_11 : decode cX9_init 11 = .ok (.aload_n 0, 1) := dk_42 (dk_at dksX9_init_0 11 rfl rfl)
theorem dX9_init_12 : decode cX9_init 12 = .ok (.iload_n 1, 1) := dk_27 (dk_at dksX9_init_0 12 rfl rfl)
theorem dX9_init_13 : decode cX9_init 13 = .ok (.putfield 18, 3) := dk_181 0 18 (dk_at dksX9_init_0 13 rfl rfl)
theorem dX9_init_16 : decode cX9_init 16 = .ok (.return_, 1) := dk_177 (dk_at dksX9_init_0 16 rfl rfl)
abbrev cX9_usefulPower : ByteArray := prog_4_method_4_code
def yX9_usefulPower : MethodName := ⟨RX9, "usefulPower", "()I"⟩
def dkwX9_usefulPower_0 : List UInt8 := [42, 180, 0, 13, 42, 180, 0, 18, 182, 0, 25, 172]
abbrev dktX9_usefulPower_0 : List UInt8 := dkwX9_usefulPower_0 ++ []
theorem dksX9_usefulPower_0 : cX9_usefulPower.data.toList.drop 0 = dktX9_usefulPower_0 := by decide +kernel
theorem dX9_usefulPower_0 : decode cX9_usefulPower 0 = .ok (.aload_n 0, 1) := dk_42 (dk_at dksX9_usefulPower_0 0 rfl rfl)
theorem dX9_usefulPower_1 : decode cX9_usefulPower 1 = .ok (.getfield 13, 3) := dk_180 0 13 (dk_at dksX9_usefulPower_0 1 rfl rfl)
theorem dX9_usefulPower_4 : decode cX9_usefulPower 4 = .ok (.aload_n 0, 1) := dk_42 (dk_at dksX9_usefulPower_0 4 rfl rfl)
theorem dX9_usefulPower_5 : decode cX9_usefulPower 5 = .ok (.getfield 18, 3) := dk_180 0 18 (dk_at dksX9_usefulPower_0 5 rfl rfl)
theorem dX9_usefulPower_8 : decode cX9_usefulPower 8 = .ok (.invokevirtual 25, 3) := dk_182 0 25 (dk_at dksX9_usefulPower_0 8 rfl rfl)
theorem dX9_usefulPower_11 : decode cX9_usefulPower 11 = .ok (.ireturn, 1) := dk_172 (dk_at dksX9_usefulPower_0 11 rfl rfl)
theorem q126 : (Jvm.Cond.initialized "GoblinHousehold$Broom") ∈ lw_all := lw_g (lw_at lw_m1 33 rfl) rfl
theorem q788 : (Jvm.Cond.instanceMethod ({ cls := "GoblinHousehold$Broom", name := "isUsed", desc := "()Z" } : Jvm.MethodName)) ∈ lw_all := lw_g (lw_at lw_m3 215 rfl) rfl
theorem q789 : (Jvm.Cond.selects "GoblinHousehold$Broom" ({ cls := "GoblinHousehold$Broom", name := "isUsed", desc := "()Z" } : Jvm.MethodName) ({ cls := "GoblinHousehold$Broom", name := "isUsed", desc := "()Z" } : Jvm.MethodName)) ∈ lw_all := lw_g (lw_at lw_m3 216 rfl) rfl
theorem q790 : (Jvm.Cond.code ({ cls := "GoblinHousehold$Broom", name := "isUsed", desc := "()Z" } : Jvm.MethodName) prog_4_method_3_code (1 : Nat) (Option.some Jvm.ClassFile.FieldType.boolean)) ∈ lw_all := lw_g (lw_at lw_m3 217 rfl) rfl
theorem q791 : (Jvm.Cond.fieldLink "GoblinHousehold$Broom" (7 : Nat) "GoblinHousehold$Standing" "USED" "LGoblinHousehold$Standing;") ∈ lw_all := lw_g (lw_at lw_m3 218 rfl) rfl
theorem q983 : (Jvm.Cond.selects "GoblinHousehold$Broom" ({ cls := "java/lang/Object", name := "getClass", desc := "()Ljava/lang/Class;" } : Jvm.MethodName) ({ cls := "java/lang/Object", name := "getClass", desc := "()Ljava/lang/Class;" } : Jvm.MethodName)) ∈ lw_all := lw_g (lw_at lw_m4 170 rfl) rfl
theorem q1071 : (Jvm.Cond.castable "GoblinHousehold$Broom" "GoblinHousehold$Copied") ∈ lw_tbl := lw_at lw_m5 18 rfl
theorem q1072 : (Jvm.Cond.selects "GoblinHousehold$Broom" ({ cls := "GoblinHousehold$Copied", name := "copy", desc := "()Ljava/lang/Object;" } : Jvm.MethodName) ({ cls := "GoblinHousehold$Broom", name := "copy", desc := "()Ljava/lang/Object;" } : Jvm.MethodName)) ∈ lw_all := lw_g (lw_at lw_m5 19 rfl) rfl
theorem q1073 : (Jvm.Cond.unhidden "GoblinHousehold$Broom" "copy" "()Ljava/lang/Object;") ∈ lw_tbl := lw_at lw_m5 20 rfl
theorem q1074 : (Jvm.Cond.instanceMethod ({ cls := "GoblinHousehold$Broom", name := "copy", desc := "()Ljava/lang/Object;" } : Jvm.MethodName)) ∈ lw_all := lw_g (lw_at lw_m5 21 rfl) rfl
theorem q1075 : (Jvm.Cond.publicMethod ({ cls := "GoblinHousehold$Broom", name := "copy", desc := "()Ljava/lang/Object;" } : Jvm.MethodName)) ∈ lw_tbl := lw_at lw_m5 22 rfl
theorem q1076 : (Jvm.Cond.code ({ cls := "GoblinHousehold$Broom", name := "copy", desc := "()Ljava/lang/Object;" } : Jvm.MethodName) prog_4_method_5_code (1 : Nat) (Option.some (Jvm.ClassFile.FieldType.object "java/lang/Object"))) ∈ lw_all := lw_g (lw_at lw_m5 23 rfl) rfl
theorem q1077 : (Jvm.Cond.methodLink "GoblinHousehold$Broom" (29 : Nat) ({ cls := "GoblinHousehold$Broom", name := "copy", desc := "()LGoblinHousehold$Broom;" } : Jvm.MethodName)) ∈ lw_all := lw_g (lw_at lw_m5 24 rfl) rfl
theorem q1078 : (Jvm.Cond.instanceMethod ({ cls := "GoblinHousehold$Broom", name := "copy", desc := "()LGoblinHousehold$Broom;" } : Jvm.MethodName)) ∈ lw_all := lw_g (lw_at lw_m5 25 rfl) rfl
theorem q1079 : (Jvm.Cond.selects "GoblinHousehold$Broom" ({ cls := "GoblinHousehold$Broom", name := "copy", desc := "()LGoblinHousehold$Broom;" } : Jvm.MethodName) ({ cls := "GoblinHousehold$Broom", name := "copy", desc := "()LGoblinHousehold$Broom;" } : Jvm.MethodName)) ∈ lw_all := lw_g (lw_at lw_m5 26 rfl) rfl
theorem q1080 : (Jvm.Cond.code ({ cls := "GoblinHousehold$Broom", name := "copy", desc := "()LGoblinHousehold$Broom;" } : Jvm.MethodName) prog_4_method_2_code (2 : Nat) (Option.some (Jvm.ClassFile.FieldType.object "GoblinHousehold$Broom"))) ∈ lw_all := lw_g (lw_at lw_m5 27 rfl) rfl
theorem q1081 : (Jvm.Cond.classLink "GoblinHousehold$Broom" (14 : Nat) "GoblinHousehold$Broom") ∈ lw_all := lw_g (lw_at lw_m5 28 rfl) rfl
theorem q1082 : (Jvm.Cond.instantiable "GoblinHousehold$Broom" (2 : Nat)) ∈ lw_all := lw_g (lw_at lw_m5 29 rfl) rfl
theorem q1083 : (Jvm.Cond.methodLink "GoblinHousehold$Broom" (22 : Nat) ({ cls := "GoblinHousehold$Broom", name := "<init>", desc := "(I)V" } : Jvm.MethodName)) ∈ lw_all := lw_g (lw_at lw_m5 30 rfl) rfl
theorem q1084 : (Jvm.Cond.instanceMethod ({ cls := "GoblinHousehold$Broom", name := "<init>", desc := "(I)V" } : Jvm.MethodName)) ∈ lw_all := lw_g (lw_at lw_m5 31 rfl) rfl
theorem q1085 : (Jvm.Cond.code ({ cls := "GoblinHousehold$Broom", name := "<init>", desc := "(I)V" } : Jvm.MethodName) prog_4_method_1_code (2 : Nat) (Option.none : Option Jvm.ClassFile.FieldType)) ∈ lw_all := lw_g (lw_at lw_m5 32 rfl) rfl
theorem q1086 : (Jvm.Cond.methodLink "GoblinHousehold$Broom" (1 : Nat) ({ cls := "java/lang/Object", name := "<init>", desc := "()V" } : Jvm.MethodName)) ∈ lw_all := lw_g (lw_at lw_m5 33 rfl) rfl
theorem q1087 : (Jvm.Cond.fieldLink "GoblinHousehold$Broom" (18 : Nat) "GoblinHousehold$Broom" "power" "I") ∈ lw_all := lw_g (lw_at lw_m5 34 rfl) rfl
theorem q1089 : (Jvm.Cond.fieldLink "GoblinHousehold$Broom" (13 : Nat) "GoblinHousehold$Broom" "standing" "LGoblinHousehold$Standing;") ∈ lw_all := lw_g (lw_at lw_m5 36 rfl) rfl
theorem q1091 : (Jvm.Cond.laysFinal "GoblinHousehold$Broom" "GoblinHousehold$Broom" "power" "I") ∈ lw_all := lw_g (lw_at lw_m5 38 rfl) rfl
theorem q1092 : (Jvm.Cond.soleField "GoblinHousehold$Broom" "power") ∈ lw_all := lw_g (lw_at lw_m5 39 rfl) rfl
theorem q1093 : (Jvm.Cond.lays "GoblinHousehold$Broom" "GoblinHousehold$Broom" "standing" "LGoblinHousehold$Standing;") ∈ lw_all := lw_g (lw_at lw_m5 40 rfl) rfl
theorem q1094 : (Jvm.Cond.soleField "GoblinHousehold$Broom" "standing") ∈ lw_all := lw_g (lw_at lw_m5 41 rfl) rfl
theorem q1095 : (Jvm.Cond.superclass "GoblinHousehold$Broom" "java/lang/Object") ∈ lw_all := lw_g (lw_at lw_m5 42 rfl) rfl
theorem q1500 : (Jvm.Cond.selects "GoblinHousehold$Broom" ({ cls := "java/lang/Object", name := "equals", desc := "(Ljava/lang/Object;)Z" } : Jvm.MethodName) ({ cls := "java/lang/Object", name := "equals", desc := "(Ljava/lang/Object;)Z" } : Jvm.MethodName)) ∈ lw_all := lw_g (lw_at lw_m6 207 rfl) rfl
theorem q1655 : (Jvm.Cond.instanceMethod ({ cls := "GoblinHousehold$Broom", name := "usefulPower", desc := "()I" } : Jvm.MethodName)) ∈ lw_all := lw_g (lw_at lw_m7 122 rfl) rfl
theorem q1656 : (Jvm.Cond.selects "GoblinHousehold$Broom" ({ cls := "GoblinHousehold$Broom", name := "usefulPower", desc := "()I" } : Jvm.MethodName) ({ cls := "GoblinHousehold$Broom", name := "usefulPower", desc := "()I" } : Jvm.MethodName)) ∈ lw_all := lw_g (lw_at lw_m7 123 rfl) rfl
theorem q1657 : (Jvm.Cond.code ({ cls := "GoblinHousehold$Broom", name := "usefulPower", desc := "()I" } : Jvm.MethodName) prog_4_method_4_code (1 : Nat) (Option.some Jvm.ClassFile.FieldType.int)) ∈ lw_all := lw_g (lw_at lw_m7 124 rfl) rfl
theorem q1658 : (Jvm.Cond.methodLink "GoblinHousehold$Broom" (25 : Nat) ({ cls := "GoblinHousehold$Standing", name := "usefulPower", desc := "(I)I" } : Jvm.MethodName)) ∈ lw_all := lw_g (lw_at lw_m7 125 rfl) rfl
theorem q2116 : (Jvm.Cond.selects "GoblinHousehold$Broom" ({ cls := "java/lang/Object", name := "toString", desc := "()Ljava/lang/String;" } : Jvm.MethodName) ({ cls := "java/lang/Object", name := "toString", desc := "()Ljava/lang/String;" } : Jvm.MethodName)) ∈ lw_all := lw_g (lw_at lw_m9 103 rfl) rfl
theorem q3026 : (Jvm.Cond.castable "GoblinHousehold$Broom" "java/lang/Object") ∈ lw_tbl := lw_at lw_m13 53 rfl
theorem in_X9 : ∀ w ∈ wsX90, w ∈ lw_all := lw_in wsX90 [1091, 1093] (by decide +kernel) (by decide +kernel)
/-! GoblinHousehold$Contract -/
set_option maxRecDepth 100000
def RX10 : String := "GoblinHousehold$Contract"
def TX10 : u_T := fun k => match k with
  | 0 => ("GoblinHousehold$Contract", "id", "I", true)
  | 1 => ("GoblinHousehold$Contract", "goblin", "I", true)
  | 2 => ("GoblinHousehold$Contract", "room", "I", true)
  | 3 => ("GoblinHousehold$Contract", "wage", "I", true)
  | _ => ("GoblinHousehold$Contract", "effort", "I", true)
def tyX10 : Nat → FieldType := fun k => match k with
  | 0 => .int
  | 1 => .int
  | 2 => .int
  | 3 => .int
  | _ => .int
abbrev wsX100 : List Cond := u_ws RX10 TX10 5
theorem nmX10 : ∀ a, a < 5 → ∀ b, b < 5 → a ≠ b → (TX10 a).2.1 ≠ (TX10 b).2.1 := by decide +kernel
theorem tyX10_ok : ∀ k, k < 5 → parseFieldDescriptor (TX10 k).2.2.1 = some (tyX10 k) := by decide +kernel
abbrev cX10_text : ByteArray := prog_11_method_2_code
def yX10_text : MethodName := ⟨RX10, "text", "()Ljava/lang/String;"⟩
def dkwX10_text_2 : List UInt8 := [182, 0, 28, 18, 41, 182, 0, 34, 42, 180, 0, 22, 182, 0, 28, 182, 0, 43, 176]
abbrev dktX10_text_2 : List UInt8 := dkwX10_text_2 ++ []
def dkwX10_text_1 : List UInt8 := [182, 0, 28, 18, 37, 182, 0, 34, 42, 180, 0, 16, 182, 0, 28, 18, 39, 182, 0, 34, 42, 180, 0, 19]
abbrev dktX10_text_1 : List UInt8 := dkwX10_text_1 ++ dktX10_text_2
def dkwX10_text_0 : List UInt8 := [187, 0, 25, 89, 183, 0, 27, 42, 180, 0, 7, 182, 0, 28, 18, 32, 182, 0, 34, 42, 180, 0, 13]
abbrev dktX10_text_0 : List UInt8 := dkwX10_text_0 ++ dktX10_text_1
theorem dksX10_text_0 : cX10_text.data.toList.drop 0 = dktX10_text_0 := by decide +kernel
theorem dksX10_text_1 : cX10_text.data.toList.drop 23 = dktX10_text_1 := dk_seg dksX10_text_0 23 rfl rfl
theorem dksX10_text_2 : cX10_text.data.toList.drop 47 = dktX10_text_2 := dk_seg dksX10_text_1 24 rfl rfl
theorem dX10_text_0 : decode cX10_text 0 = .ok (.new 25, 3) := dk_187 0 25 (dk_at dksX10_text_0 0 rfl rfl)
theorem dX10_text_3 : decode cX10_text 3 = .ok (.dup, 1) := dk_89 (dk_at dksX10_text_0 3 rfl rfl)
theorem dX10_text_4 : decode cX10_text 4 = .ok (.invokespecial 27, 3) := dk_183 0 27 (dk_at dksX10_text_0 4 rfl rfl)
theorem dX10_text_7 : decode cX10_text 7 = .ok (.aload_n 0, 1) := dk_42 (dk_at dksX10_text_0 7 rfl rfl)
theorem dX10_text_8 : decode cX10_text 8 = .ok (.getfield 7, 3) := dk_180 0 7 (dk_at dksX10_text_0 8 rfl rfl)
theorem dX10_text_11 : decode cX10_text 11 = .ok (.invokevirtual 28, 3) := dk_182 0 28 (dk_at dksX10_text_0 11 rfl rfl)
theorem dX10_text_14 : decode cX10_text 14 = .ok (.ldc 32, 2) := dk_18 32 (dk_at dksX10_text_0 14 rfl rfl)
theorem dX10_text_16 : decode cX10_text 16 = .ok (.invokevirtual 34, 3) := dk_182 0 34 (dk_at dksX10_text_0 16 rfl rfl)
theorem dX10_text_19 : decode cX10_text 19 = .ok (.aload_n 0, 1) := dk_42 (dk_at dksX10_text_0 19 rfl rfl)
theorem dX10_text_20 : decode cX10_text 20 = .ok (.getfield 13, 3) := dk_180 0 13 (dk_at dksX10_text_0 20 rfl rfl)
theorem dX10_text_23 : decode cX10_text 23 = .ok (.invokevirtual 28, 3) := dk_182 0 28 (dk_at dksX10_text_1 0 rfl rfl)
theorem dX10_text_26 : decode cX10_text 26 = .ok (.ldc 37, 2) := dk_18 37 (dk_at dksX10_text_1 3 rfl rfl)
theorem dX10_text_28 : decode cX10_text 28 = .ok (.invokevirtual 34, 3) := dk_182 0 34 (dk_at dksX10_text_1 5 rfl rfl)
theorem dX10_text_31 : decode cX10_text 31 = .ok (.aload_n 0, 1) := dk_42 (dk_at dksX10_text_1 8 rfl rfl)
theorem dX10_text_32 : decode cX10_text 32 = .ok (.getfield 16, 3) := dk_180 0 16 (dk_at dksX10_text_1 9 rfl rfl)
theorem dX10_text_35 : decode cX10_text 35 = .ok (.invokevirtual 28, 3) := dk_182 0 28 (dk_at dksX10_text_1 12 rfl rfl)
theorem dX10_text_38 : decode cX10_text 38 = .ok (.ldc 39, 2) := dk_18 39 (dk_at dksX10_text_1 15 rfl rfl)
theorem dX10_text_40 : decode cX10_text 40 = .ok (.invokevirtual 34, 3) := dk_182 0 34 (dk_at dksX10_text_1 17 rfl rfl)
theorem dX10_text_43 : decode cX10_text 43 = .ok (.aload_n 0, 1) := dk_42 (dk_at dksX10_text_1 20 rfl rfl)
theorem dX10_text_44 : decode cX10_text 44 = .ok (.getfield 19, 3) := dk_180 0 19 (dk_at dksX10_text_1 21 rfl rfl)
theorem dX10_text_47 : decode cX10_text 47 = .ok (.invokevirtual 28, 3) := dk_182 0 28 (dk_at dksX10_text_2 0 rfl rfl)
theorem dX10_text_50 : decode cX10_text 50 = .ok (.ldc 41, 2) := dk_18 41 (dk_at dksX10_text_2 3 rfl rfl)
theorem dX10_text_52 : decode cX10_text 52 = .ok (.invokevirtual 34, 3) := dk_182 0 34 (dk_at dksX10_text_2 5 rfl rfl)
theorem dX10_text_55 : decode cX10_text 55 = .ok (.aload_n 0, 1) := dk_42 (dk_at dksX10_text_2 8 rfl rfl)
theorem dX10_text_56 : decode cX10_text 56 = .ok (.getfield 22, 3) := dk_180 0 22 (dk_at dksX10_text_2 9 rfl rfl)
theorem dX10_text_59 : decode cX10_text 59 = .ok (.invokevirtual 28, 3) := dk_182 0 28 (dk_at dksX10_text_2 12 rfl rfl)
theorem dX10_text_62 : decode cX10_text 62 = .ok (.invokevirtual 43, 3) := dk_182 0 43 (dk_at dksX10_text_2 15 rfl rfl)
theorem dX10_text_65 : decode cX10_text 65 = .ok (.areturn, 1) := dk_176 (dk_at dksX10_text_2 18 rfl rfl)
abbrev cX10_init : ByteArray := prog_11_method_1_code
def yX10_init : MethodName := ⟨RX10, "<init>", "(IIIII)V"⟩
def dkwX10_init_1 : List UInt8 := [181, 0, 19, 42, 21, 5, 181, 0, 22, 177]
abbrev dktX10_init_1 : List UInt8 := dkwX10_init_1 ++ []
def dkwX10_init_0 : List UInt8 := [42, 183, 0, 1, 42, 27, 181, 0, 7, 42, 28, 181, 0, 13, 42, 29, 181, 0, 16, 42, 21, 4]
abbrev dktX10_init_0 : List UInt8 := dkwX10_init_0 ++ dktX10_init_1
theorem dksX10_init_0 : cX10_init.data.toList.drop 0 = dktX10_init_0 := by decide +kernel
theorem dksX10_init_1 : cX10_init.data.toList.drop 22 = dktX10_init_1 := dk_seg dksX10_init_0 22 rfl rfl
theorem dX10_init_0 : decode cX10_init 0 = .ok (.aload_n 0, 1) := dk_42 (dk_at dksX10_init_0 0 rfl rfl)
theorem dX10_init_1 : decode cX10_init 1 = .ok (.invokespecial 1, 3) := dk_183 0 1 (dk_at dksX10_init_0 1 rfl rfl)
theorem dX10_init_4 : decode cX10_init 4 = .ok (.aload_n 0, 1) := dk_42 (dk_at dksX10_init_0 4 rfl rfl)
theorem dX10_init_5 : decode cX10_init 5 = .ok (.iload_n 1, 1) := dk_27 (dk_at dksX10_init_0 5 rfl rfl)
theorem dX10_init_6 : decode cX10_init 6 = .ok (.putfield 7, 3) := dk_181 0 7 (dk_at dksX10_init_0 6 rfl rfl)
theorem dX10_init_9 : decode cX10_init 9 = .ok (.aload_n 0, 1) := dk_42 (dk_at dksX10_init_0 9 rfl rfl)
theorem dX10_init_10 : decode cX10_init 10 = .ok (.iload_n 2, 1) := dk_28 (dk_at dksX10_init_0 10 rfl rfl)
theorem dX10_init_11 : decode cX10_init 11 = .ok (.putfield 13, 3) := dk_181 0 13 (dk_at dksX10_init_0 11 rfl rfl)
theorem dX10_init_14 : decode cX10_init 14 = .ok (.aload_n 0, 1) := dk_42 (dk_at dksX10_init_0 14 rfl rfl)
theorem dX10_init_15 : decode cX10_init 15 = .ok (.iload_n 3, 1) := dk_29 (dk_at dksX10_init_0 15 rfl rfl)
theorem dX10_init_16 : decode cX10_init 16 = .ok (.putfield 16, 3) := dk_181 0 16 (dk_at dksX10_init_0 16 rfl rfl)
theorem dX10_init_19 : decode cX10_init 19 = .ok (.aload_n 0, 1) := dk_42 (dk_at dksX10_init_0 19 rfl rfl)
theorem dX10_init_20 : decode cX10_init 20 = .ok (.iload 4, 2) := dk_21 4 (dk_at dksX10_init_0 20 rfl rfl)
theorem dX10_init_22 : decode cX10_init 22 = .ok (.putfield 19, 3) := dk_181 0 19 (dk_at dksX10_init_1 0 rfl rfl)
theorem dX10_init_25 : decode cX10_init 25 = .ok (.aload_n 0, 1) := dk_42 (dk_at dksX10_init_1 3 rfl rfl)
theorem dX10_init_26 : decode cX10_init 26 = .ok (.iload 5, 2) := dk_21 5 (dk_at dksX10_init_1 4 rfl rfl)
theorem dX10_init_28 : decode cX10_init 28 = .ok (.putfield 22, 3) := dk_181 0 22 (dk_at dksX10_init_1 6 rfl rfl)
theorem dX10_init_31 : decode cX10_init 31 = .ok (.return_, 1) := dk_177 (dk_at dksX10_init_1 9 rfl rfl)
theorem q133 : (Jvm.Cond.initialized "GoblinHousehold$Contract") ∈ lw_all := lw_g (lw_at lw_m1 40 rfl) rfl
theorem q845 : (Jvm.Cond.instanceMethod ({ cls := "GoblinHousehold$Contract", name := "text", desc := "()Ljava/lang/String;" } : Jvm.MethodName)) ∈ lw_all := lw_g (lw_at lw_m4 32 rfl) rfl
theorem q846 : (Jvm.Cond.selects "GoblinHousehold$Contract" ({ cls := "GoblinHousehold$Contract", name := "text", desc := "()Ljava/lang/String;" } : Jvm.MethodName) ({ cls := "GoblinHousehold$Contract", name := "text", desc := "()Ljava/lang/String;" } : Jvm.MethodName)) ∈ lw_all := lw_g (lw_at lw_m4 33 rfl) rfl
theorem q847 : (Jvm.Cond.code ({ cls := "GoblinHousehold$Contract", name := "text", desc := "()Ljava/lang/String;" } : Jvm.MethodName) prog_11_method_2_code (1 : Nat) (Option.some (Jvm.ClassFile.FieldType.object "java/lang/String"))) ∈ lw_all := lw_g (lw_at lw_m4 34 rfl) rfl
theorem q848 : (Jvm.Cond.classLink "GoblinHousehold$Contract" (25 : Nat) "java/lang/StringBuilder") ∈ lw_all := lw_g (lw_at lw_m4 35 rfl) rfl
theorem q849 : (Jvm.Cond.methodLink "GoblinHousehold$Contract" (27 : Nat) ({ cls := "java/lang/StringBuilder", name := "<init>", desc := "()V" } : Jvm.MethodName)) ∈ lw_all := lw_g (lw_at lw_m4 36 rfl) rfl
theorem q850 : (Jvm.Cond.methodLink "GoblinHousehold$Contract" (28 : Nat) ({ cls := "java/lang/StringBuilder", name := "append", desc := "(I)Ljava/lang/StringBuilder;" } : Jvm.MethodName)) ∈ lw_all := lw_g (lw_at lw_m4 37 rfl) rfl
theorem q851 : (Jvm.Cond.stringRef "GoblinHousehold$Contract" (32 : Nat) ":") ∈ lw_tbl := lw_at lw_m4 38 rfl
theorem q852 : (Jvm.Cond.methodLink "GoblinHousehold$Contract" (34 : Nat) ({ cls := "java/lang/StringBuilder", name := "append", desc := "(Ljava/lang/String;)Ljava/lang/StringBuilder;" } : Jvm.MethodName)) ∈ lw_all := lw_g (lw_at lw_m4 39 rfl) rfl
theorem q853 : (Jvm.Cond.stringRef "GoblinHousehold$Contract" (37 : Nat) ">") ∈ lw_tbl := lw_at lw_m4 40 rfl
theorem q854 : (Jvm.Cond.stringRef "GoblinHousehold$Contract" (39 : Nat) "@") ∈ lw_tbl := lw_at lw_m4 41 rfl
theorem q855 : (Jvm.Cond.stringRef "GoblinHousehold$Contract" (41 : Nat) "/") ∈ lw_tbl := lw_at lw_m4 42 rfl
theorem q856 : (Jvm.Cond.methodLink "GoblinHousehold$Contract" (43 : Nat) ({ cls := "java/lang/StringBuilder", name := "toString", desc := "()Ljava/lang/String;" } : Jvm.MethodName)) ∈ lw_all := lw_g (lw_at lw_m4 43 rfl) rfl
theorem q989 : (Jvm.Cond.selects "GoblinHousehold$Contract" ({ cls := "java/lang/Object", name := "getClass", desc := "()Ljava/lang/Class;" } : Jvm.MethodName) ({ cls := "java/lang/Object", name := "getClass", desc := "()Ljava/lang/Class;" } : Jvm.MethodName)) ∈ lw_all := lw_g (lw_at lw_m4 176 rfl) rfl
theorem q1382 : (Jvm.Cond.instantiable "GoblinHousehold$Contract" (5 : Nat)) ∈ lw_all := lw_g (lw_at lw_m6 89 rfl) rfl
theorem q1384 : (Jvm.Cond.instanceMethod ({ cls := "GoblinHousehold$Contract", name := "<init>", desc := "(IIIII)V" } : Jvm.MethodName)) ∈ lw_all := lw_g (lw_at lw_m6 91 rfl) rfl
theorem q1385 : (Jvm.Cond.code ({ cls := "GoblinHousehold$Contract", name := "<init>", desc := "(IIIII)V" } : Jvm.MethodName) prog_11_method_1_code (6 : Nat) (Option.none : Option Jvm.ClassFile.FieldType)) ∈ lw_all := lw_g (lw_at lw_m6 92 rfl) rfl
theorem q1386 : (Jvm.Cond.methodLink "GoblinHousehold$Contract" (1 : Nat) ({ cls := "java/lang/Object", name := "<init>", desc := "()V" } : Jvm.MethodName)) ∈ lw_all := lw_g (lw_at lw_m6 93 rfl) rfl
theorem q1387 : (Jvm.Cond.fieldLink "GoblinHousehold$Contract" (7 : Nat) "GoblinHousehold$Contract" "id" "I") ∈ lw_all := lw_g (lw_at lw_m6 94 rfl) rfl
theorem q1390 : (Jvm.Cond.fieldLink "GoblinHousehold$Contract" (13 : Nat) "GoblinHousehold$Contract" "goblin" "I") ∈ lw_all := lw_g (lw_at lw_m6 97 rfl) rfl
theorem q1393 : (Jvm.Cond.fieldLink "GoblinHousehold$Contract" (16 : Nat) "GoblinHousehold$Contract" "room" "I") ∈ lw_all := lw_g (lw_at lw_m6 100 rfl) rfl
theorem q1396 : (Jvm.Cond.fieldLink "GoblinHousehold$Contract" (19 : Nat) "GoblinHousehold$Contract" "wage" "I") ∈ lw_all := lw_g (lw_at lw_m6 103 rfl) rfl
theorem q1400 : (Jvm.Cond.fieldLink "GoblinHousehold$Contract" (22 : Nat) "GoblinHousehold$Contract" "effort" "I") ∈ lw_all := lw_g (lw_at lw_m6 107 rfl) rfl
theorem q1404 : (Jvm.Cond.laysFinal "GoblinHousehold$Contract" "GoblinHousehold$Contract" "id" "I") ∈ lw_all := lw_g (lw_at lw_m6 111 rfl) rfl
theorem q1405 : (Jvm.Cond.soleField "GoblinHousehold$Contract" "id") ∈ lw_all := lw_g (lw_at lw_m6 112 rfl) rfl
theorem q1406 : (Jvm.Cond.laysFinal "GoblinHousehold$Contract" "GoblinHousehold$Contract" "goblin" "I") ∈ lw_all := lw_g (lw_at lw_m6 113 rfl) rfl
theorem q1407 : (Jvm.Cond.soleField "GoblinHousehold$Contract" "goblin") ∈ lw_all := lw_g (lw_at lw_m6 114 rfl) rfl
theorem q1408 : (Jvm.Cond.laysFinal "GoblinHousehold$Contract" "GoblinHousehold$Contract" "room" "I") ∈ lw_all := lw_g (lw_at lw_m6 115 rfl) rfl
theorem q1409 : (Jvm.Cond.soleField "GoblinHousehold$Contract" "room") ∈ lw_all := lw_g (lw_at lw_m6 116 rfl) rfl
theorem q1410 : (Jvm.Cond.laysFinal "GoblinHousehold$Contract" "GoblinHousehold$Contract" "wage" "I") ∈ lw_all := lw_g (lw_at lw_m6 117 rfl) rfl
theorem q1411 : (Jvm.Cond.soleField "GoblinHousehold$Contract" "wage") ∈ lw_all := lw_g (lw_at lw_m6 118 rfl) rfl
theorem q1412 : (Jvm.Cond.laysFinal "GoblinHousehold$Contract" "GoblinHousehold$Contract" "effort" "I") ∈ lw_all := lw_g (lw_at lw_m6 119 rfl) rfl
theorem q1413 : (Jvm.Cond.soleField "GoblinHousehold$Contract" "effort") ∈ lw_all := lw_g (lw_at lw_m6 120 rfl) rfl
theorem q1414 : (Jvm.Cond.superclass "GoblinHousehold$Contract" "java/lang/Object") ∈ lw_all := lw_g (lw_at lw_m6 121 rfl) rfl
theorem q1506 : (Jvm.Cond.selects "GoblinHousehold$Contract" ({ cls := "java/lang/Object", name := "equals", desc := "(Ljava/lang/Object;)Z" } : Jvm.MethodName) ({ cls := "java/lang/Object", name := "equals", desc := "(Ljava/lang/Object;)Z" } : Jvm.MethodName)) ∈ lw_all := lw_g (lw_at lw_m6 213 rfl) rfl
theorem q2159 : (Jvm.Cond.selects "GoblinHousehold$Contract" ({ cls := "java/lang/Object", name := "toString", desc := "()Ljava/lang/String;" } : Jvm.MethodName) ({ cls := "java/lang/Object", name := "toString", desc := "()Ljava/lang/String;" } : Jvm.MethodName)) ∈ lw_all := lw_g (lw_at lw_m9 146 rfl) rfl
theorem q3030 : (Jvm.Cond.castable "GoblinHousehold$Contract" "java/lang/Object") ∈ lw_tbl := lw_at lw_m13 57 rfl
theorem in_X10 : ∀ w ∈ wsX100, w ∈ lw_all := lw_in wsX100 [1404, 1406, 1408, 1410, 1412] (by decide +kernel) (by decide +kernel)
/-! GoblinHousehold$Cancelled -/
set_option maxRecDepth 100000
def RX11 : String := "GoblinHousehold$Cancelled"
def TX11 : u_T := fun k => match k with
  | _ => ("GoblinHousehold$Cancelled", "contract", "LGoblinHousehold$Contract;", true)
def tyX11 : Nat → FieldType := fun k => match k with
  | _ => .object "GoblinHousehold$Contract"
abbrev wsX110 : List Cond := u_ws RX11 TX11 1
theorem nmX11 : ∀ a, a < 1 → ∀ b, b < 1 → a ≠ b → (TX11 a).2.1 ≠ (TX11 b).2.1 := by decide +kernel
theorem tyX11_ok : ∀ k, k < 1 → parseFieldDescriptor (TX11 k).2.2.1 = some (tyX11 k) := by decide +kernel
abbrev cX11_init : ByteArray := prog_5_method_1_code
def yX11_init : MethodName := ⟨RX11, "<init>", "(LGoblinHousehold$Contract;)V"⟩
def dkwX11_init_0 : List UInt8 := [42, 183, 0, 1, 42, 43, 181, 0, 7, 177]
abbrev dktX11_init_0 : List UInt8 := dkwX11_init_0 ++ []
theorem dksX11_init_0 : cX11_init.data.toList.drop 0 = dktX11_init_0 := by decide +kernel
theorem dX11_init_0 : decode cX11_init 0 = .ok (.aload_n 0, 1) := dk_42 (dk_at dksX11_init_0 0 rfl rfl)
theorem dX11_init_1 : decode cX11_init 1 = .ok (.invokespecial 1, 3) := dk_183 0 1 (dk_at dksX11_init_0 1 rfl rfl)
theorem dX11_init_4 : decode cX11_init 4 = .ok (.aload_n 0, 1) := dk_42 (dk_at dksX11_init_0 4 rfl rfl)
theorem dX11_init_5 : decode cX11_init 5 = .ok (.aload_n 1, 1) := dk_43 (dk_at dksX11_init_0 5 rfl rfl)
theorem dX11_init_6 : decode cX11_init 6 = .ok (.putfield 7, 3) := dk_181 0 7 (dk_at dksX11_init_0 6 rfl rfl)
theorem dX11_init_9 : decode cX11_init 9 = .ok (.return_, 1) := dk_177 (dk_at dksX11_init_0 9 rfl rfl)
abbrev cX11_contract : ByteArray := prog_5_method_5_code
def yX11_contract : MethodName := ⟨RX11, "contract", "()LGoblinHousehold$Contract;"⟩
theorem dX11_contract_0 : decode cX11_contract 0 = .ok (.aload_n 0, 1) := by decide +kernel
theorem dX11_contract_1 : decode cX11_contract 1 = .ok (.getfield 7, 3) := by decide +kernel
theorem dX11_contract_4 : decode cX11_contract 4 = .ok (.areturn, 1) := by decide +kernel
abbrev cX11_equals : ByteArray := prog_5_method_4_code
def yX11_equals : MethodName := ⟨RX11, "equals", "(Ljava/lang/Object;)Z"⟩
def dkwX11_equals_0 : List UInt8 := [42, 43, 186, 0, 21, 0, 0, 172]
abbrev dktX11_equals_0 : List UInt8 := dkwX11_equals_0 ++ []
theorem dksX11_equals_0 : cX11_equals.data.toList.drop 0 = dktX11_equals_0 := by decide +kernel
theorem dX11_equals_0 : decode cX11_equals 0 = .ok (.aload_n 0, 1) := dk_42 (dk_at dksX11_equals_0 0 rfl rfl)
theorem dX11_equals_1 : decode cX11_equals 1 = .ok (.aload_n 1, 1) := dk_43 (dk_at dksX11_equals_0 1 rfl rfl)
theorem dX11_equals_2 : decode cX11_equals 2 = .ok (.invokedynamic 21, 5) := by decide +kernel
theorem dX11_equals_7 : decode cX11_equals 7 = .ok (.ireturn, 1) := dk_172 (dk_at dksX11_equals_0 7 rfl rfl)
theorem q135 : (Jvm.Cond.initialized "GoblinHousehold$Cancelled") ∈ lw_all := lw_g (lw_at lw_m1 42 rfl) rfl
theorem q984 : (Jvm.Cond.selects "GoblinHousehold$Cancelled" ({ cls := "java/lang/Object", name := "getClass", desc := "()Ljava/lang/Class;" } : Jvm.MethodName) ({ cls := "java/lang/Object", name := "getClass", desc := "()Ljava/lang/Class;" } : Jvm.MethodName)) ∈ lw_all := lw_g (lw_at lw_m4 171 rfl) rfl
theorem q1436 : (Jvm.Cond.instantiable "GoblinHousehold$Cancelled" (1 : Nat)) ∈ lw_all := lw_g (lw_at lw_m6 143 rfl) rfl
theorem q1438 : (Jvm.Cond.instanceMethod ({ cls := "GoblinHousehold$Cancelled", name := "<init>", desc := "(LGoblinHousehold$Contract;)V" } : Jvm.MethodName)) ∈ lw_all := lw_g (lw_at lw_m6 145 rfl) rfl
theorem q1439 : (Jvm.Cond.code ({ cls := "GoblinHousehold$Cancelled", name := "<init>", desc := "(LGoblinHousehold$Contract;)V" } : Jvm.MethodName) prog_5_method_1_code (2 : Nat) (Option.none : Option Jvm.ClassFile.FieldType)) ∈ lw_all := lw_g (lw_at lw_m6 146 rfl) rfl
theorem q1440 : (Jvm.Cond.methodLink "GoblinHousehold$Cancelled" (1 : Nat) ({ cls := "java/lang/Record", name := "<init>", desc := "()V" } : Jvm.MethodName)) ∈ lw_all := lw_g (lw_at lw_m6 147 rfl) rfl
theorem q1444 : (Jvm.Cond.fieldLink "GoblinHousehold$Cancelled" (7 : Nat) "GoblinHousehold$Cancelled" "contract" "LGoblinHousehold$Contract;") ∈ lw_all := lw_g (lw_at lw_m6 151 rfl) rfl
theorem q1445 : (Jvm.Cond.laysFinal "GoblinHousehold$Cancelled" "GoblinHousehold$Cancelled" "contract" "LGoblinHousehold$Contract;") ∈ lw_all := lw_g (lw_at lw_m6 152 rfl) rfl
theorem q1446 : (Jvm.Cond.soleField "GoblinHousehold$Cancelled" "contract") ∈ lw_all := lw_g (lw_at lw_m6 153 rfl) rfl
theorem q1447 : (Jvm.Cond.superclass "GoblinHousehold$Cancelled" "java/lang/Record") ∈ lw_all := lw_g (lw_at lw_m6 154 rfl) rfl
theorem q1462 : (Jvm.Cond.castable "GoblinHousehold$Cancelled" "GoblinHousehold$Ending") ∈ lw_tbl := lw_at lw_m6 169 rfl
theorem q1463 : (Jvm.Cond.selects "GoblinHousehold$Cancelled" ({ cls := "GoblinHousehold$Ending", name := "contract", desc := "()LGoblinHousehold$Contract;" } : Jvm.MethodName) ({ cls := "GoblinHousehold$Cancelled", name := "contract", desc := "()LGoblinHousehold$Contract;" } : Jvm.MethodName)) ∈ lw_all := lw_g (lw_at lw_m6 170 rfl) rfl
theorem q1464 : (Jvm.Cond.unhidden "GoblinHousehold$Cancelled" "contract" "()LGoblinHousehold$Contract;") ∈ lw_tbl := lw_at lw_m6 171 rfl
theorem q1465 : (Jvm.Cond.instanceMethod ({ cls := "GoblinHousehold$Cancelled", name := "contract", desc := "()LGoblinHousehold$Contract;" } : Jvm.MethodName)) ∈ lw_all := lw_g (lw_at lw_m6 172 rfl) rfl
theorem q1466 : (Jvm.Cond.publicMethod ({ cls := "GoblinHousehold$Cancelled", name := "contract", desc := "()LGoblinHousehold$Contract;" } : Jvm.MethodName)) ∈ lw_tbl := lw_at lw_m6 173 rfl
theorem q1467 : (Jvm.Cond.code ({ cls := "GoblinHousehold$Cancelled", name := "contract", desc := "()LGoblinHousehold$Contract;" } : Jvm.MethodName) prog_5_method_5_code (1 : Nat) (Option.some (Jvm.ClassFile.FieldType.object "GoblinHousehold$Contract"))) ∈ lw_all := lw_g (lw_at lw_m6 174 rfl) rfl
theorem q1494 : (Jvm.Cond.instanceMethod ({ cls := "GoblinHousehold$Cancelled", name := "equals", desc := "(Ljava/lang/Object;)Z" } : Jvm.MethodName)) ∈ lw_all := lw_g (lw_at lw_m6 201 rfl) rfl
theorem q1495 : (Jvm.Cond.code ({ cls := "GoblinHousehold$Cancelled", name := "equals", desc := "(Ljava/lang/Object;)Z" } : Jvm.MethodName) prog_5_method_4_code (2 : Nat) (Option.some Jvm.ClassFile.FieldType.boolean)) ∈ lw_all := lw_g (lw_at lw_m6 202 rfl) rfl
theorem q1501 : (Jvm.Cond.selects "GoblinHousehold$Cancelled" ({ cls := "java/lang/Object", name := "equals", desc := "(Ljava/lang/Object;)Z" } : Jvm.MethodName) ({ cls := "GoblinHousehold$Cancelled", name := "equals", desc := "(Ljava/lang/Object;)Z" } : Jvm.MethodName)) ∈ lw_all := lw_g (lw_at lw_m6 208 rfl) rfl
theorem q3031 : (Jvm.Cond.castable "GoblinHousehold$Cancelled" "java/lang/Object") ∈ lw_tbl := lw_at lw_m13 58 rfl
theorem in_X11 : ∀ w ∈ wsX110, w ∈ lw_all := lw_in wsX110 [1445] (by decide +kernel) (by decide +kernel)
/-! GoblinHousehold$Done -/
set_option maxRecDepth 100000
def RX12 : String := "GoblinHousehold$Done"
def TX12 : u_T := fun k => match k with
  | _ => ("GoblinHousehold$Done", "contract", "LGoblinHousehold$Contract;", true)
def tyX12 : Nat → FieldType := fun k => match k with
  | _ => .object "GoblinHousehold$Contract"
abbrev wsX120 : List Cond := u_ws RX12 TX12 1
theorem nmX12 : ∀ a, a < 1 → ∀ b, b < 1 → a ≠ b → (TX12 a).2.1 ≠ (TX12 b).2.1 := by decide +kernel
theorem tyX12_ok : ∀ k, k < 1 → parseFieldDescriptor (TX12 k).2.2.1 = some (tyX12 k) := by decide +kernel
abbrev cX12_contract : ByteArray := prog_14_method_5_code
def yX12_contract : MethodName := ⟨RX12, "contract", "()LGoblinHousehold$Contract;"⟩
theorem dX12_contract_0 : decode cX12_contract 0 = .ok (.aload_n 0, 1) := by decide +kernel
theorem dX12_contract_1 : decode cX12_contract 1 = .ok (.getfield 7, 3) := by decide +kernel
theorem dX12_contract_4 : decode cX12_contract 4 = .ok (.areturn, 1) := by decide +kernel
abbrev cX12_equals : ByteArray := prog_14_method_4_code
def yX12_equals : MethodName := ⟨RX12, "equals", "(Ljava/lang/Object;)Z"⟩
def dkwX12_equals_0 : List UInt8 := [42, 43, 186, 0, 21, 0, 0, 172]
abbrev dktX12_equals_0 : List UInt8 := dkwX12_equals_0 ++ []
theorem dksX12_equals_0 : cX12_equals.data.toList.drop 0 = dktX12_equals_0 := by decide +kernel
theorem dX12_equals_0 : decode cX12_equals 0 = .ok (.aload_n 0, 1) := dk_42 (dk_at dksX12_equals_0 0 rfl rfl)
theorem dX12_equals_1 : decode cX12_equals 1 = .ok (.aload_n 1, 1) := dk_43 (dk_at dksX12_equals_0 1 rfl rfl)
theorem dX12_equals_2 : decode cX12_equals 2 = .ok (.invokedynamic 21, 5) := by decide +kernel
theorem dX12_equals_7 : decode cX12_equals 7 = .ok (.ireturn, 1) := dk_172 (dk_at dksX12_equals_0 7 rfl rfl)
abbrev cX12_init : ByteArray := prog_14_method_1_code
def yX12_init : MethodName := ⟨RX12, "<init>", "(LGoblinHousehold$Contract;)V"⟩
def dkwX12_init_0 : List UInt8 := [42, 183, 0, 1, 42, 43, 181, 0, 7, 177]
abbrev dktX12_init_0 : List UInt8 := dkwX12_init_0 ++ []
theorem dksX12_init_0 : cX12_init.data.toList.drop 0 = dktX12_init_0 := by decide +kernel
theorem dX12_init_0 : decode cX12_init 0 = .ok (.aload_n 0, 1) := dk_42 (dk_at dksX12_init_0 0 rfl rfl)
theorem dX12_init_1 : decode cX12_init 1 = .ok (.invokespecial 1, 3) := dk_183 0 1 (dk_at dksX12_init_0 1 rfl rfl)
theorem dX12_init_4 : decode cX12_init 4 = .ok (.aload_n 0, 1) := dk_42 (dk_at dksX12_init_0 4 rfl rfl)
theorem dX12_init_5 : decode cX12_init 5 = .ok (.aload_n 1, 1) := dk_43 (dk_at dksX12_init_0 5 rfl rfl)
theorem dX12_init_6 : decode cX12_init 6 = .ok (.putfield 7, 3) := dk_181 0 7 (dk_at dksX12_init_0 6 rfl rfl)
theorem dX12_init_9 : decode cX12_init 9 = .ok (.return_, 1) := dk_177 (dk_at dksX12_init_0 9 rfl rfl)
theorem q136 : (Jvm.Cond.initialized "GoblinHousehold$Done") ∈ lw_all := lw_g (lw_at lw_m1 43 rfl) rfl
theorem q990 : (Jvm.Cond.selects "GoblinHousehold$Done" ({ cls := "java/lang/Object", name := "getClass", desc := "()Ljava/lang/Class;" } : Jvm.MethodName) ({ cls := "java/lang/Object", name := "getClass", desc := "()Ljava/lang/Class;" } : Jvm.MethodName)) ∈ lw_all := lw_g (lw_at lw_m4 177 rfl) rfl
theorem q1468 : (Jvm.Cond.castable "GoblinHousehold$Done" "GoblinHousehold$Ending") ∈ lw_tbl := lw_at lw_m6 175 rfl
theorem q1469 : (Jvm.Cond.selects "GoblinHousehold$Done" ({ cls := "GoblinHousehold$Ending", name := "contract", desc := "()LGoblinHousehold$Contract;" } : Jvm.MethodName) ({ cls := "GoblinHousehold$Done", name := "contract", desc := "()LGoblinHousehold$Contract;" } : Jvm.MethodName)) ∈ lw_all := lw_g (lw_at lw_m6 176 rfl) rfl
theorem q1470 : (Jvm.Cond.unhidden "GoblinHousehold$Done" "contract" "()LGoblinHousehold$Contract;") ∈ lw_tbl := lw_at lw_m6 177 rfl
theorem q1471 : (Jvm.Cond.instanceMethod ({ cls := "GoblinHousehold$Done", name := "contract", desc := "()LGoblinHousehold$Contract;" } : Jvm.MethodName)) ∈ lw_all := lw_g (lw_at lw_m6 178 rfl) rfl
theorem q1472 : (Jvm.Cond.publicMethod ({ cls := "GoblinHousehold$Done", name := "contract", desc := "()LGoblinHousehold$Contract;" } : Jvm.MethodName)) ∈ lw_tbl := lw_at lw_m6 179 rfl
theorem q1473 : (Jvm.Cond.code ({ cls := "GoblinHousehold$Done", name := "contract", desc := "()LGoblinHousehold$Contract;" } : Jvm.MethodName) prog_14_method_5_code (1 : Nat) (Option.some (Jvm.ClassFile.FieldType.object "GoblinHousehold$Contract"))) ∈ lw_all := lw_g (lw_at lw_m6 180 rfl) rfl
theorem q1496 : (Jvm.Cond.instanceMethod ({ cls := "GoblinHousehold$Done", name := "equals", desc := "(Ljava/lang/Object;)Z" } : Jvm.MethodName)) ∈ lw_all := lw_g (lw_at lw_m6 203 rfl) rfl
theorem q1497 : (Jvm.Cond.code ({ cls := "GoblinHousehold$Done", name := "equals", desc := "(Ljava/lang/Object;)Z" } : Jvm.MethodName) prog_14_method_4_code (2 : Nat) (Option.some Jvm.ClassFile.FieldType.boolean)) ∈ lw_all := lw_g (lw_at lw_m6 204 rfl) rfl
theorem q1507 : (Jvm.Cond.selects "GoblinHousehold$Done" ({ cls := "java/lang/Object", name := "equals", desc := "(Ljava/lang/Object;)Z" } : Jvm.MethodName) ({ cls := "GoblinHousehold$Done", name := "equals", desc := "(Ljava/lang/Object;)Z" } : Jvm.MethodName)) ∈ lw_all := lw_g (lw_at lw_m6 214 rfl) rfl
theorem q1667 : (Jvm.Cond.instantiable "GoblinHousehold$Done" (1 : Nat)) ∈ lw_all := lw_g (lw_at lw_m7 134 rfl) rfl
theorem q1669 : (Jvm.Cond.instanceMethod ({ cls := "GoblinHousehold$Done", name := "<init>", desc := "(LGoblinHousehold$Contract;)V" } : Jvm.MethodName)) ∈ lw_all := lw_g (lw_at lw_m7 136 rfl) rfl
theorem q1670 : (Jvm.Cond.code ({ cls := "GoblinHousehold$Done", name := "<init>", desc := "(LGoblinHousehold$Contract;)V" } : Jvm.MethodName) prog_14_method_1_code (2 : Nat) (Option.none : Option Jvm.ClassFile.FieldType)) ∈ lw_all := lw_g (lw_at lw_m7 137 rfl) rfl
theorem q1671 : (Jvm.Cond.methodLink "GoblinHousehold$Done" (1 : Nat) ({ cls := "java/lang/Record", name := "<init>", desc := "()V" } : Jvm.MethodName)) ∈ lw_all := lw_g (lw_at lw_m7 138 rfl) rfl
theorem q1672 : (Jvm.Cond.fieldLink "GoblinHousehold$Done" (7 : Nat) "GoblinHousehold$Done" "contract" "LGoblinHousehold$Contract;") ∈ lw_all := lw_g (lw_at lw_m7 139 rfl) rfl
theorem q1673 : (Jvm.Cond.laysFinal "GoblinHousehold$Done" "GoblinHousehold$Done" "contract" "LGoblinHousehold$Contract;") ∈ lw_all := lw_g (lw_at lw_m7 140 rfl) rfl
theorem q1674 : (Jvm.Cond.soleField "GoblinHousehold$Done" "contract") ∈ lw_all := lw_g (lw_at lw_m7 141 rfl) rfl
theorem q1675 : (Jvm.Cond.superclass "GoblinHousehold$Done" "java/lang/Record") ∈ lw_all := lw_g (lw_at lw_m7 142 rfl) rfl
theorem q3032 : (Jvm.Cond.castable "GoblinHousehold$Done" "java/lang/Object") ∈ lw_tbl := lw_at lw_m13 59 rfl
theorem in_X12 : ∀ w ∈ wsX120, w ∈ lw_all := lw_in wsX120 [1673] (by decide +kernel) (by decide +kernel)
/-! GoblinHousehold$Broken -/
set_option maxRecDepth 100000
def RX13 : String := "GoblinHousehold$Broken"
def TX13 : u_T := fun k => match k with
  | _ => ("GoblinHousehold$Broken", "contract", "LGoblinHousehold$Contract;", true)
def tyX13 : Nat → FieldType := fun k => match k with
  | _ => .object "GoblinHousehold$Contract"
abbrev wsX130 : List Cond := u_ws RX13 TX13 1
theorem nmX13 : ∀ a, a < 1 → ∀ b, b < 1 → a ≠ b → (TX13 a).2.1 ≠ (TX13 b).2.1 := by decide +kernel
theorem tyX13_ok : ∀ k, k < 1 → parseFieldDescriptor (TX13 k).2.2.1 = some (tyX13 k) := by decide +kernel
abbrev cX13_contract : ByteArray := prog_3_method_5_code
def yX13_contract : MethodName := ⟨RX13, "contract", "()LGoblinHousehold$Contract;"⟩
theorem dX13_contract_0 : decode cX13_contract 0 = .ok (.aload_n 0, 1) := by decide +kernel
theorem dX13_contract_1 : decode cX13_contract 1 = .ok (.getfield 7, 3) := by decide +kernel
theorem dX13_contract_4 : decode cX13_contract 4 = .ok (.areturn, 1) := by decide +kernel
abbrev cX13_equals : ByteArray := prog_3_method_4_code
def yX13_equals : MethodName := ⟨RX13, "equals", "(Ljava/lang/Object;)Z"⟩
def dkwX13_equals_0 : List UInt8 := [42, 43, 186, 0, 21, 0, 0, 172]
abbrev dktX13_equals_0 : List UInt8 := dkwX13_equals_0 ++ []
theorem dksX13_equals_0 : cX13_equals.data.toList.drop 0 = dktX13_equals_0 := by decide +kernel
theorem dX13_equals_0 : decode cX13_equals 0 = .ok (.aload_n 0, 1) := dk_42 (dk_at dksX13_equals_0 0 rfl rfl)
theorem dX13_equals_1 : decode cX13_equals 1 = .ok (.aload_n 1, 1) := dk_43 (dk_at dksX13_equals_0 1 rfl rfl)
theorem dX13_equals_2 : decode cX13_equals 2 = .ok (.invokedynamic 21, 5) := by decide +kernel
theorem dX13_equals_7 : decode cX13_equals 7 = .ok (.ireturn, 1) := dk_172 (dk_at dksX13_equals_0 7 rfl rfl)
abbrev cX13_init : ByteArray := prog_3_method_1_code
def yX13_init : MethodName := ⟨RX13, "<init>", "(LGoblinHousehold$Contract;)V"⟩
def dkwX13_init_0 : List UInt8 := [42, 183, 0, 1, 42, 43, 181, 0, 7, 177]
abbrev dktX13_init_0 : List UInt8 := dkwX13_init_0 ++ []
theorem dksX13_init_0 : cX13_init.data.toList.drop 0 = dktX13_init_0 := by decide +kernel
theorem dX13_init_0 : decode cX13_init 0 = .ok (.aload_n 0, 1) := dk_42 (dk_at dksX13_init_0 0 rfl rfl)
theorem dX13_init_1 : decode cX13_init 1 = .ok (.invokespecial 1, 3) := dk_183 0 1 (dk_at dksX13_init_0 1 rfl rfl)
theorem dX13_init_4 : decode cX13_init 4 = .ok (.aload_n 0, 1) := dk_42 (dk_at dksX13_init_0 4 rfl rfl)
theorem dX13_init_5 : decode cX13_init 5 = .ok (.aload_n 1, 1) := dk_43 (dk_at dksX13_init_0 5 rfl rfl)
theorem dX13_init_6 : decode cX13_init 6 = .ok (.putfield 7, 3) := dk_181 0 7 (dk_at dksX13_init_0 6 rfl rfl)
theorem dX13_init_9 : decode cX13_init 9 = .ok (.return_, 1) := dk_177 (dk_at dksX13_init_0 9 rfl rfl)
theorem q137 : (Jvm.Cond.initialized "GoblinHousehold$Broken") ∈ lw_all := lw_g (lw_at lw_m1 44 rfl) rfl
theorem q982 : (Jvm.Cond.selects "GoblinHousehold$Broken" ({ cls := "java/lang/Object", name := "getClass", desc := "()Ljava/lang/Class;" } : Jvm.MethodName) ({ cls := "java/lang/Object", name := "getClass", desc := "()Ljava/lang/Class;" } : Jvm.MethodName)) ∈ lw_all := lw_g (lw_at lw_m4 169 rfl) rfl
theorem q1456 : (Jvm.Cond.castable "GoblinHousehold$Broken" "GoblinHousehold$Ending") ∈ lw_tbl := lw_at lw_m6 163 rfl
theorem q1457 : (Jvm.Cond.selects "GoblinHousehold$Broken" ({ cls := "GoblinHousehold$Ending", name := "contract", desc := "()LGoblinHousehold$Contract;" } : Jvm.MethodName) ({ cls := "GoblinHousehold$Broken", name := "contract", desc := "()LGoblinHousehold$Contract;" } : Jvm.MethodName)) ∈ lw_all := lw_g (lw_at lw_m6 164 rfl) rfl
theorem q1458 : (Jvm.Cond.unhidden "GoblinHousehold$Broken" "contract" "()LGoblinHousehold$Contract;") ∈ lw_tbl := lw_at lw_m6 165 rfl
theorem q1459 : (Jvm.Cond.instanceMethod ({ cls := "GoblinHousehold$Broken", name := "contract", desc := "()LGoblinHousehold$Contract;" } : Jvm.MethodName)) ∈ lw_all := lw_g (lw_at lw_m6 166 rfl) rfl
theorem q1460 : (Jvm.Cond.publicMethod ({ cls := "GoblinHousehold$Broken", name := "contract", desc := "()LGoblinHousehold$Contract;" } : Jvm.MethodName)) ∈ lw_tbl := lw_at lw_m6 167 rfl
theorem q1461 : (Jvm.Cond.code ({ cls := "GoblinHousehold$Broken", name := "contract", desc := "()LGoblinHousehold$Contract;" } : Jvm.MethodName) prog_3_method_5_code (1 : Nat) (Option.some (Jvm.ClassFile.FieldType.object "GoblinHousehold$Contract"))) ∈ lw_all := lw_g (lw_at lw_m6 168 rfl) rfl
theorem q1488 : (Jvm.Cond.selects "GoblinHousehold$Broken" ({ cls := "java/lang/Object", name := "equals", desc := "(Ljava/lang/Object;)Z" } : Jvm.MethodName) ({ cls := "GoblinHousehold$Broken", name := "equals", desc := "(Ljava/lang/Object;)Z" } : Jvm.MethodName)) ∈ lw_all := lw_g (lw_at lw_m6 195 rfl) rfl
theorem q1489 : (Jvm.Cond.instanceMethod ({ cls := "GoblinHousehold$Broken", name := "equals", desc := "(Ljava/lang/Object;)Z" } : Jvm.MethodName)) ∈ lw_all := lw_g (lw_at lw_m6 196 rfl) rfl
theorem q1490 : (Jvm.Cond.code ({ cls := "GoblinHousehold$Broken", name := "equals", desc := "(Ljava/lang/Object;)Z" } : Jvm.MethodName) prog_3_method_4_code (2 : Nat) (Option.some Jvm.ClassFile.FieldType.boolean)) ∈ lw_all := lw_g (lw_at lw_m6 197 rfl) rfl
theorem q1691 : (Jvm.Cond.instantiable "GoblinHousehold$Broken" (1 : Nat)) ∈ lw_all := lw_g (lw_at lw_m7 158 rfl) rfl
theorem q1693 : (Jvm.Cond.instanceMethod ({ cls := "GoblinHousehold$Broken", name := "<init>", desc := "(LGoblinHousehold$Contract;)V" } : Jvm.MethodName)) ∈ lw_all := lw_g (lw_at lw_m7 160 rfl) rfl
theorem q1694 : (Jvm.Cond.code ({ cls := "GoblinHousehold$Broken", name := "<init>", desc := "(LGoblinHousehold$Contract;)V" } : Jvm.MethodName) prog_3_method_1_code (2 : Nat) (Option.none : Option Jvm.ClassFile.FieldType)) ∈ lw_all := lw_g (lw_at lw_m7 161 rfl) rfl
theorem q1695 : (Jvm.Cond.methodLink "GoblinHousehold$Broken" (1 : Nat) ({ cls := "java/lang/Record", name := "<init>", desc := "()V" } : Jvm.MethodName)) ∈ lw_all := lw_g (lw_at lw_m7 162 rfl) rfl
theorem q1696 : (Jvm.Cond.fieldLink "GoblinHousehold$Broken" (7 : Nat) "GoblinHousehold$Broken" "contract" "LGoblinHousehold$Contract;") ∈ lw_all := lw_g (lw_at lw_m7 163 rfl) rfl
theorem q1697 : (Jvm.Cond.laysFinal "GoblinHousehold$Broken" "GoblinHousehold$Broken" "contract" "LGoblinHousehold$Contract;") ∈ lw_all := lw_g (lw_at lw_m7 164 rfl) rfl
theorem q1698 : (Jvm.Cond.soleField "GoblinHousehold$Broken" "contract") ∈ lw_all := lw_g (lw_at lw_m7 165 rfl) rfl
theorem q1699 : (Jvm.Cond.superclass "GoblinHousehold$Broken" "java/lang/Record") ∈ lw_all := lw_g (lw_at lw_m7 166 rfl) rfl
theorem q3033 : (Jvm.Cond.castable "GoblinHousehold$Broken" "java/lang/Object") ∈ lw_tbl := lw_at lw_m13 60 rfl
theorem in_X13 : ∀ w ∈ wsX130, w ∈ lw_all := lw_in wsX130 [1697] (by decide +kernel) (by decide +kernel)
/-! GoblinHousehold$Chain -/
set_option maxRecDepth 100000
def RX14 : String := "GoblinHousehold$Chain"
def TX14 : u_T := fun k => match k with
  | 0 => ("GoblinHousehold$Chain", "contract", "LGoblinHousehold$Contract;", true)
  | _ => ("GoblinHousehold$Chain", "rest", "LGoblinHousehold$Chain;", true)
def tyX14 : Nat → FieldType := fun k => match k with
  | 0 => .object "GoblinHousehold$Contract"
  | _ => .object "GoblinHousehold$Chain"
abbrev wsX140 : List Cond := u_ws RX14 TX14 2
theorem nmX14 : ∀ a, a < 2 → ∀ b, b < 2 → a ≠ b → (TX14 a).2.1 ≠ (TX14 b).2.1 := by decide +kernel
theorem tyX14_ok : ∀ k, k < 2 → parseFieldDescriptor (TX14 k).2.2.1 = some (tyX14 k) := by decide +kernel
abbrev cX14_init : ByteArray := prog_6_method_1_code
def yX14_init : MethodName := ⟨RX14, "<init>", "(LGoblinHousehold$Contract;LGoblinHousehold$Chain;)V"⟩
def dkwX14_init_0 : List UInt8 := [42, 183, 0, 1, 42, 43, 181, 0, 7, 42, 44, 181, 0, 13, 177]
abbrev dktX14_init_0 : List UInt8 := dkwX14_init_0 ++ []
theorem dksX14_init_0 : cX14_init.data.toList.drop 0 = dktX14_init_0 := by decide +kernel
theorem dX14_init_0 : decode cX14_init 0 = .ok (.aload_n 0, 1) := dk_42 (dk_at dksX14_init_0 0 rfl rfl)
theorem dX14_init_1 : decode cX14_init 1 = .ok (.invokespecial 1, 3) := dk_183 0 1 (dk_at dksX14_init_0 1 rfl rfl)
theorem dX14_init_4 : decode cX14_init 4 = .ok (.aload_n 0, 1) := dk_42 (dk_at dksX14_init_0 4 rfl rfl)
theorem dX14_init_5 : decode cX14_init 5 = .ok (.aload_n 1, 1) := dk_43 (dk_at dksX14_init_0 5 rfl rfl)
theorem dX14_init_6 : decode cX14_init 6 = .ok (.putfield 7, 3) := dk_181 0 7 (dk_at dksX14_init_0 6 rfl rfl)
theorem dX14_init_9 : decode cX14_init 9 = .ok (.aload_n 0, 1) := dk_42 (dk_at dksX14_init_0 9 rfl rfl)
theorem dX14_init_10 : decode cX14_init 10 = .ok (.aload_n 2, 1) := dk_44 (dk_at dksX14_init_0 10 rfl rfl)
theorem dX14_init_11 : decode cX14_init 11 = .ok (.putfield 13, 3) := dk_181 0 13 (dk_at dksX14_init_0 11 rfl rfl)
theorem dX14_init_14 : decode cX14_init 14 = .ok (.return_, 1) := dk_177 (dk_at dksX14_init_0 14 rfl rfl)
abbrev cX14_best : ByteArray := prog_6_method_2_code
def yX14_best : MethodName := ⟨RX14, "best", "(LGoblinHousehold$Chain;I)I"⟩
def dkwX14_best_0 : List UInt8 := [42, 199, 0, 7, 3, 167, 0, 8, 42, 27, 182, 0, 17, 172]
abbrev dktX14_best_0 : List UInt8 := dkwX14_best_0 ++ []
theorem dksX14_best_0 : cX14_best.data.toList.drop 0 = dktX14_best_0 := by decide +kernel
theorem dX14_best_0 : decode cX14_best 0 = .ok (.aload_n 0, 1) := dk_42 (dk_at dksX14_best_0 0 rfl rfl)
theorem dX14_best_1 : decode cX14_best 1 = .ok (.ifnonnull 7, 3) := dk_199 0 7 (dk_at dksX14_best_0 1 rfl rfl)
theorem dX14_best_4 : decode cX14_best 4 = .ok (.iconst 0, 1) := dk_3 (dk_at dksX14_best_0 4 rfl rfl)
theorem dX14_best_5 : decode cX14_best 5 = .ok (.goto 8, 3) := dk_167 0 8 (dk_at dksX14_best_0 5 rfl rfl)
theorem dX14_best_8 : decode cX14_best 8 = .ok (.aload_n 0, 1) := dk_42 (dk_at dksX14_best_0 8 rfl rfl)
theorem dX14_best_9 : decode cX14_best 9 = .ok (.iload_n 1, 1) := dk_27 (dk_at dksX14_best_0 9 rfl rfl)
theorem dX14_best_10 : decode cX14_best 10 = .ok (.invokevirtual 17, 3) := dk_182 0 17 (dk_at dksX14_best_0 10 rfl rfl)
theorem dX14_best_13 : decode cX14_best 13 = .ok (.ireturn, 1) := dk_172 (dk_at dksX14_best_0 13 rfl rfl)
abbrev cX14_best_2 : ByteArray := prog_6_method_3_code
def yX14_best_2 : MethodName := ⟨RX14, "best", "(I)I"⟩
def dkwX14_best_2_2 : List UInt8 := [180, 0, 24, 100, 184, 0, 21, 96, 184, 0, 33, 167, 0, 4, 28, 172]
abbrev dktX14_best_2_2 : List UInt8 := dkwX14_best_2_2 ++ []
def dkwX14_best_2_1 : List UInt8 := [3, 62, 29, 153, 0, 34, 28, 42, 180, 0, 7, 180, 0, 30, 42, 180, 0, 13, 27, 42, 180, 0, 7]
abbrev dktX14_best_2_1 : List UInt8 := dkwX14_best_2_1 ++ dktX14_best_2_2
def dkwX14_best_2_0 : List UInt8 := [42, 180, 0, 13, 27, 184, 0, 21, 61, 42, 180, 0, 7, 180, 0, 24, 27, 163, 0, 7, 4, 167, 0, 4]
abbrev dktX14_best_2_0 : List UInt8 := dkwX14_best_2_0 ++ dktX14_best_2_1
theorem dksX14_best_2_0 : cX14_best_2.data.toList.drop 0 = dktX14_best_2_0 := by decide +kernel
theorem dksX14_best_2_1 : cX14_best_2.data.toList.drop 24 = dktX14_best_2_1 := dk_seg dksX14_best_2_0 24 rfl rfl
theorem dksX14_best_2_2 : cX14_best_2.data.toList.drop 47 = dktX14_best_2_2 := dk_seg dksX14_best_2_1 23 rfl rfl
theorem dX14_best_2_0 : decode cX14_best_2 0 = .ok (.aload_n 0, 1) := dk_42 (dk_at dksX14_best_2_0 0 rfl rfl)
theorem dX14_best_2_1 : decode cX14_best_2 1 = .ok (.getfield 13, 3) := dk_180 0 13 (dk_at dksX14_best_2_0 1 rfl rfl)
theorem dX14_best_2_4 : decode cX14_best_2 4 = .ok (.iload_n 1, 1) := dk_27 (dk_at dksX14_best_2_0 4 rfl rfl)
theorem dX14_best_2_5 : decode cX14_best_2 5 = .ok (.invokestatic 21, 3) := dk_184 0 21 (dk_at dksX14_best_2_0 5 rfl rfl)
theorem dX14_best_2_8 : decode cX14_best_2 8 = .ok (.istore_n 2, 1) := dk_61 (dk_at dksX14_best_2_0 8 rfl rfl)
theorem dX14_best_2_9 : decode cX14_best_2 9 = .ok (.aload_n 0, 1) := dk_42 (dk_at dksX14_best_2_0 9 rfl rfl)
theorem dX14_best_2_10 : decode cX14_best_2 10 = .ok (.getfield 7, 3) := dk_180 0 7 (dk_at dksX14_best_2_0 10 rfl rfl)
theorem dX14_best_2_13 : decode cX14_best_2 13 = .ok (.getfield 24, 3) := dk_180 0 24 (dk_at dksX14_best_2_0 13 rfl rfl)
theorem dX14_best_2_16 : decode cX14_best_2 16 = .ok (.iload_n 1, 1) := dk_27 (dk_at dksX14_best_2_0 16 rfl rfl)
theorem dX14_best_2_17 : decode cX14_best_2 17 = .ok (.if_icmp .gt 7, 3) := dk_163 0 7 (dk_at dksX14_best_2_0 17 rfl rfl)
theorem dX14_best_2_20 : decode cX14_best_2 20 = .ok (.iconst 1, 1) := dk_4 (dk_at dksX14_best_2_0 20 rfl rfl)
theorem dX14_best_2_21 : decode cX14_best_2 21 = .ok (.goto 4, 3) := dk_167 0 4 (dk_at dksX14_best_2_0 21 rfl rfl)
theorem dX14_best_2_24 : decode cX14_best_2 24 = .ok (.iconst 0, 1) := dk_3 (dk_at dksX14_best_2_1 0 rfl rfl)
theorem dX14_best_2_25 : decode cX14_best_2 25 = .ok (.istore_n 3, 1) := dk_62 (dk_at dksX14_best_2_1 1 rfl rfl)
theorem dX14_best_2_26 : decode cX14_best_2 26 = .ok (.iload_n 3, 1) := dk_29 (dk_at dksX14_best_2_1 2 rfl rfl)
theorem dX14_best_2_27 : decode cX14_best_2 27 = .ok (.ifCond .eq 34, 3) := dk_153 0 34 (dk_at dksX14_best_2_1 3 rfl rfl)
theorem dX14_best_2_30 : decode cX14_best_2 30 = .ok (.iload_n 2, 1) := dk_28 (dk_at dksX14_best_2_1 6 rfl rfl)
theorem dX14_best_2_31 : decode cX14_best_2 31 = .ok (.aload_n 0, 1) := dk_42 (dk_at dksX14_best_2_1 7 rfl rfl)
theorem dX14_best_2_32 : decode cX14_best_2 32 = .ok (.getfield 7, 3) := dk_180 0 7 (dk_at dksX14_best_2_1 8 rfl rfl)
theorem dX14_best_2_35 : decode cX14_best_2 35 = .ok (.getfield 30, 3) := dk_180 0 30 (dk_at dksX14_best_2_1 11 rfl rfl)
theorem dX14_best_2_38 : decode cX14_best_2 38 = .ok (.aload_n 0, 1) := dk_42 (dk_at dksX14_best_2_1 14 rfl rfl)
theorem dX14_best_2_39 : decode cX14_best_2 39 = .ok (.getfield 13, 3) := dk_180 0 13 (dk_at dksX14_best_2_1 15 rfl rfl)
theorem dX14_best_2_42 : decode cX14_best_2 42 = .ok (.iload_n 1, 1) := dk_27 (dk_at dksX14_best_2_1 18 rfl rfl)
theorem dX14_best_2_43 : decode cX14_best_2 43 = .ok (.aload_n 0, 1) := dk_42 (dk_at dksX14_best_2_1 19 rfl rfl)
theorem dX14_best_2_44 : decode cX14_best_2 44 = .ok (.getfield 7, 3) := dk_180 0 7 (dk_at dksX14_best_2_1 20 rfl rfl)
theorem dX14_best_2_47 : decode cX14_best_2 47 = .ok (.getfield 24, 3) := dk_180 0 24 (dk_at dksX14_best_2_2 0 rfl rfl)
theorem dX14_best_2_50 : decode cX14_best_2 50 = .ok (.isub, 1) := dk_100 (dk_at dksX14_best_2_2 3 rfl rfl)
theorem dX14_best_2_51 : decode cX14_best_2 51 = .ok (.invokestatic 21, 3) := dk_184 0 21 (dk_at dksX14_best_2_2 4 rfl rfl)
theorem dX14_best_2_54 : decode cX14_best_2 54 = .ok (.iadd, 1) := dk_96 (dk_at dksX14_best_2_2 7 rfl rfl)
theorem dX14_best_2_55 : decode cX14_best_2 55 = .ok (.invokestatic 33, 3) := dk_184 0 33 (dk_at dksX14_best_2_2 8 rfl rfl)
theorem dX14_best_2_58 : decode cX14_best_2 58 = .ok (.goto 4, 3) := dk_167 0 4 (dk_at dksX14_best_2_2 11 rfl rfl)
theorem dX14_best_2_61 : decode cX14_best_2 61 = .ok (.iload_n 2, 1) := dk_28 (dk_at dksX14_best_2_2 14 rfl rfl)
theorem dX14_best_2_62 : decode cX14_best_2 62 = .ok (.ireturn, 1) := dk_172 (dk_at dksX14_best_2_2 15 rfl rfl)
theorem q138 : (Jvm.Cond.initialized "GoblinHousehold$Chain") ∈ lw_all := lw_g (lw_at lw_m1 45 rfl) rfl
theorem q766 : (Jvm.Cond.instantiable "GoblinHousehold$Chain" (2 : Nat)) ∈ lw_all := lw_g (lw_at lw_m3 193 rfl) rfl
theorem q768 : (Jvm.Cond.instanceMethod ({ cls := "GoblinHousehold$Chain", name := "<init>", desc := "(LGoblinHousehold$Contract;LGoblinHousehold$Chain;)V" } : Jvm.MethodName)) ∈ lw_all := lw_g (lw_at lw_m3 195 rfl) rfl
theorem q769 : (Jvm.Cond.code ({ cls := "GoblinHousehold$Chain", name := "<init>", desc := "(LGoblinHousehold$Contract;LGoblinHousehold$Chain;)V" } : Jvm.MethodName) prog_6_method_1_code (3 : Nat) (Option.none : Option Jvm.ClassFile.FieldType)) ∈ lw_all := lw_g (lw_at lw_m3 196 rfl) rfl
theorem q770 : (Jvm.Cond.methodLink "GoblinHousehold$Chain" (1 : Nat) ({ cls := "java/lang/Object", name := "<init>", desc := "()V" } : Jvm.MethodName)) ∈ lw_all := lw_g (lw_at lw_m3 197 rfl) rfl
theorem q771 : (Jvm.Cond.fieldLink "GoblinHousehold$Chain" (7 : Nat) "GoblinHousehold$Chain" "contract" "LGoblinHousehold$Contract;") ∈ lw_all := lw_g (lw_at lw_m3 198 rfl) rfl
theorem q772 : (Jvm.Cond.fieldLink "GoblinHousehold$Chain" (13 : Nat) "GoblinHousehold$Chain" "rest" "LGoblinHousehold$Chain;") ∈ lw_all := lw_g (lw_at lw_m3 199 rfl) rfl
theorem q773 : (Jvm.Cond.laysFinal "GoblinHousehold$Chain" "GoblinHousehold$Chain" "contract" "LGoblinHousehold$Contract;") ∈ lw_all := lw_g (lw_at lw_m3 200 rfl) rfl
theorem q774 : (Jvm.Cond.soleField "GoblinHousehold$Chain" "contract") ∈ lw_all := lw_g (lw_at lw_m3 201 rfl) rfl
theorem q775 : (Jvm.Cond.laysFinal "GoblinHousehold$Chain" "GoblinHousehold$Chain" "rest" "LGoblinHousehold$Chain;") ∈ lw_all := lw_g (lw_at lw_m3 202 rfl) rfl
theorem q776 : (Jvm.Cond.soleField "GoblinHousehold$Chain" "rest") ∈ lw_all := lw_g (lw_at lw_m3 203 rfl) rfl
theorem q777 : (Jvm.Cond.superclass "GoblinHousehold$Chain" "java/lang/Object") ∈ lw_all := lw_g (lw_at lw_m3 204 rfl) rfl
theorem q794 : (Jvm.Cond.static ({ cls := "GoblinHousehold$Chain", name := "best", desc := "(LGoblinHousehold$Chain;I)I" } : Jvm.MethodName)) ∈ lw_all := lw_g (lw_at lw_m3 221 rfl) rfl
theorem q795 : (Jvm.Cond.code ({ cls := "GoblinHousehold$Chain", name := "best", desc := "(LGoblinHousehold$Chain;I)I" } : Jvm.MethodName) prog_6_method_2_code (2 : Nat) (Option.some Jvm.ClassFile.FieldType.int)) ∈ lw_all := lw_g (lw_at lw_m3 222 rfl) rfl
theorem q796 : (Jvm.Cond.methodLink "GoblinHousehold$Chain" (17 : Nat) ({ cls := "GoblinHousehold$Chain", name := "best", desc := "(I)I" } : Jvm.MethodName)) ∈ lw_all := lw_g (lw_at lw_m3 223 rfl) rfl
theorem q797 : (Jvm.Cond.instanceMethod ({ cls := "GoblinHousehold$Chain", name := "best", desc := "(I)I" } : Jvm.MethodName)) ∈ lw_all := lw_g (lw_at lw_m3 224 rfl) rfl
theorem q798 : (Jvm.Cond.selects "GoblinHousehold$Chain" ({ cls := "GoblinHousehold$Chain", name := "best", desc := "(I)I" } : Jvm.MethodName) ({ cls := "GoblinHousehold$Chain", name := "best", desc := "(I)I" } : Jvm.MethodName)) ∈ lw_all := lw_g (lw_at lw_m3 225 rfl) rfl
theorem q799 : (Jvm.Cond.code ({ cls := "GoblinHousehold$Chain", name := "best", desc := "(I)I" } : Jvm.MethodName) prog_6_method_3_code (4 : Nat) (Option.some Jvm.ClassFile.FieldType.int)) ∈ lw_all := lw_g (lw_at lw_m3 226 rfl) rfl
theorem q800 : (Jvm.Cond.methodLink "GoblinHousehold$Chain" (21 : Nat) ({ cls := "GoblinHousehold$Chain", name := "best", desc := "(LGoblinHousehold$Chain;I)I" } : Jvm.MethodName)) ∈ lw_all := lw_g (lw_at lw_m3 227 rfl) rfl
theorem q801 : (Jvm.Cond.methodLink "GoblinHousehold$Chain" (33 : Nat) ({ cls := "java/lang/Math", name := "max", desc := "(II)I" } : Jvm.MethodName)) ∈ lw_all := lw_g (lw_at lw_m3 228 rfl) rfl
theorem q985 : (Jvm.Cond.selects "GoblinHousehold$Chain" ({ cls := "java/lang/Object", name := "getClass", desc := "()Ljava/lang/Class;" } : Jvm.MethodName) ({ cls := "java/lang/Object", name := "getClass", desc := "()Ljava/lang/Class;" } : Jvm.MethodName)) ∈ lw_all := lw_g (lw_at lw_m4 172 rfl) rfl
theorem q1397 : (Jvm.Cond.fieldLinkNest "GoblinHousehold$Chain" (30 : Nat) "GoblinHousehold$Contract" "wage" "I" "GoblinHousehold") ∈ lw_tbl := lw_at lw_m6 104 rfl
theorem q1401 : (Jvm.Cond.fieldLinkNest "GoblinHousehold$Chain" (24 : Nat) "GoblinHousehold$Contract" "effort" "I" "GoblinHousehold") ∈ lw_tbl := lw_at lw_m6 108 rfl
theorem q1502 : (Jvm.Cond.selects "GoblinHousehold$Chain" ({ cls := "java/lang/Object", name := "equals", desc := "(Ljava/lang/Object;)Z" } : Jvm.MethodName) ({ cls := "java/lang/Object", name := "equals", desc := "(Ljava/lang/Object;)Z" } : Jvm.MethodName)) ∈ lw_all := lw_g (lw_at lw_m6 209 rfl) rfl
theorem q2117 : (Jvm.Cond.selects "GoblinHousehold$Chain" ({ cls := "java/lang/Object", name := "toString", desc := "()Ljava/lang/String;" } : Jvm.MethodName) ({ cls := "java/lang/Object", name := "toString", desc := "()Ljava/lang/String;" } : Jvm.MethodName)) ∈ lw_all := lw_g (lw_at lw_m9 104 rfl) rfl
theorem q3034 : (Jvm.Cond.castable "GoblinHousehold$Chain" "java/lang/Object") ∈ lw_tbl := lw_at lw_m13 61 rfl
theorem in_X14 : ∀ w ∈ wsX140, w ∈ lw_all := lw_in wsX140 [773, 775] (by decide +kernel) (by decide +kernel)
/-! GoblinHousehold$Parser -/
set_option maxRecDepth 100000
def RX15 : String := "GoblinHousehold$Parser"
def TX15 : u_T := fun k => match k with
  | 0 => ("GoblinHousehold$Parser", "text", "Ljava/lang/String;", true)
  | _ => ("GoblinHousehold$Parser", "at", "I", false)
def tyX15 : Nat → FieldType := fun k => match k with
  | 0 => .object "java/lang/String"
  | _ => .int
abbrev wsX150 : List Cond := u_ws RX15 TX15 2
theorem nmX15 : ∀ a, a < 2 → ∀ b, b < 2 → a ≠ b → (TX15 a).2.1 ≠ (TX15 b).2.1 := by decide +kernel
theorem tyX15_ok : ∀ k, k < 2 → parseFieldDescriptor (TX15 k).2.2.1 = some (tyX15 k) := by decide +kernel
abbrev cX15_init : ByteArray := prog_19_method_1_code
def yX15_init : MethodName := ⟨RX15, "<init>", "(Ljava/lang/String;)V"⟩
def dkwX15_init_0 : List UInt8 := [42, 183, 0, 1, 42, 43, 181, 0, 7, 177]
abbrev dktX15_init_0 : List UInt8 := dkwX15_init_0 ++ []
theorem dksX15_init_0 : cX15_init.data.toList.drop 0 = dktX15_init_0 := by decide +kernel
theorem dX15_init_0 : decode cX15_init 0 = .ok (.aload_n 0, 1) := dk_42 (dk_at dksX15_init_0 0 rfl rfl)
theorem dX15_init_1 : decode cX15_init 1 = .ok (.invokespecial 1, 3) := dk_183 0 1 (dk_at dksX15_init_0 1 rfl rfl)
theorem dX15_init_4 : decode cX15_init 4 = .ok (.aload_n 0, 1) := dk_42 (dk_at dksX15_init_0 4 rfl rfl)
theorem dX15_init_5 : decode cX15_init 5 = .ok (.aload_n 1, 1) := dk_43 (dk_at dksX15_init_0 5 rfl rfl)
theorem dX15_init_6 : decode cX15_init 6 = .ok (.putfield 7, 3) := dk_181 0 7 (dk_at dksX15_init_0 6 rfl rfl)
theorem dX15_init_9 : decode cX15_init 9 = .ok (.return_, 1) := dk_177 (dk_at dksX15_init_0 9 rfl rfl)
abbrev cX15_commands : ByteArray := prog_19_method_13_code
def yX15_commands : MethodName := ⟨RX15, "commands", "()Ljava/util/List;"⟩
def dkwX15_commands_3 : List UInt8 := [43, 176]
abbrev dktX15_commands_3 : List UInt8 := dkwX15_commands_3 ++ []
def dkwX15_commands_2 : List UInt8 := [182, 0, 47, 43, 187, 0, 146, 89, 42, 182, 0, 148, 183, 0, 152, 185, 0, 155, 2, 0, 87, 167, 255, 218]
abbrev dktX15_commands_2 : List UInt8 := dkwX15_commands_2 ++ dktX15_commands_3
def dkwX15_commands_1 : List UInt8 := [185, 0, 155, 2, 0, 87, 42, 180, 0, 13, 42, 180, 0, 7, 182, 0, 17, 162, 0, 30, 42, 16, 59]
abbrev dktX15_commands_1 : List UInt8 := dkwX15_commands_1 ++ dktX15_commands_2
def dkwX15_commands_0 : List UInt8 := [187, 0, 143, 89, 183, 0, 145, 76, 43, 187, 0, 146, 89, 42, 182, 0, 148, 183, 0, 152]
abbrev dktX15_commands_0 : List UInt8 := dkwX15_commands_0 ++ dktX15_commands_1
theorem dksX15_commands_0 : cX15_commands.data.toList.drop 0 = dktX15_commands_0 := by decide +kernel
theorem dksX15_commands_1 : cX15_commands.data.toList.drop 20 = dktX15_commands_1 := dk_seg dksX15_commands_0 20 rfl rfl
theorem dksX15_commands_2 : cX15_commands.data.toList.drop 43 = dktX15_commands_2 := dk_seg dksX15_commands_1 23 rfl rfl
theorem dksX15_commands_3 : cX15_commands.data.toList.drop 67 = dktX15_commands_3 := dk_seg dksX15_commands_2 24 rfl rfl
theorem dX15_commands_0 : decode cX15_commands 0 = .ok (.new 143, 3) := dk_187 0 143 (dk_at dksX15_commands_0 0 rfl rfl)
theorem dX15_commands_3 : decode cX15_commands 3 = .ok (.dup, 1) := dk_89 (dk_at dksX15_commands_0 3 rfl rfl)
theorem dX15_commands_4 : decode cX15_commands 4 = .ok (.invokespecial 145, 3) := dk_183 0 145 (dk_at dksX15_commands_0 4 rfl rfl)
theorem dX15_commands_7 : decode cX15_commands 7 = .ok (.astore_n 1, 1) := dk_76 (dk_at dksX15_commands_0 7 rfl rfl)
theorem dX15_commands_8 : decode cX15_commands 8 = .ok (.aload_n 1, 1) := dk_43 (dk_at dksX15_commands_0 8 rfl rfl)
theorem dX15_commands_9 : decode cX15_commands 9 = .ok (.new 146, 3) := dk_187 0 146 (dk_at dksX15_commands_0 9 rfl rfl)
theorem dX15_commands_12 : decode cX15_commands 12 = .ok (.dup, 1) := dk_89 (dk_at dksX15_commands_0 12 rfl rfl)
theorem dX15_commands_13 : decode cX15_commands 13 = .ok (.aload_n 0, 1) := dk_42 (dk_at dksX15_commands_0 13 rfl rfl)
theorem dX15_commands_14 : decode cX15_commands 14 = .ok (.invokevirtual 148, 3) := dk_182 0 148 (dk_at dksX15_commands_0 14 rfl rfl)
theorem dX15_commands_17 : decode cX15_commands 17 = .ok (.invokespecial 152, 3) := dk_183 0 152 (dk_at dksX15_commands_0 17 rfl rfl)
theorem dX15_commands_20 : decode cX15_commands 20 = .ok (.invokeinterface 155 2, 5) := by decide +kernel
theorem dX15_commands_25 : decode cX15_commands 25 = .ok (.pop, 1) := dk_87 (dk_at dksX15_commands_1 5 rfl rfl)
theorem dX15_commands_26 : decode cX15_commands 26 = .ok (.aload_n 0, 1) := dk_42 (dk_at dksX15_commands_1 6 rfl rfl)
theorem dX15_commands_27 : decode cX15_commands 27 = .ok (.getfield 13, 3) := dk_180 0 13 (dk_at dksX15_commands_1 7 rfl rfl)
theorem dX15_commands_30 : decode cX15_commands 30 = .ok (.aload_n 0, 1) := dk_42 (dk_at dksX15_commands_1 10 rfl rfl)
theorem dX15_commands_31 : decode cX15_commands 31 = .ok (.getfield 7, 3) := dk_180 0 7 (dk_at dksX15_commands_1 11 rfl rfl)
theorem dX15_commands_34 : decode cX15_commands 34 = .ok (.invokevirtual 17, 3) := dk_182 0 17 (dk_at dksX15_commands_1 14 rfl rfl)
theorem dX15_commands_37 : decode cX15_commands 37 = .ok (.if_icmp .ge 30, 3) := dk_162 0 30 (dk_at dksX15_commands_1 17 rfl rfl)
theorem dX15_commands_40 : decode cX15_commands 40 = .ok (.aload_n 0, 1) := dk_42 (dk_at dksX15_commands_1 20 rfl rfl)
theorem dX15_commands_41 : decode cX15_commands 41 = .ok (.bipush 59, 2) := dk_16 59 (dk_at dksX15_commands_1 21 rfl rfl)
theorem dX15_commands_43 : decode cX15_commands 43 = .ok (.invokevirtual 47, 3) := dk_182 0 47 (dk_at dksX15_commands_2 0 rfl rfl)
theorem dX15_commands_46 : decode cX15_commands 46 = .ok (.aload_n 1, 1) := dk_43 (dk_at dksX15_commands_2 3 rfl rfl)
theorem dX15_commands_47 : decode cX15_commands 47 = .ok (.new 146, 3) := dk_187 0 146 (dk_at dksX15_commands_2 4 rfl rfl)
theorem dX15_commands_50 : decode cX15_commands 50 = .ok (.dup, 1) := dk_89 (dk_at dksX15_commands_2 7 rfl rfl)
theorem dX15_commands_51 : decode cX15_commands 51 = .ok (.aload_n 0, 1) := dk_42 (dk_at dksX15_commands_2 8 rfl rfl)
theorem dX15_commands_52 : decode cX15_commands 52 = .ok (.invokevirtual 148, 3) := dk_182 0 148 (dk_at dksX15_commands_2 9 rfl rfl)
theorem dX15_commands_55 : decode cX15_commands 55 = .ok (.invokespecial 152, 3) := dk_183 0 152 (dk_at dksX15_commands_2 12 rfl rfl)
theorem dX15_commands_58 : decode cX15_commands 58 = .ok (.invokeinterface 155 2, 5) := by decide +kernel
theorem dX15_commands_63 : decode cX15_commands 63 = .ok (.pop, 1) := dk_87 (dk_at dksX15_commands_2 20 rfl rfl)
theorem dX15_commands_64 : decode cX15_commands 64 = .ok (.goto (-38), 3) := dk_167 255 218 (dk_at dksX15_commands_2 21 rfl rfl)
theorem dX15_commands_67 : decode cX15_commands 67 = .ok (.aload_n 1, 1) := dk_43 (dk_at dksX15_commands_3 0 rfl rfl)
theorem dX15_commands_68 : decode cX15_commands 68 = .ok (.areturn, 1) := dk_176 (dk_at dksX15_commands_3 1 rfl rfl)
abbrev cX15_change : ByteArray := prog_19_method_12_code
def yX15_change : MethodName := ⟨RX15, "change", "()LGoblinHousehold$Change;"⟩
def dkwX15_change_9 : List UInt8 := [182, 0, 139, 176]
abbrev dktX15_change_9 : List UInt8 := dkwX15_change_9 ++ []
def dkwX15_change_8 : List UInt8 := [160, 0, 10, 42, 182, 0, 82, 167, 0, 4, 4, 54, 10, 21, 10, 186, 0, 138, 0, 0, 176, 42, 43]
abbrev dktX15_change_8 : List UInt8 := dkwX15_change_8 ++ dktX15_change_9
def dkwX15_change_7 : List UInt8 := [54, 8, 42, 182, 0, 82, 54, 9, 21, 8, 21, 9, 186, 0, 135, 0, 0, 176, 42, 182, 0, 32, 16, 32]
abbrev dktX15_change_7 : List UInt8 := dkwX15_change_7 ++ dktX15_change_8
def dkwX15_change_6 : List UInt8 := [42, 182, 0, 51, 54, 7, 21, 4, 21, 5, 21, 6, 21, 7, 186, 0, 132, 0, 0, 176, 42, 182, 0, 85]
abbrev dktX15_change_6 : List UInt8 := dkwX15_change_6 ++ dktX15_change_7
def dkwX15_change_5 : List UInt8 := [42, 182, 0, 85, 54, 4, 42, 182, 0, 85, 54, 5, 42, 182, 0, 82, 54, 6, 42, 16, 47, 182, 0, 47]
abbrev dktX15_change_5 : List UInt8 := dkwX15_change_5 ++ dktX15_change_6
def dkwX15_change_4 : List UInt8 := [170, 0, 0, 0, 0, 0, 0, 121, 0, 0, 0, 0, 0, 0, 0, 2, 0, 0, 0, 28, 0, 0, 0, 72, 0, 0, 0, 94]
abbrev dktX15_change_4 : List UInt8 := dkwX15_change_4 ++ dktX15_change_5
def dkwX15_change_3 : List UInt8 := [62, 167, 0, 14, 44, 18, 130, 182, 0, 93, 153, 0, 5, 5, 62, 29]
abbrev dktX15_change_3 : List UInt8 := dkwX15_change_3 ++ dktX15_change_4
def dkwX15_change_2 : List UInt8 := [44, 18, 126, 182, 0, 93, 153, 0, 33, 3, 62, 167, 0, 28, 44, 18, 128, 182, 0, 93, 153, 0, 19, 4]
abbrev dktX15_change_2 : List UInt8 := dkwX15_change_2 ++ dktX15_change_3
def dkwX15_change_1 : List UInt8 := [171, 0, 0, 0, 0, 0, 74, 0, 0, 0, 3, 0, 48, 222, 244, 0, 0, 0, 35, 0, 50, 160, 239, 0, 0, 0, 49, 6, 63, 100, 24, 0, 0, 0, 63]
abbrev dktX15_change_1 : List UInt8 := dkwX15_change_1 ++ dktX15_change_2
def dkwX15_change_0 : List UInt8 := [42, 182, 0, 123, 76, 43, 77, 2, 62, 44, 182, 0, 88]
abbrev dktX15_change_0 : List UInt8 := dkwX15_change_0 ++ dktX15_change_1
theorem dksX15_change_0 : cX15_change.data.toList.drop 0 = dktX15_change_0 := by decide +kernel
theorem dksX15_change_1 : cX15_change.data.toList.drop 13 = dktX15_change_1 := dk_seg dksX15_change_0 13 rfl rfl
theorem dksX15_change_2 : cX15_change.data.toList.drop 48 = dktX15_change_2 := dk_seg dksX15_change_1 35 rfl rfl
theorem dksX15_change_3 : cX15_change.data.toList.drop 72 = dktX15_change_3 := dk_seg dksX15_change_2 24 rfl rfl
theorem dksX15_change_4 : cX15_change.data.toList.drop 88 = dktX15_change_4 := dk_seg dksX15_change_3 16 rfl rfl
theorem dksX15_change_5 : cX15_change.data.toList.drop 116 = dktX15_change_5 := dk_seg dksX15_change_4 28 rfl rfl
theorem dksX15_change_6 : cX15_change.data.toList.drop 140 = dktX15_change_6 := dk_seg dksX15_change_5 24 rfl rfl
theorem dksX15_change_7 : cX15_change.data.toList.drop 164 = dktX15_change_7 := dk_seg dksX15_change_6 24 rfl rfl
theorem dksX15_change_8 : cX15_change.data.toList.drop 188 = dktX15_change_8 := dk_seg dksX15_change_7 24 rfl rfl
theorem dksX15_change_9 : cX15_change.data.toList.drop 211 = dktX15_change_9 := dk_seg dksX15_change_8 23 rfl rfl
theorem dX15_change_0 : decode cX15_change 0 = .ok (.aload_n 0, 1) := dk_42 (dk_at dksX15_change_0 0 rfl rfl)
theorem dX15_change_1 : decode cX15_change 1 = .ok (.invokevirtual 123, 3) := dk_182 0 123 (dk_at dksX15_change_0 1 rfl rfl)
theorem dX15_change_4 : decode cX15_change 4 = .ok (.astore_n 1, 1) := dk_76 (dk_at dksX15_change_0 4 rfl rfl)
theorem dX15_change_5 : decode cX15_change 5 = .ok (.aload_n 1, 1) := dk_43 (dk_at dksX15_change_0 5 rfl rfl)
theorem dX15_change_6 : decode cX15_change 6 = .ok (.astore_n 2, 1) := dk_77 (dk_at dksX15_change_0 6 rfl rfl)
theorem dX15_change_7 : decode cX15_change 7 = .ok (.iconst (-1), 1) := dk_2 (dk_at dksX15_change_0 7 rfl rfl)
theorem dX15_change_8 : decode cX15_change 8 = .ok (.istore_n 3, 1) := dk_62 (dk_at dksX15_change_0 8 rfl rfl)
theorem dX15_change_9 : decode cX15_change 9 = .ok (.aload_n 2, 1) := dk_44 (dk_at dksX15_change_0 9 rfl rfl)
theorem dX15_change_10 : decode cX15_change 10 = .ok (.invokevirtual 88, 3) := dk_182 0 88 (dk_at dksX15_change_0 10 rfl rfl)
theorem dX15_change_13 : decode cX15_change 13 = .ok (.lookupswitch 74 #[(3202804, 35), (3317999, 49), (104817688, 63)], 35) := by decide +kernel
theorem dX15_change_48 : decode cX15_change 48 = .ok (.aload_n 2, 1) := dk_44 (dk_at dksX15_change_2 0 rfl rfl)
theorem dX15_change_49 : decode cX15_change 49 = .ok (.ldc 126, 2) := dk_18 126 (dk_at dksX15_change_2 1 rfl rfl)
theorem dX15_change_51 : decode cX15_change 51 = .ok (.invokevirtual 93, 3) := dk_182 0 93 (dk_at dksX15_change_2 3 rfl rfl)
theorem dX15_change_54 : decode cX15_change 54 = .ok (.ifCond .eq 33, 3) := dk_153 0 33 (dk_at dksX15_change_2 6 rfl rfl)
theorem dX15_change_57 : decode cX15_change 57 = .ok (.iconst 0, 1) := dk_3 (dk_at dksX15_change_2 9 rfl rfl)
theorem dX15_change_58 : decode cX15_change 58 = .ok (.istore_n 3, 1) := dk_62 (dk_at dksX15_change_2 10 rfl rfl)
theorem dX15_change_59 : decode cX15_change 59 = .ok (.goto 28, 3) := dk_167 0 28 (dk_at dksX15_change_2 11 rfl rfl)
theorem dX15_change_62 : decode cX15_change 62 = .ok (.aload_n 2, 1) := dk_44 (dk_at dksX15_change_2 14 rfl rfl)
theorem dX15_change_63 : decode cX15_change 63 = .ok (.ldc 128, 2) := dk_18 128 (dk_at dksX15_change_2 15 rfl rfl)
theorem dX15_change_65 : decode cX15_change 65 = .ok (.invokevirtual 93, 3) := dk_182 0 93 (dk_at dksX15_change_2 17 rfl rfl)
theorem dX15_change_68 : decode cX15_change 68 = .ok (.ifCond .eq 19, 3) := dk_153 0 19 (dk_at dksX15_change_2 20 rfl rfl)
theorem dX15_change_71 : decode cX15_change 71 = .ok (.iconst 1, 1) := dk_4 (dk_at dksX15_change_2 23 rfl rfl)
theorem dX15_change_72 : decode cX15_change 72 = .ok (.istore_n 3, 1) := dk_62 (dk_at dksX15_change_3 0 rfl rfl)
theorem dX15_change_73 : decode cX15_change 73 = .ok (.goto 14, 3) := dk_167 0 14 (dk_at dksX15_change_3 1 rfl rfl)
theorem dX15_change_76 : decode cX15_change 76 = .ok (.aload_n 2, 1) := dk_44 (dk_at dksX15_change_3 4 rfl rfl)
theorem dX15_change_77 : decode cX15_change 77 = .ok (.ldc 130, 2) := dk_18 130 (dk_at dksX15_change_3 5 rfl rfl)
theorem dX15_change_79 : decode cX15_change 79 = .ok (.invokevirtual 93, 3) := dk_182 0 93 (dk_at dksX15_change_3 7 rfl rfl)
theorem dX15_change_82 : decode cX15_change 82 = .ok (.ifCond .eq 5, 3) := dk_153 0 5 (dk_at dksX15_change_3 10 rfl rfl)
theorem dX15_change_85 : decode cX15_change 85 = .ok (.iconst 2, 1) := dk_5 (dk_at dksX15_change_3 13 rfl rfl)
theorem dX15_change_86 : decode cX15_change 86 = .ok (.istore_n 3, 1) := dk_62 (dk_at dksX15_change_3 14 rfl rfl)
theorem dX15_change_87 : decode cX15_change 87 = .ok (.iload_n 3, 1) := dk_29 (dk_at dksX15_change_3 15 rfl rfl)
theorem dX15_change_88 : decode cX15_change 88 = .ok (.tableswitch 121 0 2 #[28, 72, 94], 28) := by decide +kernel
theorem dX15_change_116 : decode cX15_change 116 = .ok (.aload_n 0, 1) := dk_42 (dk_at dksX15_change_5 0 rfl rfl)
theorem dX15_change_117 : decode cX15_change 117 = .ok (.invokevirtual 85, 3) := dk_182 0 85 (dk_at dksX15_change_5 1 rfl rfl)
theorem dX15_change_120 : decode cX15_change 120 = .ok (.istore 4, 2) := dk_54 4 (dk_at dksX15_change_5 4 rfl rfl)
theorem dX15_change_122 : decode cX15_change 122 = .ok (.aload_n 0, 1) := dk_42 (dk_at dksX15_change_5 6 rfl rfl)
theorem dX15_change_123 : decode cX15_change 123 = .ok (.invokevirtual 85, 3) := dk_182 0 85 (dk_at dksX15_change_5 7 rfl rfl)
theorem dX15_change_126 : decode cX15_change 126 = .ok (.istore 5, 2) := dk_54 5 (dk_at dksX15_change_5 10 rfl rfl)
theorem dX15_change_128 : decode cX15_change 128 = .ok (.aload_n 0, 1) := dk_42 (dk_at dksX15_change_5 12 rfl rfl)
theorem dX15_change_129 : decode cX15_change 129 = .ok (.invokevirtual 82, 3) := dk_182 0 82 (dk_at dksX15_change_5 13 rfl rfl)
theorem dX15_change_132 : decode cX15_change 132 = .ok (.istore 6, 2) := dk_54 6 (dk_at dksX15_change_5 16 rfl rfl)
theorem dX15_change_134 : decode cX15_change 134 = .ok (.aload_n 0, 1) := dk_42 (dk_at dksX15_change_5 18 rfl rfl)
theorem dX15_change_135 : decode cX15_change 135 = .ok (.bipush 47, 2) := dk_16 47 (dk_at dksX15_change_5 19 rfl rfl)
theorem dX15_change_137 : decode cX15_change 137 = .ok (.invokevirtual 47, 3) := dk_182 0 47 (dk_at dksX15_change_5 21 rfl rfl)
theorem dX15_change_140 : decode cX15_change 140 = .ok (.aload_n 0, 1) := dk_42 (dk_at dksX15_change_6 0 rfl rfl)
theorem dX15_change_141 : decode cX15_change 141 = .ok (.invokevirtual 51, 3) := dk_182 0 51 (dk_at dksX15_change_6 1 rfl rfl)
theorem dX15_change_144 : decode cX15_change 144 = .ok (.istore 7, 2) := dk_54 7 (dk_at dksX15_change_6 4 rfl rfl)
theorem dX15_change_146 : decode cX15_change 146 = .ok (.iload 4, 2) := dk_21 4 (dk_at dksX15_change_6 6 rfl rfl)
theorem dX15_change_148 : decode cX15_change 148 = .ok (.iload 5, 2) := dk_21 5 (dk_at dksX15_change_6 8 rfl rfl)
theorem dX15_change_150 : decode cX15_change 150 = .ok (.iload 6, 2) := dk_21 6 (dk_at dksX15_change_6 10 rfl rfl)
theorem dX15_change_152 : decode cX15_change 152 = .ok (.iload 7, 2) := dk_21 7 (dk_at dksX15_change_6 12 rfl rfl)
theorem dX15_change_154 : decode cX15_change 154 = .ok (.invokedynamic 132, 5) := by decide +kernel
theorem dX15_change_159 : decode cX15_change 159 = .ok (.areturn, 1) := dk_176 (dk_at dksX15_change_6 19 rfl rfl)
theorem dX15_change_160 : decode cX15_change 160 = .ok (.aload_n 0, 1) := dk_42 (dk_at dksX15_change_6 20 rfl rfl)
theorem dX15_change_161 : decode cX15_change 161 = .ok (.invokevirtual 85, 3) := dk_182 0 85 (dk_at dksX15_change_6 21 rfl rfl)
theorem dX15_change_164 : decode cX15_change 164 = .ok (.istore 8, 2) := dk_54 8 (dk_at dksX15_change_7 0 rfl rfl)
theorem dX15_change_166 : decode cX15_change 166 = .ok (.aload_n 0, 1) := dk_42 (dk_at dksX15_change_7 2 rfl rfl)
theorem dX15_change_167 : decode cX15_change 167 = .ok (.invokevirtual 82, 3) := dk_182 0 82 (dk_at dksX15_change_7 3 rfl rfl)
theorem dX15_change_170 : decode cX15_change 170 = .ok (.istore 9, 2) := dk_54 9 (dk_at dksX15_change_7 6 rfl rfl)
theorem dX15_change_172 : decode cX15_change 172 = .ok (.iload 8, 2) := dk_21 8 (dk_at dksX15_change_7 8 rfl rfl)
theorem dX15_change_174 : decode cX15_change 174 = .ok (.iload 9, 2) := dk_21 9 (dk_at dksX15_change_7 10 rfl rfl)
theorem dX15_change_176 : decode cX15_change 176 = .ok (.invokedynamic 135, 5) := by decide +kernel
theorem dX15_change_181 : decode cX15_change 181 = .ok (.areturn, 1) := dk_176 (dk_at dksX15_change_7 17 rfl rfl)
theorem dX15_change_182 : decode cX15_change 182 = .ok (.aload_n 0, 1) := dk_42 (dk_at dksX15_change_7 18 rfl rfl)
theorem dX15_change_183 : decode cX15_change 183 = .ok (.invokevirtual 32, 3) := dk_182 0 32 (dk_at dksX15_change_7 19 rfl rfl)
theorem dX15_change_186 : decode cX15_change 186 = .ok (.bipush 32, 2) := dk_16 32 (dk_at dksX15_change_7 22 rfl rfl)
theorem dX15_change_188 : decode cX15_change 188 = .ok (.if_icmp .ne 10, 3) := dk_160 0 10 (dk_at dksX15_change_8 0 rfl rfl)
theorem dX15_change_191 : decode cX15_change 191 = .ok (.aload_n 0, 1) := dk_42 (dk_at dksX15_change_8 3 rfl rfl)
theorem dX15_change_192 : decode cX15_change 192 = .ok (.invokevirtual 82, 3) := dk_182 0 82 (dk_at dksX15_change_8 4 rfl rfl)
theorem dX15_change_195 : decode cX15_change 195 = .ok (.goto 4, 3) := dk_167 0 4 (dk_at dksX15_change_8 7 rfl rfl)
theorem dX15_change_198 : decode cX15_change 198 = .ok (.iconst 1, 1) := dk_4 (dk_at dksX15_change_8 10 rfl rfl)
theorem dX15_change_199 : decode cX15_change 199 = .ok (.istore 10, 2) := dk_54 10 (dk_at dksX15_change_8 11 rfl rfl)
theorem dX15_change_201 : decode cX15_change 201 = .ok (.iload 10, 2) := dk_21 10 (dk_at dksX15_change_8 13 rfl rfl)
theorem dX15_change_203 : decode cX15_change 203 = .ok (.invokedynamic 138, 5) := by decide +kernel
theorem dX15_change_208 : decode cX15_change 208 = .ok (.areturn, 1) := dk_176 (dk_at dksX15_change_8 20 rfl rfl)
theorem dX15_change_209 : decode cX15_change 209 = .ok (.aload_n 0, 1) := dk_42 (dk_at dksX15_change_8 21 rfl rfl)
theorem dX15_change_210 : decode cX15_change 210 = .ok (.aload_n 1, 1) := dk_43 (dk_at dksX15_change_8 22 rfl rfl)
theorem dX15_change_211 : decode cX15_change 211 = .ok (.invokevirtual 139, 3) := dk_182 0 139 (dk_at dksX15_change_9 0 rfl rfl)
theorem dX15_change_214 : decode cX15_change 214 = .ok (.areturn, 1) := dk_176 (dk_at dksX15_change_9 3 rfl rfl)
abbrev cX15_word : ByteArray := prog_19_method_10_code
def yX15_word : MethodName := ⟨RX15, "word", "()Ljava/lang/String;"⟩
def dkwX15_word_5 : List UInt8 := [182, 0, 75, 153, 0, 7, 4, 167, 0, 4, 3, 182, 0, 36, 43, 182, 0, 71, 176]
abbrev dktX15_word_5 : List UInt8 := dkwX15_word_5 ++ []
def dkwX15_word_4 : List UInt8 := [187, 0, 54, 89, 183, 0, 56, 18, 59, 182, 0, 61, 43, 182, 0, 65, 18, 59, 182, 0, 61, 182, 0, 71]
abbrev dktX15_word_4 : List UInt8 := dkwX15_word_4 ++ dktX15_word_5
def dkwX15_word_3 : List UInt8 := [42, 89, 180, 0, 13, 4, 96, 181, 0, 13, 167, 255, 184, 42, 43, 182, 0, 79, 158, 0, 39, 18, 57]
abbrev dktX15_word_3 : List UInt8 := dkwX15_word_3 ++ dktX15_word_4
def dkwX15_word_2 : List UInt8 := [182, 0, 32, 182, 0, 68, 182, 0, 71, 182, 0, 75, 182, 0, 36, 43, 42, 182, 0, 32, 182, 0, 68, 87]
abbrev dktX15_word_2 : List UInt8 := dkwX15_word_2 ++ dktX15_word_3
def dkwX15_word_1 : List UInt8 := [163, 0, 60, 42, 18, 57, 187, 0, 54, 89, 183, 0, 56, 18, 59, 182, 0, 61, 43, 182, 0, 65, 42]
abbrev dktX15_word_1 : List UInt8 := dkwX15_word_1 ++ dktX15_word_2
def dkwX15_word_0 : List UInt8 := [187, 0, 54, 89, 183, 0, 56, 76, 42, 182, 0, 32, 16, 97, 161, 0, 69, 42, 182, 0, 32, 16, 122]
abbrev dktX15_word_0 : List UInt8 := dkwX15_word_0 ++ dktX15_word_1
theorem dksX15_word_0 : cX15_word.data.toList.drop 0 = dktX15_word_0 := by decide +kernel
theorem dksX15_word_1 : cX15_word.data.toList.drop 23 = dktX15_word_1 := dk_seg dksX15_word_0 23 rfl rfl
theorem dksX15_word_2 : cX15_word.data.toList.drop 46 = dktX15_word_2 := dk_seg dksX15_word_1 23 rfl rfl
theorem dksX15_word_3 : cX15_word.data.toList.drop 70 = dktX15_word_3 := dk_seg dksX15_word_2 24 rfl rfl
theorem dksX15_word_4 : cX15_word.data.toList.drop 93 = dktX15_word_4 := dk_seg dksX15_word_3 23 rfl rfl
theorem dksX15_word_5 : cX15_word.data.toList.drop 117 = dktX15_word_5 := dk_seg dksX15_word_4 24 rfl rfl
theorem dX15_word_0 : decode cX15_word 0 = .ok (.new 54, 3) := dk_187 0 54 (dk_at dksX15_word_0 0 rfl rfl)
theorem dX15_word_3 : decode cX15_word 3 = .ok (.dup, 1) := dk_89 (dk_at dksX15_word_0 3 rfl rfl)
theorem dX15_word_4 : decode cX15_word 4 = .ok (.invokespecial 56, 3) := dk_183 0 56 (dk_at dksX15_word_0 4 rfl rfl)
theorem dX15_word_7 : decode cX15_word 7 = .ok (.astore_n 1, 1) := dk_76 (dk_at dksX15_word_0 7 rfl rfl)
theorem dX15_word_8 : decode cX15_word 8 = .ok (.aload_n 0, 1) := dk_42 (dk_at dksX15_word_0 8 rfl rfl)
theorem dX15_word_9 : decode cX15_word 9 = .ok (.invokevirtual 32, 3) := dk_182 0 32 (dk_at dksX15_word_0 9 rfl rfl)
theorem dX15_word_12 : decode cX15_word 12 = .ok (.bipush 97, 2) := dk_16 97 (dk_at dksX15_word_0 12 rfl rfl)
theorem dX15_word_14 : decode cX15_word 14 = .ok (.if_icmp .lt 69, 3) := dk_161 0 69 (dk_at dksX15_word_0 14 rfl rfl)
theorem dX15_word_17 : decode cX15_word 17 = .ok (.aload_n 0, 1) := dk_42 (dk_at dksX15_word_0 17 rfl rfl)
theorem dX15_word_18 : decode cX15_word 18 = .ok (.invokevirtual 32, 3) := dk_182 0 32 (dk_at dksX15_word_0 18 rfl rfl)
theorem dX15_word_21 : decode cX15_word 21 = .ok (.bipush 122, 2) := dk_16 122 (dk_at dksX15_word_0 21 rfl rfl)
theorem dX15_word_23 : decode cX15_word 23 = .ok (.if_icmp .gt 60, 3) := dk_163 0 60 (dk_at dksX15_word_1 0 rfl rfl)
theorem dX15_word_26 : decode cX15_word 26 = .ok (.aload_n 0, 1) := dk_42 (dk_at dksX15_word_1 3 rfl rfl)
theorem dX15_word_27 : decode cX15_word 27 = .ok (.ldc 57, 2) := dk_18 57 (dk_at dksX15_word_1 4 rfl rfl)
theorem dX15_word_29 : decode cX15_word 29 = .ok (.new 54, 3) := dk_187 0 54 (dk_at dksX15_word_1 6 rfl rfl)
theorem dX15_word_32 : decode cX15_word 32 = .ok (.dup, 1) := dk_89 (dk_at dksX15_word_1 9 rfl rfl)
theorem dX15_word_33 : decode cX15_word 33 = .ok (.invokespecial 56, 3) := dk_183 0 56 (dk_at dksX15_word_1 10 rfl rfl)
theorem dX15_word_36 : decode cX15_word 36 = .ok (.ldc 59, 2) := dk_18 59 (dk_at dksX15_word_1 13 rfl rfl)
theorem dX15_word_38 : decode cX15_word 38 = .ok (.invokevirtual 61, 3) := dk_182 0 61 (dk_at dksX15_word_1 15 rfl rfl)
theorem dX15_word_41 : decode cX15_word 41 = .ok (.aload_n 1, 1) := dk_43 (dk_at dksX15_word_1 18 rfl rfl)
theorem dX15_word_42 : decode cX15_word 42 = .ok (.invokevirtual 65, 3) := dk_182 0 65 (dk_at dksX15_word_1 19 rfl rfl)
theorem dX15_word_45 : decode cX15_word 45 = .ok (.aload_n 0, 1) := dk_42 (dk_at dksX15_word_1 22 rfl rfl)
theorem dX15_word_46 : decode cX15_word 46 = .ok (.invokevirtual 32, 3) := dk_182 0 32 (dk_at dksX15_word_2 0 rfl rfl)
theorem dX15_word_49 : decode cX15_word 49 = .ok (.invokevirtual 68, 3) := dk_182 0 68 (dk_at dksX15_word_2 3 rfl rfl)
theorem dX15_word_52 : decode cX15_word 52 = .ok (.invokevirtual 71, 3) := dk_182 0 71 (dk_at dksX15_word_2 6 rfl rfl)
theorem dX15_word_55 : decode cX15_word 55 = .ok (.invokevirtual 75, 3) := dk_182 0 75 (dk_at dksX15_word_2 9 rfl rfl)
theorem dX15_word_58 : decode cX15_word 58 = .ok (.invokevirtual 36, 3) := dk_182 0 36 (dk_at dksX15_word_2 12 rfl rfl)
theorem dX15_word_61 : decode cX15_word 61 = .ok (.aload_n 1, 1) := dk_43 (dk_at dksX15_word_2 15 rfl rfl)
theorem dX15_word_62 : decode cX15_word 62 = .ok (.aload_n 0, 1) := dk_42 (dk_at dksX15_word_2 16 rfl rfl)
theorem dX15_word_63 : decode cX15_word 63 = .ok (.invokevirtual 32, 3) := dk_182 0 32 (dk_at dksX15_word_2 17 rfl rfl)
theorem dX15_word_66 : decode cX15_word 66 = .ok (.invokevirtual 68, 3) := dk_182 0 68 (dk_at dksX15_word_2 20 rfl rfl)
theorem dX15_word_69 : decode cX15_word 69 = .ok (.pop, 1) := dk_87 (dk_at dksX15_word_2 23 rfl rfl)
theorem dX15_word_70 : decode cX15_word 70 = .ok (.aload_n 0, 1) := dk_42 (dk_at dksX15_word_3 0 rfl rfl)
theorem dX15_word_71 : decode cX15_word 71 = .ok (.dup, 1) := dk_89 (dk_at dksX15_word_3 1 rfl rfl)
theorem dX15_word_72 : decode cX15_word 72 = .ok (.getfield 13, 3) := dk_180 0 13 (dk_at dksX15_word_3 2 rfl rfl)
theorem dX15_word_75 : decode cX15_word 75 = .ok (.iconst 1, 1) := dk_4 (dk_at dksX15_word_3 5 rfl rfl)
theorem dX15_word_76 : decode cX15_word 76 = .ok (.iadd, 1) := dk_96 (dk_at dksX15_word_3 6 rfl rfl)
theorem dX15_word_77 : decode cX15_word 77 = .ok (.putfield 13, 3) := dk_181 0 13 (dk_at dksX15_word_3 7 rfl rfl)
theorem dX15_word_80 : decode cX15_word 80 = .ok (.goto (-72), 3) := dk_167 255 184 (dk_at dksX15_word_3 10 rfl rfl)
theorem dX15_word_83 : decode cX15_word 83 = .ok (.aload_n 0, 1) := dk_42 (dk_at dksX15_word_3 13 rfl rfl)
theorem dX15_word_84 : decode cX15_word 84 = .ok (.aload_n 1, 1) := dk_43 (dk_at dksX15_word_3 14 rfl rfl)
theorem dX15_word_85 : decode cX15_word 85 = .ok (.invokevirtual 79, 3) := dk_182 0 79 (dk_at dksX15_word_3 15 rfl rfl)
theorem dX15_word_88 : decode cX15_word 88 = .ok (.ifCond .le 39, 3) := dk_158 0 39 (dk_at dksX15_word_3 18 rfl rfl)
theorem dX15_word_91 : decode cX15_word 91 = .ok (.ldc 57, 2) := dk_18 57 (dk_at dksX15_word_3 21 rfl rfl)
theorem dX15_word_93 : decode cX15_word 93 = .ok (.new 54, 3) := dk_187 0 54 (dk_at dksX15_word_4 0 rfl rfl)
theorem dX15_word_96 : decode cX15_word 96 = .ok (.dup, 1) := dk_89 (dk_at dksX15_word_4 3 rfl rfl)
theorem dX15_word_97 : decode cX15_word 97 = .ok (.invokespecial 56, 3) := dk_183 0 56 (dk_at dksX15_word_4 4 rfl rfl)
theorem dX15_word_100 : decode cX15_word 100 = .ok (.ldc 59, 2) := dk_18 59 (dk_at dksX15_word_4 7 rfl rfl)
theorem dX15_word_102 : decode cX15_word 102 = .ok (.invokevirtual 61, 3) := dk_182 0 61 (dk_at dksX15_word_4 9 rfl rfl)
theorem dX15_word_105 : decode cX15_word 105 = .ok (.aload_n 1, 1) := dk_43 (dk_at dksX15_word_4 12 rfl rfl)
theorem dX15_word_106 : decode cX15_word 106 = .ok (.invokevirtual 65, 3) := dk_182 0 65 (dk_at dksX15_word_4 13 rfl rfl)
theorem dX15_word_109 : decode cX15_word 109 = .ok (.ldc 59, 2) := dk_18 59 (dk_at dksX15_word_4 16 rfl rfl)
theorem dX15_word_111 : decode cX15_word 111 = .ok (.invokevirtual 61, 3) := dk_182 0 61 (dk_at dksX15_word_4 18 rfl rfl)
theorem dX15_word_114 : decode cX15_word 114 = .ok (.invokevirtual 71, 3) := dk_182 0 71 (dk_at dksX15_word_4 21 rfl rfl)
theorem dX15_word_117 : decode cX15_word 117 = .ok (.invokevirtual 75, 3) := dk_182 0 75 (dk_at dksX15_word_5 0 rfl rfl)
theorem dX15_word_120 : decode cX15_word 120 = .ok (.ifCond .eq 7, 3) := dk_153 0 7 (dk_at dksX15_word_5 3 rfl rfl)
theorem dX15_word_123 : decode cX15_word 123 = .ok (.iconst 1, 1) := dk_4 (dk_at dksX15_word_5 6 rfl rfl)
theorem dX15_word_124 : decode cX15_word 124 = .ok (.goto 4, 3) := dk_167 0 4 (dk_at dksX15_word_5 7 rfl rfl)
theorem dX15_word_127 : decode cX15_word 127 = .ok (.iconst 0, 1) := dk_3 (dk_at dksX15_word_5 10 rfl rfl)
theorem dX15_word_128 : decode cX15_word 128 = .ok (.invokevirtual 36, 3) := dk_182 0 36 (dk_at dksX15_word_5 11 rfl rfl)
theorem dX15_word_131 : decode cX15_word 131 = .ok (.aload_n 1, 1) := dk_43 (dk_at dksX15_word_5 14 rfl rfl)
theorem dX15_word_132 : decode cX15_word 132 = .ok (.invokevirtual 71, 3) := dk_182 0 71 (dk_at dksX15_word_5 15 rfl rfl)
theorem dX15_word_135 : decode cX15_word 135 = .ok (.areturn, 1) := dk_176 (dk_at dksX15_word_5 18 rfl rfl)
abbrev cX15_current : ByteArray := prog_19_method_2_code
def yX15_current : MethodName := ⟨RX15, "current", "()C"⟩
def dkwX15_current_1 : List UInt8 := [182, 0, 23, 167, 0, 5, 16, 10, 172]
abbrev dktX15_current_1 : List UInt8 := dkwX15_current_1 ++ []
def dkwX15_current_0 : List UInt8 := [42, 180, 0, 13, 42, 180, 0, 7, 182, 0, 17, 162, 0, 17, 42, 180, 0, 7, 42, 180, 0, 13]
abbrev dktX15_current_0 : List UInt8 := dkwX15_current_0 ++ dktX15_current_1
theorem dksX15_current_0 : cX15_current.data.toList.drop 0 = dktX15_current_0 := by decide +kernel
theorem dksX15_current_1 : cX15_current.data.toList.drop 22 = dktX15_current_1 := dk_seg dksX15_current_0 22 rfl rfl
theorem dX15_current_0 : decode cX15_current 0 = .ok (.aload_n 0, 1) := dk_42 (dk_at dksX15_current_0 0 rfl rfl)
theorem dX15_current_1 : decode cX15_current 1 = .ok (.getfield 13, 3) := dk_180 0 13 (dk_at dksX15_current_0 1 rfl rfl)
theorem dX15_current_4 : decode cX15_current 4 = .ok (.aload_n 0, 1) := dk_42 (dk_at dksX15_current_0 4 rfl rfl)
theorem dX15_current_5 : decode cX15_current 5 = .ok (.getfield 7, 3) := dk_180 0 7 (dk_at dksX15_current_0 5 rfl rfl)
theorem dX15_current_8 : decode cX15_current 8 = .ok (.invokevirtual 17, 3) := dk_182 0 17 (dk_at dksX15_current_0 8 rfl rfl)
theorem dX15_current_11 : decode cX15_current 11 = .ok (.if_icmp .ge 17, 3) := dk_162 0 17 (dk_at dksX15_current_0 11 rfl rfl)
theorem dX15_current_14 : decode cX15_current 14 = .ok (.aload_n 0, 1) := dk_42 (dk_at dksX15_current_0 14 rfl rfl)
theorem dX15_current_15 : decode cX15_current 15 = .ok (.getfield 7, 3) := dk_180 0 7 (dk_at dksX15_current_0 15 rfl rfl)
theorem dX15_current_18 : decode cX15_current 18 = .ok (.aload_n 0, 1) := dk_42 (dk_at dksX15_current_0 18 rfl rfl)
theorem dX15_current_19 : decode cX15_current 19 = .ok (.getfield 13, 3) := dk_180 0 13 (dk_at dksX15_current_0 19 rfl rfl)
theorem dX15_current_22 : decode cX15_current 22 = .ok (.invokevirtual 23, 3) := dk_182 0 23 (dk_at dksX15_current_1 0 rfl rfl)
theorem dX15_current_25 : decode cX15_current 25 = .ok (.goto 5, 3) := dk_167 0 5 (dk_at dksX15_current_1 3 rfl rfl)
theorem dX15_current_28 : decode cX15_current 28 = .ok (.bipush 10, 2) := dk_16 10 (dk_at dksX15_current_1 6 rfl rfl)
theorem dX15_current_30 : decode cX15_current 30 = .ok (.ireturn, 1) := dk_172 (dk_at dksX15_current_1 8 rfl rfl)
abbrev cX15_require : ByteArray := prog_19_method_3_code
def yX15_require : MethodName := ⟨RX15, "require", "(Z)V"⟩
def dkwX15_require_0 : List UInt8 := [27, 154, 0, 15, 187, 0, 27, 89, 42, 180, 0, 13, 183, 0, 29, 191, 177]
abbrev dktX15_require_0 : List UInt8 := dkwX15_require_0 ++ []
theorem dksX15_require_0 : cX15_require.data.toList.drop 0 = dktX15_require_0 := by decide +kernel
theorem dX15_require_0 : decode cX15_require 0 = .ok (.iload_n 1, 1) := dk_27 (dk_at dksX15_require_0 0 rfl rfl)
theorem dX15_require_1 : decode cX15_require 1 = .ok (.ifCond .ne 15, 3) := dk_154 0 15 (dk_at dksX15_require_0 1 rfl rfl)
theorem dX15_require_4 : decode cX15_require 4 = .ok (.new 27, 3) := dk_187 0 27 (dk_at dksX15_require_0 4 rfl rfl)
theorem dX15_require_7 : decode cX15_require 7 = .ok (.dup, 1) := dk_89 (dk_at dksX15_require_0 7 rfl rfl)
theorem dX15_require_8 : decode cX15_require 8 = .ok (.aload_n 0, 1) := dk_42 (dk_at dksX15_require_0 8 rfl rfl)
theorem dX15_require_9 : decode cX15_require 9 = .ok (.getfield 13, 3) := dk_180 0 13 (dk_at dksX15_require_0 9 rfl rfl)
theorem dX15_require_12 : decode cX15_require 12 = .ok (.invokespecial 29, 3) := dk_183 0 29 (dk_at dksX15_require_0 12 rfl rfl)
theorem dX15_require_15 : decode cX15_require 15 = .ok (.athrow, 1) := dk_191 (dk_at dksX15_require_0 15 rfl rfl)
theorem dX15_require_16 : decode cX15_require 16 = .ok (.return_, 1) := dk_177 (dk_at dksX15_require_0 16 rfl rfl)
abbrev cX15_spaceAndDigit : ByteArray := prog_19_method_8_code
def yX15_spaceAndDigit : MethodName := ⟨RX15, "spaceAndDigit", "()I"⟩
def dkwX15_spaceAndDigit_0 : List UInt8 := [42, 16, 32, 182, 0, 47, 42, 182, 0, 44, 172]
abbrev dktX15_spaceAndDigit_0 : List UInt8 := dkwX15_spaceAndDigit_0 ++ []
theorem dksX15_spaceAndDigit_0 : cX15_spaceAndDigit.data.toList.drop 0 = dktX15_spaceAndDigit_0 := by decide +kernel
theorem dX15_spaceAndDigit_0 : decode cX15_spaceAndDigit 0 = .ok (.aload_n 0, 1) := dk_42 (dk_at dksX15_spaceAndDigit_0 0 rfl rfl)
theorem dX15_spaceAndDigit_1 : decode cX15_spaceAndDigit 1 = .ok (.bipush 32, 2) := dk_16 32 (dk_at dksX15_spaceAndDigit_0 1 rfl rfl)
theorem dX15_spaceAndDigit_3 : decode cX15_spaceAndDigit 3 = .ok (.invokevirtual 47, 3) := dk_182 0 47 (dk_at dksX15_spaceAndDigit_0 3 rfl rfl)
theorem dX15_spaceAndDigit_6 : decode cX15_spaceAndDigit 6 = .ok (.aload_n 0, 1) := dk_42 (dk_at dksX15_spaceAndDigit_0 6 rfl rfl)
theorem dX15_spaceAndDigit_7 : decode cX15_spaceAndDigit 7 = .ok (.invokevirtual 44, 3) := dk_182 0 44 (dk_at dksX15_spaceAndDigit_0 7 rfl rfl)
theorem dX15_spaceAndDigit_10 : decode cX15_spaceAndDigit 10 = .ok (.ireturn, 1) := dk_172 (dk_at dksX15_spaceAndDigit_0 10 rfl rfl)
abbrev cX15_take : ByteArray := prog_19_method_4_code
def yX15_take : MethodName := ⟨RX15, "take", "(C)V"⟩
def dkwX15_take_1 : List UInt8 := [181, 0, 13, 177]
abbrev dktX15_take_1 : List UInt8 := dkwX15_take_1 ++ []
def dkwX15_take_0 : List UInt8 := [42, 42, 182, 0, 32, 27, 160, 0, 7, 4, 167, 0, 4, 3, 182, 0, 36, 42, 89, 180, 0, 13, 4, 96]
abbrev dktX15_take_0 : List UInt8 := dkwX15_take_0 ++ dktX15_take_1
theorem dksX15_take_0 : cX15_take.data.toList.drop 0 = dktX15_take_0 := by decide +kernel
theorem dksX15_take_1 : cX15_take.data.toList.drop 24 = dktX15_take_1 := dk_seg dksX15_take_0 24 rfl rfl
theorem dX15_take_0 : decode cX15_take 0 = .ok (.aload_n 0, 1) := dk_42 (dk_at dksX15_take_0 0 rfl rfl)
theorem dX15_take_1 : decode cX15_take 1 = .ok (.aload_n 0, 1) := dk_42 (dk_at dksX15_take_0 1 rfl rfl)
theorem dX15_take_2 : decode cX15_take 2 = .ok (.invokevirtual 32, 3) := dk_182 0 32 (dk_at dksX15_take_0 2 rfl rfl)
theorem dX15_take_5 : decode cX15_take 5 = .ok (.iload_n 1, 1) := dk_27 (dk_at dksX15_take_0 5 rfl rfl)
theorem dX15_take_6 : decode cX15_take 6 = .ok (.if_icmp .ne 7, 3) := dk_160 0 7 (dk_at dksX15_take_0 6 rfl rfl)
theorem dX15_take_9 : decode cX15_take 9 = .ok (.iconst 1, 1) := dk_4 (dk_at dksX15_take_0 9 rfl rfl)
theorem dX15_take_10 : decode cX15_take 10 = .ok (.goto 4, 3) := dk_167 0 4 (dk_at dksX15_take_0 10 rfl rfl)
theorem dX15_take_13 : decode cX15_take 13 = .ok (.iconst 0, 1) := dk_3 (dk_at dksX15_take_0 13 rfl rfl)
theorem dX15_take_14 : decode cX15_take 14 = .ok (.invokevirtual 36, 3) := dk_182 0 36 (dk_at dksX15_take_0 14 rfl rfl)
theorem dX15_take_17 : decode cX15_take 17 = .ok (.aload_n 0, 1) := dk_42 (dk_at dksX15_take_0 17 rfl rfl)
theorem dX15_take_18 : decode cX15_take 18 = .ok (.dup, 1) := dk_89 (dk_at dksX15_take_0 18 rfl rfl)
theorem dX15_take_19 : decode cX15_take 19 = .ok (.getfield 13, 3) := dk_180 0 13 (dk_at dksX15_take_0 19 rfl rfl)
theorem dX15_take_22 : decode cX15_take 22 = .ok (.iconst 1, 1) := dk_4 (dk_at dksX15_take_0 22 rfl rfl)
theorem dX15_take_23 : decode cX15_take 23 = .ok (.iadd, 1) := dk_96 (dk_at dksX15_take_0 23 rfl rfl)
theorem dX15_take_24 : decode cX15_take 24 = .ok (.putfield 13, 3) := dk_181 0 13 (dk_at dksX15_take_1 0 rfl rfl)
theorem dX15_take_27 : decode cX15_take 27 = .ok (.return_, 1) := dk_177 (dk_at dksX15_take_1 3 rfl rfl)
abbrev cX15_digit : ByteArray := prog_19_method_6_code
def yX15_digit : MethodName := ⟨RX15, "digit", "()I"⟩
def dkwX15_digit_1 : List UInt8 := [180, 0, 13, 4, 100, 182, 0, 23, 16, 48, 100, 172]
abbrev dktX15_digit_1 : List UInt8 := dkwX15_digit_1 ++ []
def dkwX15_digit_0 : List UInt8 := [42, 42, 182, 0, 40, 182, 0, 36, 42, 89, 180, 0, 13, 4, 96, 181, 0, 13, 42, 180, 0, 7, 42]
abbrev dktX15_digit_0 : List UInt8 := dkwX15_digit_0 ++ dktX15_digit_1
theorem dksX15_digit_0 : cX15_digit.data.toList.drop 0 = dktX15_digit_0 := by decide +kernel
theorem dksX15_digit_1 : cX15_digit.data.toList.drop 23 = dktX15_digit_1 := dk_seg dksX15_digit_0 23 rfl rfl
theorem dX15_digit_0 : decode cX15_digit 0 = .ok (.aload_n 0, 1) := dk_42 (dk_at dksX15_digit_0 0 rfl rfl)
theorem dX15_digit_1 : decode cX15_digit 1 = .ok (.aload_n 0, 1) := dk_42 (dk_at dksX15_digit_0 1 rfl rfl)
theorem dX15_digit_2 : decode cX15_digit 2 = .ok (.invokevirtual 40, 3) := dk_182 0 40 (dk_at dksX15_digit_0 2 rfl rfl)
theorem dX15_digit_5 : decode cX15_digit 5 = .ok (.invokevirtual 36, 3) := dk_182 0 36 (dk_at dksX15_digit_0 5 rfl rfl)
theorem dX15_digit_8 : decode cX15_digit 8 = .ok (.aload_n 0, 1) := dk_42 (dk_at dksX15_digit_0 8 rfl rfl)
theorem dX15_digit_9 : decode cX15_digit 9 = .ok (.dup, 1) := dk_89 (dk_at dksX15_digit_0 9 rfl rfl)
theorem dX15_digit_10 : decode cX15_digit 10 = .ok (.getfield 13, 3) := dk_180 0 13 (dk_at dksX15_digit_0 10 rfl rfl)
theorem dX15_digit_13 : decode cX15_digit 13 = .ok (.iconst 1, 1) := dk_4 (dk_at dksX15_digit_0 13 rfl rfl)
theorem dX15_digit_14 : decode cX15_digit 14 = .ok (.iadd, 1) := dk_96 (dk_at dksX15_digit_0 14 rfl rfl)
theorem dX15_digit_15 : decode cX15_digit 15 = .ok (.putfield 13, 3) := dk_181 0 13 (dk_at dksX15_digit_0 15 rfl rfl)
theorem dX15_digit_18 : decode cX15_digit 18 = .ok (.aload_n 0, 1) := dk_42 (dk_at dksX15_digit_0 18 rfl rfl)
theorem dX15_digit_19 : decode cX15_digit 19 = .ok (.getfield 7, 3) := dk_180 0 7 (dk_at dksX15_digit_0 19 rfl rfl)
theorem dX15_digit_22 : decode cX15_digit 22 = .ok (.aload_n 0, 1) := dk_42 (dk_at dksX15_digit_0 22 rfl rfl)
theorem dX15_digit_23 : decode cX15_digit 23 = .ok (.getfield 13, 3) := dk_180 0 13 (dk_at dksX15_digit_1 0 rfl rfl)
theorem dX15_digit_26 : decode cX15_digit 26 = .ok (.iconst 1, 1) := dk_4 (dk_at dksX15_digit_1 3 rfl rfl)
theorem dX15_digit_27 : decode cX15_digit 27 = .ok (.isub, 1) := dk_100 (dk_at dksX15_digit_1 4 rfl rfl)
theorem dX15_digit_28 : decode cX15_digit 28 = .ok (.invokevirtual 23, 3) := dk_182 0 23 (dk_at dksX15_digit_1 5 rfl rfl)
theorem dX15_digit_31 : decode cX15_digit 31 = .ok (.bipush 48, 2) := dk_16 48 (dk_at dksX15_digit_1 8 rfl rfl)
theorem dX15_digit_33 : decode cX15_digit 33 = .ok (.isub, 1) := dk_100 (dk_at dksX15_digit_1 10 rfl rfl)
theorem dX15_digit_34 : decode cX15_digit 34 = .ok (.ireturn, 1) := dk_172 (dk_at dksX15_digit_1 11 rfl rfl)
abbrev cX15_isAtDigit : ByteArray := prog_19_method_5_code
def yX15_isAtDigit : MethodName := ⟨RX15, "isAtDigit", "()Z"⟩
def dkwX15_isAtDigit_0 : List UInt8 := [42, 182, 0, 32, 16, 48, 161, 0, 16, 42, 182, 0, 32, 16, 57, 163, 0, 7, 4, 167, 0, 4, 3, 172]
abbrev dktX15_isAtDigit_0 : List UInt8 := dkwX15_isAtDigit_0 ++ []
theorem dksX15_isAtDigit_0 : cX15_isAtDigit.data.toList.drop 0 = dktX15_isAtDigit_0 := by decide +kernel
theorem dX15_isAtDigit_0 : decode cX15_isAtDigit 0 = .ok (.aload_n 0, 1) := dk_42 (dk_at dksX15_isAtDigit_0 0 rfl rfl)
theorem dX15_isAtDigit_1 : decode cX15_isAtDigit 1 = .ok (.invokevirtual 32, 3) := dk_182 0 32 (dk_at dksX15_isAtDigit_0 1 rfl rfl)
theorem dX15_isAtDigit_4 : decode cX15_isAtDigit 4 = .ok (.bipush 48, 2) := dk_16 48 (dk_at dksX15_isAtDigit_0 4 rfl rfl)
theorem dX15_isAtDigit_6 : decode cX15_isAtDigit 6 = .ok (.if_icmp .lt 16, 3) := dk_161 0 16 (dk_at dksX15_isAtDigit_0 6 rfl rfl)
theorem dX15_isAtDigit_9 : decode cX15_isAtDigit 9 = .ok (.aload_n 0, 1) := dk_42 (dk_at dksX15_isAtDigit_0 9 rfl rfl)
theorem dX15_isAtDigit_10 : decode cX15_isAtDigit 10 = .ok (.invokevirtual 32, 3) := dk_182 0 32 (dk_at dksX15_isAtDigit_0 10 rfl rfl)
theorem dX15_isAtDigit_13 : decode cX15_isAtDigit 13 = .ok (.bipush 57, 2) := dk_16 57 (dk_at dksX15_isAtDigit_0 13 rfl rfl)
theorem dX15_isAtDigit_15 : decode cX15_isAtDigit 15 = .ok (.if_icmp .gt 7, 3) := dk_163 0 7 (dk_at dksX15_isAtDigit_0 15 rfl rfl)
theorem dX15_isAtDigit_18 : decode cX15_isAtDigit 18 = .ok (.iconst 1, 1) := dk_4 (dk_at dksX15_isAtDigit_0 18 rfl rfl)
theorem dX15_isAtDigit_19 : decode cX15_isAtDigit 19 = .ok (.goto 4, 3) := dk_167 0 4 (dk_at dksX15_isAtDigit_0 19 rfl rfl)
theorem dX15_isAtDigit_22 : decode cX15_isAtDigit 22 = .ok (.iconst 0, 1) := dk_3 (dk_at dksX15_isAtDigit_0 22 rfl rfl)
theorem dX15_isAtDigit_23 : decode cX15_isAtDigit 23 = .ok (.ireturn, 1) := dk_172 (dk_at dksX15_isAtDigit_0 23 rfl rfl)
abbrev cX15_spaceAndNumber : ByteArray := prog_19_method_9_code
def yX15_spaceAndNumber : MethodName := ⟨RX15, "spaceAndNumber", "()I"⟩
def dkwX15_spaceAndNumber_0 : List UInt8 := [42, 16, 32, 182, 0, 47, 42, 182, 0, 51, 172]
abbrev dktX15_spaceAndNumber_0 : List UInt8 := dkwX15_spaceAndNumber_0 ++ []
theorem dksX15_spaceAndNumber_0 : cX15_spaceAndNumber.data.toList.drop 0 = dktX15_spaceAndNumber_0 := by decide +kernel
theorem dX15_spaceAndNumber_0 : decode cX15_spaceAndNumber 0 = .ok (.aload_n 0, 1) := dk_42 (dk_at dksX15_spaceAndNumber_0 0 rfl rfl)
theorem dX15_spaceAndNumber_1 : decode cX15_spaceAndNumber 1 = .ok (.bipush 32, 2) := dk_16 32 (dk_at dksX15_spaceAndNumber_0 1 rfl rfl)
theorem dX15_spaceAndNumber_3 : decode cX15_spaceAndNumber 3 = .ok (.invokevirtual 47, 3) := dk_182 0 47 (dk_at dksX15_spaceAndNumber_0 3 rfl rfl)
theorem dX15_spaceAndNumber_6 : decode cX15_spaceAndNumber 6 = .ok (.aload_n 0, 1) := dk_42 (dk_at dksX15_spaceAndNumber_0 6 rfl rfl)
theorem dX15_spaceAndNumber_7 : decode cX15_spaceAndNumber 7 = .ok (.invokevirtual 51, 3) := dk_182 0 51 (dk_at dksX15_spaceAndNumber_0 7 rfl rfl)
theorem dX15_spaceAndNumber_10 : decode cX15_spaceAndNumber 10 = .ok (.ireturn, 1) := dk_172 (dk_at dksX15_spaceAndNumber_0 10 rfl rfl)
abbrev cX15_number : ByteArray := prog_19_method_7_code
def yX15_number : MethodName := ⟨RX15, "number", "()I"⟩
def dkwX15_number_1 : List UInt8 := [182, 0, 44, 96, 60, 132, 2, 1, 167, 255, 231, 27, 172]
abbrev dktX15_number_1 : List UInt8 := dkwX15_number_1 ++ []
def dkwX15_number_0 : List UInt8 := [42, 182, 0, 44, 60, 4, 61, 28, 6, 162, 0, 26, 42, 182, 0, 40, 153, 0, 19, 16, 10, 27, 104, 42]
abbrev dktX15_number_0 : List UInt8 := dkwX15_number_0 ++ dktX15_number_1
theorem dksX15_number_0 : cX15_number.data.toList.drop 0 = dktX15_number_0 := by decide +kernel
theorem dksX15_number_1 : cX15_number.data.toList.drop 24 = dktX15_number_1 := dk_seg dksX15_number_0 24 rfl rfl
theorem dX15_number_0 : decode cX15_number 0 = .ok (.aload_n 0, 1) := dk_42 (dk_at dksX15_number_0 0 rfl rfl)
theorem dX15_number_1 : decode cX15_number 1 = .ok (.invokevirtual 44, 3) := dk_182 0 44 (dk_at dksX15_number_0 1 rfl rfl)
theorem dX15_number_4 : decode cX15_number 4 = .ok (.istore_n 1, 1) := dk_60 (dk_at dksX15_number_0 4 rfl rfl)
theorem dX15_number_5 : decode cX15_number 5 = .ok (.iconst 1, 1) := dk_4 (dk_at dksX15_number_0 5 rfl rfl)
theorem dX15_number_6 : decode cX15_number 6 = .ok (.istore_n 2, 1) := dk_61 (dk_at dksX15_number_0 6 rfl rfl)
theorem dX15_number_7 : decode cX15_number 7 = .ok (.iload_n 2, 1) := dk_28 (dk_at dksX15_number_0 7 rfl rfl)
theorem dX15_number_8 : decode cX15_number 8 = .ok (.iconst 3, 1) := dk_6 (dk_at dksX15_number_0 8 rfl rfl)
theorem dX15_number_9 : decode cX15_number 9 = .ok (.if_icmp .ge 26, 3) := dk_162 0 26 (dk_at dksX15_number_0 9 rfl rfl)
theorem dX15_number_12 : decode cX15_number 12 = .ok (.aload_n 0, 1) := dk_42 (dk_at dksX15_number_0 12 rfl rfl)
theorem dX15_number_13 : decode cX15_number 13 = .ok (.invokevirtual 40, 3) := dk_182 0 40 (dk_at dksX15_number_0 13 rfl rfl)
theorem dX15_number_16 : decode cX15_number 16 = .ok (.ifCond .eq 19, 3) := dk_153 0 19 (dk_at dksX15_number_0 16 rfl rfl)
theorem dX15_number_19 : decode cX15_number 19 = .ok (.bipush 10, 2) := dk_16 10 (dk_at dksX15_number_0 19 rfl rfl)
theorem dX15_number_21 : decode cX15_number 21 = .ok (.iload_n 1, 1) := dk_27 (dk_at dksX15_number_0 21 rfl rfl)
theorem dX15_number_22 : decode cX15_number 22 = .ok (.imul, 1) := dk_104 (dk_at dksX15_number_0 22 rfl rfl)
theorem dX15_number_23 : decode cX15_number 23 = .ok (.aload_n 0, 1) := dk_42 (dk_at dksX15_number_0 23 rfl rfl)
theorem dX15_number_24 : decode cX15_number 24 = .ok (.invokevirtual 44, 3) := dk_182 0 44 (dk_at dksX15_number_1 0 rfl rfl)
theorem dX15_number_27 : decode cX15_number 27 = .ok (.iadd, 1) := dk_96 (dk_at dksX15_number_1 3 rfl rfl)
theorem dX15_number_28 : decode cX15_number 28 = .ok (.istore_n 1, 1) := dk_60 (dk_at dksX15_number_1 4 rfl rfl)
theorem dX15_number_29 : decode cX15_number 29 = .ok (.iinc 2 1, 3) := dk_132 2 1 (dk_at dksX15_number_1 5 rfl rfl)
theorem dX15_number_32 : decode cX15_number 32 = .ok (.goto (-25), 3) := dk_167 255 231 (dk_at dksX15_number_1 8 rfl rfl)
theorem dX15_number_35 : decode cX15_number 35 = .ok (.iload_n 1, 1) := dk_27 (dk_at dksX15_number_1 11 rfl rfl)
theorem dX15_number_36 : decode cX15_number 36 = .ok (.ireturn, 1) := dk_172 (dk_at dksX15_number_1 12 rfl rfl)
abbrev cX15_lambda_change_9 : ByteArray := prog_19_method_16_code
def yX15_lambda_change_9 : MethodName := ⟨RX15, "lambda$change$9", "(IIIILGoblinHousehold$Household;)I"⟩
def dkwX15_lambda_change_9_0 : List UInt8 := [25, 4, 26, 27, 28, 29, 182, 0, 169, 172]
abbrev dktX15_lambda_change_9_0 : List UInt8 := dkwX15_lambda_change_9_0 ++ []
theorem dksX15_lambda_change_9_0 : cX15_lambda_change_9.data.toList.drop 0 = dktX15_lambda_change_9_0 := by decide +kernel
theorem dX15_lambda_change_9_0 : decode cX15_lambda_change_9 0 = .ok (.aload 4, 2) := dk_25 4 (dk_at dksX15_lambda_change_9_0 0 rfl rfl)
theorem dX15_lambda_change_9_2 : decode cX15_lambda_change_9 2 = .ok (.iload_n 0, 1) := dk_26 (dk_at dksX15_lambda_change_9_0 2 rfl rfl)
theorem dX15_lambda_change_9_3 : decode cX15_lambda_change_9 3 = .ok (.iload_n 1, 1) := dk_27 (dk_at dksX15_lambda_change_9_0 3 rfl rfl)
theorem dX15_lambda_change_9_4 : decode cX15_lambda_change_9 4 = .ok (.iload_n 2, 1) := dk_28 (dk_at dksX15_lambda_change_9_0 4 rfl rfl)
theorem dX15_lambda_change_9_5 : decode cX15_lambda_change_9 5 = .ok (.iload_n 3, 1) := dk_29 (dk_at dksX15_lambda_change_9_0 5 rfl rfl)
theorem dX15_lambda_change_9_6 : decode cX15_lambda_change_9 6 = .ok (.invokevirtual 169, 3) := dk_182 0 169 (dk_at dksX15_lambda_change_9_0 6 rfl rfl)
theorem dX15_lambda_change_9_9 : decode cX15_lambda_change_9 9 = .ok (.ireturn, 1) := dk_172 (dk_at dksX15_lambda_change_9_0 9 rfl rfl)
abbrev cX15_lambda_change_10 : ByteArray := prog_19_method_15_code
def yX15_lambda_change_10 : MethodName := ⟨RX15, "lambda$change$10", "(IILGoblinHousehold$Household;)I"⟩
def dkwX15_lambda_change_10_0 : List UInt8 := [44, 26, 27, 182, 0, 166, 172]
abbrev dktX15_lambda_change_10_0 : List UInt8 := dkwX15_lambda_change_10_0 ++ []
theorem dksX15_lambda_change_10_0 : cX15_lambda_change_10.data.toList.drop 0 = dktX15_lambda_change_10_0 := by decide +kernel
theorem dX15_lambda_change_10_0 : decode cX15_lambda_change_10 0 = .ok (.aload_n 2, 1) := dk_44 (dk_at dksX15_lambda_change_10_0 0 rfl rfl)
theorem dX15_lambda_change_10_1 : decode cX15_lambda_change_10 1 = .ok (.iload_n 0, 1) := dk_26 (dk_at dksX15_lambda_change_10_0 1 rfl rfl)
theorem dX15_lambda_change_10_2 : decode cX15_lambda_change_10 2 = .ok (.iload_n 1, 1) := dk_27 (dk_at dksX15_lambda_change_10_0 2 rfl rfl)
theorem dX15_lambda_change_10_3 : decode cX15_lambda_change_10 3 = .ok (.invokevirtual 166, 3) := dk_182 0 166 (dk_at dksX15_lambda_change_10_0 3 rfl rfl)
theorem dX15_lambda_change_10_6 : decode cX15_lambda_change_10 6 = .ok (.ireturn, 1) := dk_172 (dk_at dksX15_lambda_change_10_0 6 rfl rfl)
abbrev cX15_lambda_change_11 : ByteArray := prog_19_method_14_code
def yX15_lambda_change_11 : MethodName := ⟨RX15, "lambda$change$11", "(ILGoblinHousehold$Household;)I"⟩
def dkwX15_lambda_change_11_0 : List UInt8 := [43, 26, 182, 0, 160, 172]
abbrev dktX15_lambda_change_11_0 : List UInt8 := dkwX15_lambda_change_11_0 ++ []
theorem dksX15_lambda_change_11_0 : cX15_lambda_change_11.data.toList.drop 0 = dktX15_lambda_change_11_0 := by decide +kernel
theorem dX15_lambda_change_11_0 : decode cX15_lambda_change_11 0 = .ok (.aload_n 1, 1) := dk_43 (dk_at dksX15_lambda_change_11_0 0 rfl rfl)
theorem dX15_lambda_change_11_1 : decode cX15_lambda_change_11 1 = .ok (.iload_n 0, 1) := dk_26 (dk_at dksX15_lambda_change_11_0 1 rfl rfl)
theorem dX15_lambda_change_11_2 : decode cX15_lambda_change_11 2 = .ok (.invokevirtual 160, 3) := dk_182 0 160 (dk_at dksX15_lambda_change_11_0 2 rfl rfl)
theorem dX15_lambda_change_11_5 : decode cX15_lambda_change_11 5 = .ok (.ireturn, 1) := dk_172 (dk_at dksX15_lambda_change_11_0 5 rfl rfl)
abbrev cX15_oneArgument : ByteArray := prog_19_method_11_code
def yX15_oneArgument : MethodName := ⟨RX15, "oneArgument", "(Ljava/lang/String;)LGoblinHousehold$Change;"⟩
def dkwX15_oneArgument_13 : List UInt8 := [186, 0, 120, 0, 0, 176, 28, 186, 0, 121, 0, 0, 176, 28, 186, 0, 122, 0, 0, 176]
abbrev dktX15_oneArgument_13 : List UInt8 := dkwX15_oneArgument_13 ++ []
def dkwX15_oneArgument_12 : List UInt8 := [186, 0, 117, 0, 0, 176, 28, 186, 0, 118, 0, 0, 176, 28, 186, 0, 119, 0, 0, 176, 28]
abbrev dktX15_oneArgument_12 : List UInt8 := dkwX15_oneArgument_12 ++ dktX15_oneArgument_13
def dkwX15_oneArgument_11 : List UInt8 := [28, 186, 0, 111, 0, 0, 176, 28, 186, 0, 115, 0, 0, 176, 28, 186, 0, 116, 0, 0, 176, 28]
abbrev dktX15_oneArgument_11 : List UInt8 := dkwX15_oneArgument_11 ++ dktX15_oneArgument_12
def dkwX15_oneArgument_10 : List UInt8 := [170, 0, 0, 0, 0, 0, 103, 0, 0, 0, 0, 0, 0, 0, 7, 0, 0, 0, 47, 0, 0, 0, 54, 0, 0, 0, 61, 0, 0, 0, 68, 0, 0, 0, 75, 0, 0, 0, 82, 0, 0, 0, 89, 0, 0, 0, 96]
abbrev dktX15_oneArgument_10 : List UInt8 := dkwX15_oneArgument_10 ++ dktX15_oneArgument_11
def dkwX15_oneArgument_9 : List UInt8 := [21, 4]
abbrev dktX15_oneArgument_9 : List UInt8 := dkwX15_oneArgument_9 ++ dktX15_oneArgument_10
def dkwX15_oneArgument_8 : List UInt8 := [153, 0, 23, 16, 6, 54, 4, 167, 0, 16, 45, 18, 109, 182, 0, 93, 153, 0, 7, 16, 7, 54, 4]
abbrev dktX15_oneArgument_8 : List UInt8 := dkwX15_oneArgument_8 ++ dktX15_oneArgument_9
def dkwX15_oneArgument_7 : List UInt8 := [167, 0, 47, 45, 18, 105, 182, 0, 93, 153, 0, 38, 8, 54, 4, 167, 0, 32, 45, 18, 107, 182, 0, 93]
abbrev dktX15_oneArgument_7 : List UInt8 := dkwX15_oneArgument_7 ++ dktX15_oneArgument_8
def dkwX15_oneArgument_6 : List UInt8 := [182, 0, 93, 153, 0, 68, 6, 54, 4, 167, 0, 62, 45, 18, 103, 182, 0, 93, 153, 0, 53, 7, 54, 4]
abbrev dktX15_oneArgument_6 : List UInt8 := dkwX15_oneArgument_6 ++ dktX15_oneArgument_7
def dkwX15_oneArgument_5 : List UInt8 := [4, 54, 4, 167, 0, 92, 45, 18, 99, 182, 0, 93, 153, 0, 83, 5, 54, 4, 167, 0, 77, 45, 18, 101]
abbrev dktX15_oneArgument_5 : List UInt8 := dkwX15_oneArgument_5 ++ dktX15_oneArgument_6
def dkwX15_oneArgument_4 : List UInt8 := [45, 18, 91, 182, 0, 93, 153, 0, 113, 3, 54, 4, 167, 0, 107, 45, 18, 97, 182, 0, 93, 153, 0, 98]
abbrev dktX15_oneArgument_4 : List UInt8 := dkwX15_oneArgument_4 ++ dktX15_oneArgument_5
def dkwX15_oneArgument_3 : List UInt8 := [171, 0, 0, 0, 0, 0, 194, 0, 0, 0, 8, 172, 197, 110, 15, 0, 0, 0, 105, 174, 122, 46, 122, 0, 0, 0, 135, 182, 13, 135, 215, 0, 0, 0, 75, 200, 70, 55, 17, 0, 0, 0, 120, 0, 48, 34, 197, 0, 0, 0, 181, 0, 53, 91, 212, 0, 0, 0, 150, 0, 55, 145, 164, 0, 0, 0, 165, 5, 154, 128, 61, 0, 0, 0, 90]
abbrev dktX15_oneArgument_3 : List UInt8 := dkwX15_oneArgument_3 ++ dktX15_oneArgument_4
def dkwX15_oneArgument_2 : List UInt8 := [54, 4, 45, 182, 0, 88]
abbrev dktX15_oneArgument_2 : List UInt8 := dkwX15_oneArgument_2 ++ dktX15_oneArgument_3
def dkwX15_oneArgument_1 : List UInt8 := [182, 0, 71, 182, 0, 75, 153, 0, 10, 42, 182, 0, 82, 167, 0, 7, 42, 182, 0, 85, 61, 43, 78, 2]
abbrev dktX15_oneArgument_1 : List UInt8 := dkwX15_oneArgument_1 ++ dktX15_oneArgument_2
def dkwX15_oneArgument_0 : List UInt8 := [18, 80, 187, 0, 54, 89, 183, 0, 56, 18, 59, 182, 0, 61, 43, 182, 0, 61, 18, 59, 182, 0, 61]
abbrev dktX15_oneArgument_0 : List UInt8 := dkwX15_oneArgument_0 ++ dktX15_oneArgument_1
theorem dksX15_oneArgument_0 : cX15_oneArgument.data.toList.drop 0 = dktX15_oneArgument_0 := by decide +kernel
theorem dksX15_oneArgument_1 : cX15_oneArgument.data.toList.drop 23 = dktX15_oneArgument_1 := dk_seg dksX15_oneArgument_0 23 rfl rfl
theorem dksX15_oneArgument_2 : cX15_oneArgument.data.toList.drop 47 = dktX15_oneArgument_2 := dk_seg dksX15_oneArgument_1 24 rfl rfl
theorem dksX15_oneArgument_3 : cX15_oneArgument.data.toList.drop 53 = dktX15_oneArgument_3 := dk_seg dksX15_oneArgument_2 6 rfl rfl
theorem dksX15_oneArgument_4 : cX15_oneArgument.data.toList.drop 128 = dktX15_oneArgument_4 := dk_seg dksX15_oneArgument_3 75 rfl rfl
theorem dksX15_oneArgument_5 : cX15_oneArgument.data.toList.drop 152 = dktX15_oneArgument_5 := dk_seg dksX15_oneArgument_4 24 rfl rfl
theorem dksX15_oneArgument_6 : cX15_oneArgument.data.toList.drop 176 = dktX15_oneArgument_6 := dk_seg dksX15_oneArgument_5 24 rfl rfl
theorem dksX15_oneArgument_7 : cX15_oneArgument.data.toList.drop 200 = dktX15_oneArgument_7 := dk_seg dksX15_oneArgument_6 24 rfl rfl
theorem dksX15_oneArgument_8 : cX15_oneArgument.data.toList.drop 224 = dktX15_oneArgument_8 := dk_seg dksX15_oneArgument_7 24 rfl rfl
theorem dksX15_oneArgument_9 : cX15_oneArgument.data.toList.drop 247 = dktX15_oneArgument_9 := dk_seg dksX15_oneArgument_8 23 rfl rfl
theorem dksX15_oneArgument_10 : cX15_oneArgument.data.toList.drop 249 = dktX15_oneArgument_10 := dk_seg dksX15_oneArgument_9 2 rfl rfl
theorem dksX15_oneArgument_11 : cX15_oneArgument.data.toList.drop 296 = dktX15_oneArgument_11 := dk_seg dksX15_oneArgument_10 47 rfl rfl
theorem dksX15_oneArgument_12 : cX15_oneArgument.data.toList.drop 318 = dktX15_oneArgument_12 := dk_seg dksX15_oneArgument_11 22 rfl rfl
theorem dksX15_oneArgument_13 : cX15_oneArgument.data.toList.drop 339 = dktX15_oneArgument_13 := dk_seg dksX15_oneArgument_12 21 rfl rfl
theorem dX15_oneArgument_0 : decode cX15_oneArgument 0 = .ok (.ldc 80, 2) := dk_18 80 (dk_at dksX15_oneArgument_0 0 rfl rfl)
theorem dX15_oneArgument_2 : decode cX15_oneArgument 2 = .ok (.new 54, 3) := dk_187 0 54 (dk_at dksX15_oneArgument_0 2 rfl rfl)
theorem dX15_oneArgument_5 : decode cX15_oneArgument 5 = .ok (.dup, 1) := dk_89 (dk_at dksX15_oneArgument_0 5 rfl rfl)
theorem dX15_oneArgument_6 : decode cX15_oneArgument 6 = .ok (.invokespecial 56, 3) := dk_183 0 56 (dk_at dksX15_oneArgument_0 6 rfl rfl)
theorem dX15_oneArgument_9 : decode cX15_oneArgument 9 = .ok (.ldc 59, 2) := dk_18 59 (dk_at dksX15_oneArgument_0 9 rfl rfl)
theorem dX15_oneArgument_11 : decode cX15_oneArgument 11 = .ok (.invokevirtual 61, 3) := dk_182 0 61 (dk_at dksX15_oneArgument_0 11 rfl rfl)
theorem dX15_oneArgument_14 : decode cX15_oneArgument 14 = .ok (.aload_n 1, 1) := dk_43 (dk_at dksX15_oneArgument_0 14 rfl rfl)
theorem dX15_oneArgument_15 : decode cX15_oneArgument 15 = .ok (.invokevirtual 61, 3) := dk_182 0 61 (dk_at dksX15_oneArgument_0 15 rfl rfl)
theorem dX15_oneArgument_18 : decode cX15_oneArgument 18 = .ok (.ldc 59, 2) := dk_18 59 (dk_at dksX15_oneArgument_0 18 rfl rfl)
theorem dX15_oneArgument_20 : decode cX15_oneArgument 20 = .ok (.invokevirtual 61, 3) := dk_182 0 61 (dk_at dksX15_oneArgument_0 20 rfl rfl)
theorem dX15_oneArgument_23 : decode cX15_oneArgument 23 = .ok (.invokevirtual 71, 3) := dk_182 0 71 (dk_at dksX15_oneArgument_1 0 rfl rfl)
theorem dX15_oneArgument_26 : decode cX15_oneArgument 26 = .ok (.invokevirtual 75, 3) := dk_182 0 75 (dk_at dksX15_oneArgument_1 3 rfl rfl)
theorem dX15_oneArgument_29 : decode cX15_oneArgument 29 = .ok (.ifCond .eq 10, 3) := dk_153 0 10 (dk_at dksX15_oneArgument_1 6 rfl rfl)
theorem dX15_oneArgument_32 : decode cX15_oneArgument 32 = .ok (.aload_n 0, 1) := dk_42 (dk_at dksX15_oneArgument_1 9 rfl rfl)
theorem dX15_oneArgument_33 : decode cX15_oneArgument 33 = .ok (.invokevirtual 82, 3) := dk_182 0 82 (dk_at dksX15_oneArgument_1 10 rfl rfl)
theorem dX15_oneArgument_36 : decode cX15_oneArgument 36 = .ok (.goto 7, 3) := dk_167 0 7 (dk_at dksX15_oneArgument_1 13 rfl rfl)
theorem dX15_oneArgument_39 : decode cX15_oneArgument 39 = .ok (.aload_n 0, 1) := dk_42 (dk_at dksX15_oneArgument_1 16 rfl rfl)
theorem dX15_oneArgument_40 : decode cX15_oneArgument 40 = .ok (.invokevirtual 85, 3) := dk_182 0 85 (dk_at dksX15_oneArgument_1 17 rfl rfl)
theorem dX15_oneArgument_43 : decode cX15_oneArgument 43 = .ok (.istore_n 2, 1) := dk_61 (dk_at dksX15_oneArgument_1 20 rfl rfl)
theorem dX15_oneArgument_44 : decode cX15_oneArgument 44 = .ok (.aload_n 1, 1) := dk_43 (dk_at dksX15_oneArgument_1 21 rfl rfl)
theorem dX15_oneArgument_45 : decode cX15_oneArgument 45 = .ok (.astore_n 3, 1) := dk_78 (dk_at dksX15_oneArgument_1 22 rfl rfl)
theorem dX15_oneArgument_46 : decode cX15_oneArgument 46 = .ok (.iconst (-1), 1) := dk_2 (dk_at dksX15_oneArgument_1 23 rfl rfl)
theorem dX15_oneArgument_47 : decode cX15_oneArgument 47 = .ok (.istore 4, 2) := dk_54 4 (dk_at dksX15_oneArgument_2 0 rfl rfl)
theorem dX15_oneArgument_49 : decode cX15_oneArgument 49 = .ok (.aload_n 3, 1) := dk_45 (dk_at dksX15_oneArgument_2 2 rfl rfl)
theorem dX15_oneArgument_50 : decode cX15_oneArgument 50 = .ok (.invokevirtual 88, 3) := dk_182 0 88 (dk_at dksX15_oneArgument_2 3 rfl rfl)
theorem dX15_oneArgument_53 : decode cX15_oneArgument 53 = .ok (.lookupswitch 194 #[(-1396347377, 105), (-1367724422, 135), (-1240627241, 75), (-934922479, 120), (3154629, 181), (3496916, 150), (3641764, 165), (94011453, 90)], 75) := by decide +kernel
theorem dX15_oneArgument_128 : decode cX15_oneArgument 128 = .ok (.aload_n 3, 1) := dk_45 (dk_at dksX15_oneArgument_4 0 rfl rfl)
theorem dX15_oneArgument_129 : decode cX15_oneArgument 129 = .ok (.ldc 91, 2) := dk_18 91 (dk_at dksX15_oneArgument_4 1 rfl rfl)
theorem dX15_oneArgument_131 : decode cX15_oneArgument 131 = .ok (.invokevirtual 93, 3) := dk_182 0 93 (dk_at dksX15_oneArgument_4 3 rfl rfl)
theorem dX15_oneArgument_134 : decode cX15_oneArgument 134 = .ok (.ifCond .eq 113, 3) := dk_153 0 113 (dk_at dksX15_oneArgument_4 6 rfl rfl)
theorem dX15_oneArgument_137 : decode cX15_oneArgument 137 = .ok (.iconst 0, 1) := dk_3 (dk_at dksX15_oneArgument_4 9 rfl rfl)
theorem dX15_oneArgument_138 : decode cX15_oneArgument 138 = .ok (.istore 4, 2) := dk_54 4 (dk_at dksX15_oneArgument_4 10 rfl rfl)
theorem dX15_oneArgument_140 : decode cX15_oneArgument 140 = .ok (.goto 107, 3) := dk_167 0 107 (dk_at dksX15_oneArgument_4 12 rfl rfl)
theorem dX15_oneArgument_143 : decode cX15_oneArgument 143 = .ok (.aload_n 3, 1) := dk_45 (dk_at dksX15_oneArgument_4 15 rfl rfl)
theorem dX15_oneArgument_144 : decode cX15_oneArgument 144 = .ok (.ldc 97, 2) := dk_18 97 (dk_at dksX15_oneArgument_4 16 rfl rfl)
theorem dX15_oneArgument_146 : decode cX15_oneArgument 146 = .ok (.invokevirtual 93, 3) := dk_182 0 93 (dk_at dksX15_oneArgument_4 18 rfl rfl)
theorem dX15_oneArgument_149 : decode cX15_oneArgument 149 = .ok (.ifCond .eq 98, 3) := dk_153 0 98 (dk_at dksX15_oneArgument_4 21 rfl rfl)
theorem dX15_oneArgument_152 : decode cX15_oneArgument 152 = .ok (.iconst 1, 1) := dk_4 (dk_at dksX15_oneArgument_5 0 rfl rfl)
theorem dX15_oneArgument_153 : decode cX15_oneArgument 153 = .ok (.istore 4, 2) := dk_54 4 (dk_at dksX15_oneArgument_5 1 rfl rfl)
theorem dX15_oneArgument_155 : decode cX15_oneArgument 155 = .ok (.goto 92, 3) := dk_167 0 92 (dk_at dksX15_oneArgument_5 3 rfl rfl)
theorem dX15_oneArgument_158 : decode cX15_oneArgument 158 = .ok (.aload_n 3, 1) := dk_45 (dk_at dksX15_oneArgument_5 6 rfl rfl)
theorem dX15_oneArgument_159 : decode cX15_oneArgument 159 = .ok (.ldc 99, 2) := dk_18 99 (dk_at dksX15_oneArgument_5 7 rfl rfl)
theorem dX15_oneArgument_161 : decode cX15_oneArgument 161 = .ok (.invokevirtual 93, 3) := dk_182 0 93 (dk_at dksX15_oneArgument_5 9 rfl rfl)
theorem dX15_oneArgument_164 : decode cX15_oneArgument 164 = .ok (.ifCond .eq 83, 3) := dk_153 0 83 (dk_at dksX15_oneArgument_5 12 rfl rfl)
theorem dX15_oneArgument_167 : decode cX15_oneArgument 167 = .ok (.iconst 2, 1) := dk_5 (dk_at dksX15_oneArgument_5 15 rfl rfl)
theorem dX15_oneArgument_168 : decode cX15_oneArgument 168 = .ok (.istore 4, 2) := dk_54 4 (dk_at dksX15_oneArgument_5 16 rfl rfl)
theorem dX15_oneArgument_170 : decode cX15_oneArgument 170 = .ok (.goto 77, 3) := dk_167 0 77 (dk_at dksX15_oneArgument_5 18 rfl rfl)
theorem dX15_oneArgument_173 : decode cX15_oneArgument 173 = .ok (.aload_n 3, 1) := dk_45 (dk_at dksX15_oneArgument_5 21 rfl rfl)
theorem dX15_oneArgument_174 : decode cX15_oneArgument 174 = .ok (.ldc 101, 2) := dk_18 101 (dk_at dksX15_oneArgument_5 22 rfl rfl)
theorem dX15_oneArgument_176 : decode cX15_oneArgument 176 = .ok (.invokevirtual 93, 3) := dk_182 0 93 (dk_at dksX15_oneArgument_6 0 rfl rfl)
theorem dX15_oneArgument_179 : decode cX15_oneArgument 179 = .ok (.ifCond .eq 68, 3) := dk_153 0 68 (dk_at dksX15_oneArgument_6 3 rfl rfl)
theorem dX15_oneArgument_182 : decode cX15_oneArgument 182 = .ok (.iconst 3, 1) := dk_6 (dk_at dksX15_oneArgument_6 6 rfl rfl)
theorem dX15_oneArgument_183 : decode cX15_oneArgument 183 = .ok (.istore 4, 2) := dk_54 4 (dk_at dksX15_oneArgument_6 7 rfl rfl)
theorem dX15_oneArgument_185 : decode cX15_oneArgument 185 = .ok (.goto 62, 3) := dk_167 0 62 (dk_at dksX15_oneArgument_6 9 rfl rfl)
theorem dX15_oneArgument_188 : decode cX15_oneArgument 188 = .ok (.aload_n 3, 1) := dk_45 (dk_at dksX15_oneArgument_6 12 rfl rfl)
theorem dX15_oneArgument_189 : decode cX15_oneArgument 189 = .ok (.ldc 103, 2) := dk_18 103 (dk_at dksX15_oneArgument_6 13 rfl rfl)
theorem dX15_oneArgument_191 : decode cX15_oneArgument 191 = .ok (.invokevirtual 93, 3) := dk_182 0 93 (dk_at dksX15_oneArgument_6 15 rfl rfl)
theorem dX15_oneArgument_194 : decode cX15_oneArgument 194 = .ok (.ifCond .eq 53, 3) := dk_153 0 53 (dk_at dksX15_oneArgument_6 18 rfl rfl)
theorem dX15_oneArgument_197 : decode cX15_oneArgument 197 = .ok (.iconst 4, 1) := dk_7 (dk_at dksX15_oneArgument_6 21 rfl rfl)
theorem dX15_oneArgument_198 : decode cX15_oneArgument 198 = .ok (.istore 4, 2) := dk_54 4 (dk_at dksX15_oneArgument_6 22 rfl rfl)
theorem dX15_oneArgument_200 : decode cX15_oneArgument 200 = .ok (.goto 47, 3) := dk_167 0 47 (dk_at dksX15_oneArgument_7 0 rfl rfl)
theorem dX15_oneArgument_203 : decode cX15_oneArgument 203 = .ok (.aload_n 3, 1) := dk_45 (dk_at dksX15_oneArgument_7 3 rfl rfl)
theorem dX15_oneArgument_204 : decode cX15_oneArgument 204 = .ok (.ldc 105, 2) := dk_18 105 (dk_at dksX15_oneArgument_7 4 rfl rfl)
theorem dX15_oneArgument_206 : decode cX15_oneArgument 206 = .ok (.invokevirtual 93, 3) := dk_182 0 93 (dk_at dksX15_oneArgument_7 6 rfl rfl)
theorem dX15_oneArgument_209 : decode cX15_oneArgument 209 = .ok (.ifCond .eq 38, 3) := dk_153 0 38 (dk_at dksX15_oneArgument_7 9 rfl rfl)
theorem dX15_oneArgument_212 : decode cX15_oneArgument 212 = .ok (.iconst 5, 1) := dk_8 (dk_at dksX15_oneArgument_7 12 rfl rfl)
theorem dX15_oneArgument_213 : decode cX15_oneArgument 213 = .ok (.istore 4, 2) := dk_54 4 (dk_at dksX15_oneArgument_7 13 rfl rfl)
theorem dX15_oneArgument_215 : decode cX15_oneArgument 215 = .ok (.goto 32, 3) := dk_167 0 32 (dk_at dksX15_oneArgument_7 15 rfl rfl)
theorem dX15_oneArgument_218 : decode cX15_oneArgument 218 = .ok (.aload_n 3, 1) := dk_45 (dk_at dksX15_oneArgument_7 18 rfl rfl)
theorem dX15_oneArgument_219 : decode cX15_oneArgument 219 = .ok (.ldc 107, 2) := dk_18 107 (dk_at dksX15_oneArgument_7 19 rfl rfl)
theorem dX15_oneArgument_221 : decode cX15_oneArgument 221 = .ok (.invokevirtual 93, 3) := dk_182 0 93 (dk_at dksX15_oneArgument_7 21 rfl rfl)
theorem dX15_oneArgument_224 : decode cX15_oneArgument 224 = .ok (.ifCond .eq 23, 3) := dk_153 0 23 (dk_at dksX15_oneArgument_8 0 rfl rfl)
theorem dX15_oneArgument_227 : decode cX15_oneArgument 227 = .ok (.bipush 6, 2) := dk_16 6 (dk_at dksX15_oneArgument_8 3 rfl rfl)
theorem dX15_oneArgument_229 : decode cX15_oneArgument 229 = .ok (.istore 4, 2) := dk_54 4 (dk_at dksX15_oneArgument_8 5 rfl rfl)
theorem dX15_oneArgument_231 : decode cX15_oneArgument 231 = .ok (.goto 16, 3) := dk_167 0 16 (dk_at dksX15_oneArgument_8 7 rfl rfl)
theorem dX15_oneArgument_234 : decode cX15_oneArgument 234 = .ok (.aload_n 3, 1) := dk_45 (dk_at dksX15_oneArgument_8 10 rfl rfl)
theorem dX15_oneArgument_235 : decode cX15_oneArgument 235 = .ok (.ldc 109, 2) := dk_18 109 (dk_at dksX15_oneArgument_8 11 rfl rfl)
theorem dX15_oneArgument_237 : decode cX15_oneArgument 237 = .ok (.invokevirtual 93, 3) := dk_182 0 93 (dk_at dksX15_oneArgument_8 13 rfl rfl)
theorem dX15_oneArgument_240 : decode cX15_oneArgument 240 = .ok (.ifCond .eq 7, 3) := dk_153 0 7 (dk_at dksX15_oneArgument_8 16 rfl rfl)
theorem dX15_oneArgument_243 : decode cX15_oneArgument 243 = .ok (.bipush 7, 2) := dk_16 7 (dk_at dksX15_oneArgument_8 19 rfl rfl)
theorem dX15_oneArgument_245 : decode cX15_oneArgument 245 = .ok (.istore 4, 2) := dk_54 4 (dk_at dksX15_oneArgument_8 21 rfl rfl)
theorem dX15_oneArgument_247 : decode cX15_oneArgument 247 = .ok (.iload 4, 2) := dk_21 4 (dk_at dksX15_oneArgument_9 0 rfl rfl)
theorem dX15_oneArgument_249 : decode cX15_oneArgument 249 = .ok (.tableswitch 103 0 7 #[47, 54, 61, 68, 75, 82, 89, 96], 47) := by decide +kernel
theorem dX15_oneArgument_296 : decode cX15_oneArgument 296 = .ok (.iload_n 2, 1) := dk_28 (dk_at dksX15_oneArgument_11 0 rfl rfl)
theorem dX15_oneArgument_297 : decode cX15_oneArgument 297 = .ok (.invokedynamic 111, 5) := by decide +kernel
theorem dX15_oneArgument_302 : decode cX15_oneArgument 302 = .ok (.areturn, 1) := dk_176 (dk_at dksX15_oneArgument_11 6 rfl rfl)
theorem dX15_oneArgument_303 : decode cX15_oneArgument 303 = .ok (.iload_n 2, 1) := dk_28 (dk_at dksX15_oneArgument_11 7 rfl rfl)
theorem dX15_oneArgument_304 : decode cX15_oneArgument 304 = .ok (.invokedynamic 115, 5) := by decide +kernel
theorem dX15_oneArgument_309 : decode cX15_oneArgument 309 = .ok (.areturn, 1) := dk_176 (dk_at dksX15_oneArgument_11 13 rfl rfl)
theorem dX15_oneArgument_310 : decode cX15_oneArgument 310 = .ok (.iload_n 2, 1) := dk_28 (dk_at dksX15_oneArgument_11 14 rfl rfl)
theorem dX15_oneArgument_311 : decode cX15_oneArgument 311 = .ok (.invokedynamic 116, 5) := by decide +kernel
theorem dX15_oneArgument_316 : decode cX15_oneArgument 316 = .ok (.areturn, 1) := dk_176 (dk_at dksX15_oneArgument_11 20 rfl rfl)
theorem dX15_oneArgument_317 : decode cX15_oneArgument 317 = .ok (.iload_n 2, 1) := dk_28 (dk_at dksX15_oneArgument_11 21 rfl rfl)
theorem dX15_oneArgument_318 : decode cX15_oneArgument 318 = .ok (.invokedynamic 117, 5) := by decide +kernel
theorem dX15_oneArgument_323 : decode cX15_oneArgument 323 = .ok (.areturn, 1) := dk_176 (dk_at dksX15_oneArgument_12 5 rfl rfl)
theorem dX15_oneArgument_324 : decode cX15_oneArgument 324 = .ok (.iload_n 2, 1) := dk_28 (dk_at dksX15_oneArgument_12 6 rfl rfl)
theorem dX15_oneArgument_325 : decode cX15_oneArgument 325 = .ok (.invokedynamic 118, 5) := by decide +kernel
theorem dX15_oneArgument_330 : decode cX15_oneArgument 330 = .ok (.areturn, 1) := dk_176 (dk_at dksX15_oneArgument_12 12 rfl rfl)
theorem dX15_oneArgument_331 : decode cX15_oneArgument 331 = .ok (.iload_n 2, 1) := dk_28 (dk_at dksX15_oneArgument_12 13 rfl rfl)
theorem dX15_oneArgument_332 : decode cX15_oneArgument 332 = .ok (.invokedynamic 119, 5) := by decide +kernel
theorem dX15_oneArgument_337 : decode cX15_oneArgument 337 = .ok (.areturn, 1) := dk_176 (dk_at dksX15_oneArgument_12 19 rfl rfl)
theorem dX15_oneArgument_338 : decode cX15_oneArgument 338 = .ok (.iload_n 2, 1) := dk_28 (dk_at dksX15_oneArgument_12 20 rfl rfl)
theorem dX15_oneArgument_339 : decode cX15_oneArgument 339 = .ok (.invokedynamic 120, 5) := by decide +kernel
theorem dX15_oneArgument_344 : decode cX15_oneArgument 344 = .ok (.areturn, 1) := dk_176 (dk_at dksX15_oneArgument_13 5 rfl rfl)
theorem dX15_oneArgument_345 : decode cX15_oneArgument 345 = .ok (.iload_n 2, 1) := dk_28 (dk_at dksX15_oneArgument_13 6 rfl rfl)
theorem dX15_oneArgument_346 : decode cX15_oneArgument 346 = .ok (.invokedynamic 121, 5) := by decide +kernel
theorem dX15_oneArgument_351 : decode cX15_oneArgument 351 = .ok (.areturn, 1) := dk_176 (dk_at dksX15_oneArgument_13 12 rfl rfl)
theorem dX15_oneArgument_352 : decode cX15_oneArgument 352 = .ok (.iload_n 2, 1) := dk_28 (dk_at dksX15_oneArgument_13 13 rfl rfl)
theorem dX15_oneArgument_353 : decode cX15_oneArgument 353 = .ok (.invokedynamic 122, 5) := by decide +kernel
theorem dX15_oneArgument_358 : decode cX15_oneArgument 358 = .ok (.areturn, 1) := dk_176 (dk_at dksX15_oneArgument_13 19 rfl rfl)
abbrev cX15_lambda_oneArgument_0 : ByteArray := prog_19_method_25_code
def yX15_lambda_oneArgument_0 : MethodName := ⟨RX15, "lambda$oneArgument$0", "(ILGoblinHousehold$Household;)I"⟩
def dkwX15_lambda_oneArgument_0_0 : List UInt8 := [43, 26, 182, 0, 190, 172]
abbrev dktX15_lambda_oneArgument_0_0 : List UInt8 := dkwX15_lambda_oneArgument_0_0 ++ []
theorem dksX15_lambda_oneArgument_0_0 : cX15_lambda_oneArgument_0.data.toList.drop 0 = dktX15_lambda_oneArgument_0_0 := by decide +kernel
theorem dX15_lambda_oneArgument_0_0 : decode cX15_lambda_oneArgument_0 0 = .ok (.aload_n 1, 1) := dk_43 (dk_at dksX15_lambda_oneArgument_0_0 0 rfl rfl)
theorem dX15_lambda_oneArgument_0_1 : decode cX15_lambda_oneArgument_0 1 = .ok (.iload_n 0, 1) := dk_26 (dk_at dksX15_lambda_oneArgument_0_0 1 rfl rfl)
theorem dX15_lambda_oneArgument_0_2 : decode cX15_lambda_oneArgument_0 2 = .ok (.invokevirtual 190, 3) := dk_182 0 190 (dk_at dksX15_lambda_oneArgument_0_0 2 rfl rfl)
theorem dX15_lambda_oneArgument_0_5 : decode cX15_lambda_oneArgument_0 5 = .ok (.ireturn, 1) := dk_172 (dk_at dksX15_lambda_oneArgument_0_0 5 rfl rfl)
abbrev cX15_lambda_oneArgument_1 : ByteArray := prog_19_method_24_code
def yX15_lambda_oneArgument_1 : MethodName := ⟨RX15, "lambda$oneArgument$1", "(ILGoblinHousehold$Household;)I"⟩
def dkwX15_lambda_oneArgument_1_0 : List UInt8 := [43, 26, 182, 0, 187, 172]
abbrev dktX15_lambda_oneArgument_1_0 : List UInt8 := dkwX15_lambda_oneArgument_1_0 ++ []
theorem dksX15_lambda_oneArgument_1_0 : cX15_lambda_oneArgument_1.data.toList.drop 0 = dktX15_lambda_oneArgument_1_0 := by decide +kernel
theorem dX15_lambda_oneArgument_1_0 : decode cX15_lambda_oneArgument_1 0 = .ok (.aload_n 1, 1) := dk_43 (dk_at dksX15_lambda_oneArgument_1_0 0 rfl rfl)
theorem dX15_lambda_oneArgument_1_1 : decode cX15_lambda_oneArgument_1 1 = .ok (.iload_n 0, 1) := dk_26 (dk_at dksX15_lambda_oneArgument_1_0 1 rfl rfl)
theorem dX15_lambda_oneArgument_1_2 : decode cX15_lambda_oneArgument_1 2 = .ok (.invokevirtual 187, 3) := dk_182 0 187 (dk_at dksX15_lambda_oneArgument_1_0 2 rfl rfl)
theorem dX15_lambda_oneArgument_1_5 : decode cX15_lambda_oneArgument_1 5 = .ok (.ireturn, 1) := dk_172 (dk_at dksX15_lambda_oneArgument_1_0 5 rfl rfl)
abbrev cX15_lambda_oneArgument_2 : ByteArray := prog_19_method_23_code
def yX15_lambda_oneArgument_2 : MethodName := ⟨RX15, "lambda$oneArgument$2", "(ILGoblinHousehold$Household;)I"⟩
def dkwX15_lambda_oneArgument_2_0 : List UInt8 := [43, 26, 182, 0, 185, 172]
abbrev dktX15_lambda_oneArgument_2_0 : List UInt8 := dkwX15_lambda_oneArgument_2_0 ++ []
theorem dksX15_lambda_oneArgument_2_0 : cX15_lambda_oneArgument_2.data.toList.drop 0 = dktX15_lambda_oneArgument_2_0 := by decide +kernel
theorem dX15_lambda_oneArgument_2_0 : decode cX15_lambda_oneArgument_2 0 = .ok (.aload_n 1, 1) := dk_43 (dk_at dksX15_lambda_oneArgument_2_0 0 rfl rfl)
theorem dX15_lambda_oneArgument_2_1 : decode cX15_lambda_oneArgument_2 1 = .ok (.iload_n 0, 1) := dk_26 (dk_at dksX15_lambda_oneArgument_2_0 1 rfl rfl)
theorem dX15_lambda_oneArgument_2_2 : decode cX15_lambda_oneArgument_2 2 = .ok (.invokevirtual 185, 3) := dk_182 0 185 (dk_at dksX15_lambda_oneArgument_2_0 2 rfl rfl)
theorem dX15_lambda_oneArgument_2_5 : decode cX15_lambda_oneArgument_2 5 = .ok (.ireturn, 1) := dk_172 (dk_at dksX15_lambda_oneArgument_2_0 5 rfl rfl)
abbrev cX15_lambda_oneArgument_3 : ByteArray := prog_19_method_22_code
def yX15_lambda_oneArgument_3 : MethodName := ⟨RX15, "lambda$oneArgument$3", "(ILGoblinHousehold$Household;)I"⟩
def dkwX15_lambda_oneArgument_3_0 : List UInt8 := [43, 26, 182, 0, 183, 172]
abbrev dktX15_lambda_oneArgument_3_0 : List UInt8 := dkwX15_lambda_oneArgument_3_0 ++ []
theorem dksX15_lambda_oneArgument_3_0 : cX15_lambda_oneArgument_3.data.toList.drop 0 = dktX15_lambda_oneArgument_3_0 := by decide +kernel
theorem dX15_lambda_oneArgument_3_0 : decode cX15_lambda_oneArgument_3 0 = .ok (.aload_n 1, 1) := dk_43 (dk_at dksX15_lambda_oneArgument_3_0 0 rfl rfl)
theorem dX15_lambda_oneArgument_3_1 : decode cX15_lambda_oneArgument_3 1 = .ok (.iload_n 0, 1) := dk_26 (dk_at dksX15_lambda_oneArgument_3_0 1 rfl rfl)
theorem dX15_lambda_oneArgument_3_2 : decode cX15_lambda_oneArgument_3 2 = .ok (.invokevirtual 183, 3) := dk_182 0 183 (dk_at dksX15_lambda_oneArgument_3_0 2 rfl rfl)
theorem dX15_lambda_oneArgument_3_5 : decode cX15_lambda_oneArgument_3 5 = .ok (.ireturn, 1) := dk_172 (dk_at dksX15_lambda_oneArgument_3_0 5 rfl rfl)
abbrev cX15_lambda_oneArgument_4 : ByteArray := prog_19_method_21_code
def yX15_lambda_oneArgument_4 : MethodName := ⟨RX15, "lambda$oneArgument$4", "(ILGoblinHousehold$Household;)I"⟩
def dkwX15_lambda_oneArgument_4_0 : List UInt8 := [43, 26, 182, 0, 181, 172]
abbrev dktX15_lambda_oneArgument_4_0 : List UInt8 := dkwX15_lambda_oneArgument_4_0 ++ []
theorem dksX15_lambda_oneArgument_4_0 : cX15_lambda_oneArgument_4.data.toList.drop 0 = dktX15_lambda_oneArgument_4_0 := by decide +kernel
theorem dX15_lambda_oneArgument_4_0 : decode cX15_lambda_oneArgument_4 0 = .ok (.aload_n 1, 1) := dk_43 (dk_at dksX15_lambda_oneArgument_4_0 0 rfl rfl)
theorem dX15_lambda_oneArgument_4_1 : decode cX15_lambda_oneArgument_4 1 = .ok (.iload_n 0, 1) := dk_26 (dk_at dksX15_lambda_oneArgument_4_0 1 rfl rfl)
theorem dX15_lambda_oneArgument_4_2 : decode cX15_lambda_oneArgument_4 2 = .ok (.invokevirtual 181, 3) := dk_182 0 181 (dk_at dksX15_lambda_oneArgument_4_0 2 rfl rfl)
theorem dX15_lambda_oneArgument_4_5 : decode cX15_lambda_oneArgument_4 5 = .ok (.ireturn, 1) := dk_172 (dk_at dksX15_lambda_oneArgument_4_0 5 rfl rfl)
abbrev cX15_lambda_oneArgument_5 : ByteArray := prog_19_method_20_code
def yX15_lambda_oneArgument_5 : MethodName := ⟨RX15, "lambda$oneArgument$5", "(ILGoblinHousehold$Household;)I"⟩
def dkwX15_lambda_oneArgument_5_0 : List UInt8 := [43, 26, 4, 182, 0, 177, 172]
abbrev dktX15_lambda_oneArgument_5_0 : List UInt8 := dkwX15_lambda_oneArgument_5_0 ++ []
theorem dksX15_lambda_oneArgument_5_0 : cX15_lambda_oneArgument_5.data.toList.drop 0 = dktX15_lambda_oneArgument_5_0 := by decide +kernel
theorem dX15_lambda_oneArgument_5_0 : decode cX15_lambda_oneArgument_5 0 = .ok (.aload_n 1, 1) := dk_43 (dk_at dksX15_lambda_oneArgument_5_0 0 rfl rfl)
theorem dX15_lambda_oneArgument_5_1 : decode cX15_lambda_oneArgument_5 1 = .ok (.iload_n 0, 1) := dk_26 (dk_at dksX15_lambda_oneArgument_5_0 1 rfl rfl)
theorem dX15_lambda_oneArgument_5_2 : decode cX15_lambda_oneArgument_5 2 = .ok (.iconst 1, 1) := dk_4 (dk_at dksX15_lambda_oneArgument_5_0 2 rfl rfl)
theorem dX15_lambda_oneArgument_5_3 : decode cX15_lambda_oneArgument_5 3 = .ok (.invokevirtual 177, 3) := dk_182 0 177 (dk_at dksX15_lambda_oneArgument_5_0 3 rfl rfl)
theorem dX15_lambda_oneArgument_5_6 : decode cX15_lambda_oneArgument_5 6 = .ok (.ireturn, 1) := dk_172 (dk_at dksX15_lambda_oneArgument_5_0 6 rfl rfl)
abbrev cX15_lambda_oneArgument_6 : ByteArray := prog_19_method_19_code
def yX15_lambda_oneArgument_6 : MethodName := ⟨RX15, "lambda$oneArgument$6", "(ILGoblinHousehold$Household;)I"⟩
def dkwX15_lambda_oneArgument_6_0 : List UInt8 := [43, 26, 3, 182, 0, 177, 172]
abbrev dktX15_lambda_oneArgument_6_0 : List UInt8 := dkwX15_lambda_oneArgument_6_0 ++ []
theorem dksX15_lambda_oneArgument_6_0 : cX15_lambda_oneArgument_6.data.toList.drop 0 = dktX15_lambda_oneArgument_6_0 := by decide +kernel
theorem dX15_lambda_oneArgument_6_0 : decode cX15_lambda_oneArgument_6 0 = .ok (.aload_n 1, 1) := dk_43 (dk_at dksX15_lambda_oneArgument_6_0 0 rfl rfl)
theorem dX15_lambda_oneArgument_6_1 : decode cX15_lambda_oneArgument_6 1 = .ok (.iload_n 0, 1) := dk_26 (dk_at dksX15_lambda_oneArgument_6_0 1 rfl rfl)
theorem dX15_lambda_oneArgument_6_2 : decode cX15_lambda_oneArgument_6 2 = .ok (.iconst 0, 1) := dk_3 (dk_at dksX15_lambda_oneArgument_6_0 2 rfl rfl)
theorem dX15_lambda_oneArgument_6_3 : decode cX15_lambda_oneArgument_6 3 = .ok (.invokevirtual 177, 3) := dk_182 0 177 (dk_at dksX15_lambda_oneArgument_6_0 3 rfl rfl)
theorem dX15_lambda_oneArgument_6_6 : decode cX15_lambda_oneArgument_6 6 = .ok (.ireturn, 1) := dk_172 (dk_at dksX15_lambda_oneArgument_6_0 6 rfl rfl)
abbrev cX15_lambda_oneArgument_7 : ByteArray := prog_19_method_18_code
def yX15_lambda_oneArgument_7 : MethodName := ⟨RX15, "lambda$oneArgument$7", "(ILGoblinHousehold$Household;)I"⟩
def dkwX15_lambda_oneArgument_7_0 : List UInt8 := [43, 26, 182, 0, 175, 172]
abbrev dktX15_lambda_oneArgument_7_0 : List UInt8 := dkwX15_lambda_oneArgument_7_0 ++ []
theorem dksX15_lambda_oneArgument_7_0 : cX15_lambda_oneArgument_7.data.toList.drop 0 = dktX15_lambda_oneArgument_7_0 := by decide +kernel
theorem dX15_lambda_oneArgument_7_0 : decode cX15_lambda_oneArgument_7 0 = .ok (.aload_n 1, 1) := dk_43 (dk_at dksX15_lambda_oneArgument_7_0 0 rfl rfl)
theorem dX15_lambda_oneArgument_7_1 : decode cX15_lambda_oneArgument_7 1 = .ok (.iload_n 0, 1) := dk_26 (dk_at dksX15_lambda_oneArgument_7_0 1 rfl rfl)
theorem dX15_lambda_oneArgument_7_2 : decode cX15_lambda_oneArgument_7 2 = .ok (.invokevirtual 175, 3) := dk_182 0 175 (dk_at dksX15_lambda_oneArgument_7_0 2 rfl rfl)
theorem dX15_lambda_oneArgument_7_5 : decode cX15_lambda_oneArgument_7 5 = .ok (.ireturn, 1) := dk_172 (dk_at dksX15_lambda_oneArgument_7_0 5 rfl rfl)
abbrev cX15_lambda_oneArgument_8 : ByteArray := prog_19_method_17_code
def yX15_lambda_oneArgument_8 : MethodName := ⟨RX15, "lambda$oneArgument$8", "(ILGoblinHousehold$Household;)I"⟩
def dkwX15_lambda_oneArgument_8_0 : List UInt8 := [43, 26, 182, 0, 172, 172]
abbrev dktX15_lambda_oneArgument_8_0 : List UInt8 := dkwX15_lambda_oneArgument_8_0 ++ []
theorem dksX15_lambda_oneArgument_8_0 : cX15_lambda_oneArgument_8.data.toList.drop 0 = dktX15_lambda_oneArgument_8_0 := by decide +kernel
theorem dX15_lambda_oneArgument_8_0 : decode cX15_lambda_oneArgument_8 0 = .ok (.aload_n 1, 1) := dk_43 (dk_at dksX15_lambda_oneArgument_8_0 0 rfl rfl)
theorem dX15_lambda_oneArgument_8_1 : decode cX15_lambda_oneArgument_8 1 = .ok (.iload_n 0, 1) := dk_26 (dk_at dksX15_lambda_oneArgument_8_0 1 rfl rfl)
theorem dX15_lambda_oneArgument_8_2 : decode cX15_lambda_oneArgument_8 2 = .ok (.invokevirtual 172, 3) := dk_182 0 172 (dk_at dksX15_lambda_oneArgument_8_0 2 rfl rfl)
theorem dX15_lambda_oneArgument_8_5 : decode cX15_lambda_oneArgument_8 5 = .ok (.ireturn, 1) := dk_172 (dk_at dksX15_lambda_oneArgument_8_0 5 rfl rfl)
theorem q140 : (Jvm.Cond.initialized "GoblinHousehold$Parser") ∈ lw_all := lw_g (lw_at lw_m1 47 rfl) rfl
theorem q993 : (Jvm.Cond.selects "GoblinHousehold$Parser" ({ cls := "java/lang/Object", name := "getClass", desc := "()Ljava/lang/Class;" } : Jvm.MethodName) ({ cls := "java/lang/Object", name := "getClass", desc := "()Ljava/lang/Class;" } : Jvm.MethodName)) ∈ lw_all := lw_g (lw_at lw_m4 180 rfl) rfl
theorem q1510 : (Jvm.Cond.selects "GoblinHousehold$Parser" ({ cls := "java/lang/Object", name := "equals", desc := "(Ljava/lang/Object;)Z" } : Jvm.MethodName) ({ cls := "java/lang/Object", name := "equals", desc := "(Ljava/lang/Object;)Z" } : Jvm.MethodName)) ∈ lw_all := lw_g (lw_at lw_m6 217 rfl) rfl
theorem q2063 : (Jvm.Cond.instantiable "GoblinHousehold$Parser" (2 : Nat)) ∈ lw_all := lw_g (lw_at lw_m9 50 rfl) rfl
theorem q2066 : (Jvm.Cond.instanceMethod ({ cls := "GoblinHousehold$Parser", name := "<init>", desc := "(Ljava/lang/String;)V" } : Jvm.MethodName)) ∈ lw_all := lw_g (lw_at lw_m9 53 rfl) rfl
theorem q2067 : (Jvm.Cond.code ({ cls := "GoblinHousehold$Parser", name := "<init>", desc := "(Ljava/lang/String;)V" } : Jvm.MethodName) prog_19_method_1_code (2 : Nat) (Option.none : Option Jvm.ClassFile.FieldType)) ∈ lw_all := lw_g (lw_at lw_m9 54 rfl) rfl
theorem q2068 : (Jvm.Cond.methodLink "GoblinHousehold$Parser" (1 : Nat) ({ cls := "java/lang/Object", name := "<init>", desc := "()V" } : Jvm.MethodName)) ∈ lw_all := lw_g (lw_at lw_m9 55 rfl) rfl
theorem q2069 : (Jvm.Cond.fieldLink "GoblinHousehold$Parser" (7 : Nat) "GoblinHousehold$Parser" "text" "Ljava/lang/String;") ∈ lw_all := lw_g (lw_at lw_m9 56 rfl) rfl
theorem q2070 : (Jvm.Cond.fieldLink "GoblinHousehold$Parser" (13 : Nat) "GoblinHousehold$Parser" "at" "I") ∈ lw_all := lw_g (lw_at lw_m9 57 rfl) rfl
theorem q2071 : (Jvm.Cond.laysFinal "GoblinHousehold$Parser" "GoblinHousehold$Parser" "text" "Ljava/lang/String;") ∈ lw_all := lw_g (lw_at lw_m9 58 rfl) rfl
theorem q2072 : (Jvm.Cond.soleField "GoblinHousehold$Parser" "text") ∈ lw_all := lw_g (lw_at lw_m9 59 rfl) rfl
theorem q2073 : (Jvm.Cond.lays "GoblinHousehold$Parser" "GoblinHousehold$Parser" "at" "I") ∈ lw_all := lw_g (lw_at lw_m9 60 rfl) rfl
theorem q2074 : (Jvm.Cond.soleField "GoblinHousehold$Parser" "at") ∈ lw_all := lw_g (lw_at lw_m9 61 rfl) rfl
theorem q2075 : (Jvm.Cond.superclass "GoblinHousehold$Parser" "java/lang/Object") ∈ lw_all := lw_g (lw_at lw_m9 62 rfl) rfl
theorem q2077 : (Jvm.Cond.instanceMethod ({ cls := "GoblinHousehold$Parser", name := "commands", desc := "()Ljava/util/List;" } : Jvm.MethodName)) ∈ lw_all := lw_g (lw_at lw_m9 64 rfl) rfl
theorem q2078 : (Jvm.Cond.selects "GoblinHousehold$Parser" ({ cls := "GoblinHousehold$Parser", name := "commands", desc := "()Ljava/util/List;" } : Jvm.MethodName) ({ cls := "GoblinHousehold$Parser", name := "commands", desc := "()Ljava/util/List;" } : Jvm.MethodName)) ∈ lw_all := lw_g (lw_at lw_m9 65 rfl) rfl
theorem q2079 : (Jvm.Cond.code ({ cls := "GoblinHousehold$Parser", name := "commands", desc := "()Ljava/util/List;" } : Jvm.MethodName) prog_19_method_13_code (2 : Nat) (Option.some (Jvm.ClassFile.FieldType.object "java/util/List"))) ∈ lw_all := lw_g (lw_at lw_m9 66 rfl) rfl
theorem q2080 : (Jvm.Cond.classLink "GoblinHousehold$Parser" (143 : Nat) "java/util/ArrayList") ∈ lw_all := lw_g (lw_at lw_m9 67 rfl) rfl
theorem q2081 : (Jvm.Cond.methodLink "GoblinHousehold$Parser" (145 : Nat) ({ cls := "java/util/ArrayList", name := "<init>", desc := "()V" } : Jvm.MethodName)) ∈ lw_all := lw_g (lw_at lw_m9 68 rfl) rfl
theorem q2082 : (Jvm.Cond.classLink "GoblinHousehold$Parser" (146 : Nat) "GoblinHousehold$Command") ∈ lw_all := lw_g (lw_at lw_m9 69 rfl) rfl
theorem q2084 : (Jvm.Cond.methodLink "GoblinHousehold$Parser" (148 : Nat) ({ cls := "GoblinHousehold$Parser", name := "change", desc := "()LGoblinHousehold$Change;" } : Jvm.MethodName)) ∈ lw_all := lw_g (lw_at lw_m9 71 rfl) rfl
theorem q2085 : (Jvm.Cond.privateMethod ({ cls := "GoblinHousehold$Parser", name := "change", desc := "()LGoblinHousehold$Change;" } : Jvm.MethodName)) ∈ lw_tbl := lw_at lw_m9 72 rfl
theorem q2086 : (Jvm.Cond.instanceMethod ({ cls := "GoblinHousehold$Parser", name := "change", desc := "()LGoblinHousehold$Change;" } : Jvm.MethodName)) ∈ lw_all := lw_g (lw_at lw_m9 73 rfl) rfl
theorem q2087 : (Jvm.Cond.code ({ cls := "GoblinHousehold$Parser", name := "change", desc := "()LGoblinHousehold$Change;" } : Jvm.MethodName) prog_19_method_12_code (11 : Nat) (Option.some (Jvm.ClassFile.FieldType.object "GoblinHousehold$Change"))) ∈ lw_all := lw_g (lw_at lw_m9 74 rfl) rfl
theorem q2088 : (Jvm.Cond.methodLink "GoblinHousehold$Parser" (123 : Nat) ({ cls := "GoblinHousehold$Parser", name := "word", desc := "()Ljava/lang/String;" } : Jvm.MethodName)) ∈ lw_all := lw_g (lw_at lw_m9 75 rfl) rfl
theorem q2089 : (Jvm.Cond.privateMethod ({ cls := "GoblinHousehold$Parser", name := "word", desc := "()Ljava/lang/String;" } : Jvm.MethodName)) ∈ lw_tbl := lw_at lw_m9 76 rfl
theorem q2090 : (Jvm.Cond.instanceMethod ({ cls := "GoblinHousehold$Parser", name := "word", desc := "()Ljava/lang/String;" } : Jvm.MethodName)) ∈ lw_all := lw_g (lw_at lw_m9 77 rfl) rfl
theorem q2091 : (Jvm.Cond.code ({ cls := "GoblinHousehold$Parser", name := "word", desc := "()Ljava/lang/String;" } : Jvm.MethodName) prog_19_method_10_code (2 : Nat) (Option.some (Jvm.ClassFile.FieldType.object "java/lang/String"))) ∈ lw_all := lw_g (lw_at lw_m9 78 rfl) rfl
theorem q2092 : (Jvm.Cond.classLink "GoblinHousehold$Parser" (54 : Nat) "java/lang/StringBuilder") ∈ lw_all := lw_g (lw_at lw_m9 79 rfl) rfl
theorem q2093 : (Jvm.Cond.methodLink "GoblinHousehold$Parser" (56 : Nat) ({ cls := "java/lang/StringBuilder", name := "<init>", desc := "()V" } : Jvm.MethodName)) ∈ lw_all := lw_g (lw_at lw_m9 80 rfl) rfl
theorem q2094 : (Jvm.Cond.methodLink "GoblinHousehold$Parser" (32 : Nat) ({ cls := "GoblinHousehold$Parser", name := "current", desc := "()C" } : Jvm.MethodName)) ∈ lw_all := lw_g (lw_at lw_m9 81 rfl) rfl
theorem q2095 : (Jvm.Cond.privateMethod ({ cls := "GoblinHousehold$Parser", name := "current", desc := "()C" } : Jvm.MethodName)) ∈ lw_tbl := lw_at lw_m9 82 rfl
theorem q2096 : (Jvm.Cond.instanceMethod ({ cls := "GoblinHousehold$Parser", name := "current", desc := "()C" } : Jvm.MethodName)) ∈ lw_all := lw_g (lw_at lw_m9 83 rfl) rfl
theorem q2097 : (Jvm.Cond.code ({ cls := "GoblinHousehold$Parser", name := "current", desc := "()C" } : Jvm.MethodName) prog_19_method_2_code (1 : Nat) (Option.some Jvm.ClassFile.FieldType.char)) ∈ lw_all := lw_g (lw_at lw_m9 84 rfl) rfl
theorem q2098 : (Jvm.Cond.methodLink "GoblinHousehold$Parser" (17 : Nat) ({ cls := "java/lang/String", name := "length", desc := "()I" } : Jvm.MethodName)) ∈ lw_all := lw_g (lw_at lw_m9 85 rfl) rfl
theorem q2099 : (Jvm.Cond.methodLink "GoblinHousehold$Parser" (23 : Nat) ({ cls := "java/lang/String", name := "charAt", desc := "(I)C" } : Jvm.MethodName)) ∈ lw_all := lw_g (lw_at lw_m9 86 rfl) rfl
theorem q2100 : (Jvm.Cond.stringRef "GoblinHousehold$Parser" (57 : Nat) " goblin broom banish recall hire cancel rest wake lend fund spend night ") ∈ lw_tbl := lw_at lw_m9 87 rfl
theorem q2101 : (Jvm.Cond.stringRef "GoblinHousehold$Parser" (59 : Nat) " ") ∈ lw_tbl := lw_at lw_m9 88 rfl
theorem q2102 : (Jvm.Cond.methodLink "GoblinHousehold$Parser" (61 : Nat) ({ cls := "java/lang/StringBuilder", name := "append", desc := "(Ljava/lang/String;)Ljava/lang/StringBuilder;" } : Jvm.MethodName)) ∈ lw_all := lw_g (lw_at lw_m9 89 rfl) rfl
theorem q2103 : (Jvm.Cond.methodLink "GoblinHousehold$Parser" (65 : Nat) ({ cls := "java/lang/StringBuilder", name := "append", desc := "(Ljava/lang/Object;)Ljava/lang/StringBuilder;" } : Jvm.MethodName)) ∈ lw_all := lw_g (lw_at lw_m9 90 rfl) rfl
theorem q2162 : (Jvm.Cond.selects "GoblinHousehold$Parser" ({ cls := "java/lang/Object", name := "toString", desc := "()Ljava/lang/String;" } : Jvm.MethodName) ({ cls := "java/lang/Object", name := "toString", desc := "()Ljava/lang/String;" } : Jvm.MethodName)) ∈ lw_all := lw_g (lw_at lw_m9 149 rfl) rfl
theorem q2182 : (Jvm.Cond.methodLink "GoblinHousehold$Parser" (68 : Nat) ({ cls := "java/lang/StringBuilder", name := "append", desc := "(C)Ljava/lang/StringBuilder;" } : Jvm.MethodName)) ∈ lw_all := lw_g (lw_at lw_m9 169 rfl) rfl
theorem q2183 : (Jvm.Cond.methodLink "GoblinHousehold$Parser" (71 : Nat) ({ cls := "java/lang/StringBuilder", name := "toString", desc := "()Ljava/lang/String;" } : Jvm.MethodName)) ∈ lw_all := lw_g (lw_at lw_m9 170 rfl) rfl
theorem q2184 : (Jvm.Cond.methodLink "GoblinHousehold$Parser" (75 : Nat) ({ cls := "java/lang/String", name := "contains", desc := "(Ljava/lang/CharSequence;)Z" } : Jvm.MethodName)) ∈ lw_all := lw_g (lw_at lw_m9 171 rfl) rfl
theorem q2222 : (Jvm.Cond.methodLink "GoblinHousehold$Parser" (36 : Nat) ({ cls := "GoblinHousehold$Parser", name := "require", desc := "(Z)V" } : Jvm.MethodName)) ∈ lw_all := lw_g (lw_at lw_m9 209 rfl) rfl
theorem q2223 : (Jvm.Cond.privateMethod ({ cls := "GoblinHousehold$Parser", name := "require", desc := "(Z)V" } : Jvm.MethodName)) ∈ lw_tbl := lw_at lw_m9 210 rfl
theorem q2224 : (Jvm.Cond.instanceMethod ({ cls := "GoblinHousehold$Parser", name := "require", desc := "(Z)V" } : Jvm.MethodName)) ∈ lw_all := lw_g (lw_at lw_m9 211 rfl) rfl
theorem q2225 : (Jvm.Cond.code ({ cls := "GoblinHousehold$Parser", name := "require", desc := "(Z)V" } : Jvm.MethodName) prog_19_method_3_code (2 : Nat) (Option.none : Option Jvm.ClassFile.FieldType)) ∈ lw_all := lw_g (lw_at lw_m9 212 rfl) rfl
theorem q2226 : (Jvm.Cond.classLink "GoblinHousehold$Parser" (27 : Nat) "GoblinHousehold$SyntaxFailure") ∈ lw_all := lw_g (lw_at lw_m9 213 rfl) rfl
theorem q2235 : (Jvm.Cond.methodLink "GoblinHousehold$Parser" (29 : Nat) ({ cls := "GoblinHousehold$SyntaxFailure", name := "<init>", desc := "(I)V" } : Jvm.MethodName)) ∈ lw_all := lw_g (lw_at lw_m9 222 rfl) rfl
theorem q2244 : (Jvm.Cond.methodLink "GoblinHousehold$Parser" (79 : Nat) ({ cls := "java/lang/StringBuilder", name := "length", desc := "()I" } : Jvm.MethodName)) ∈ lw_all := lw_g (lw_at lw_m9 231 rfl) rfl
theorem q2245 : (Jvm.Cond.methodLink "GoblinHousehold$Parser" (88 : Nat) ({ cls := "java/lang/String", name := "hashCode", desc := "()I" } : Jvm.MethodName)) ∈ lw_all := lw_g (lw_at lw_m9 232 rfl) rfl
theorem q2246 : (Jvm.Cond.stringRef "GoblinHousehold$Parser" (126 : Nat) "hire") ∈ lw_tbl := lw_at lw_m9 233 rfl
theorem q2247 : (Jvm.Cond.methodLink "GoblinHousehold$Parser" (93 : Nat) ({ cls := "java/lang/String", name := "equals", desc := "(Ljava/lang/Object;)Z" } : Jvm.MethodName)) ∈ lw_all := lw_g (lw_at lw_m9 234 rfl) rfl
theorem q2248 : (Jvm.Cond.stringRef "GoblinHousehold$Parser" (128 : Nat) "lend") ∈ lw_tbl := lw_at lw_m9 235 rfl
theorem q2249 : (Jvm.Cond.stringRef "GoblinHousehold$Parser" (130 : Nat) "night") ∈ lw_tbl := lw_at lw_m9 236 rfl
theorem q2250 : (Jvm.Cond.methodLink "GoblinHousehold$Parser" (85 : Nat) ({ cls := "GoblinHousehold$Parser", name := "spaceAndDigit", desc := "()I" } : Jvm.MethodName)) ∈ lw_all := lw_g (lw_at lw_m9 237 rfl) rfl
theorem q2251 : (Jvm.Cond.privateMethod ({ cls := "GoblinHousehold$Parser", name := "spaceAndDigit", desc := "()I" } : Jvm.MethodName)) ∈ lw_tbl := lw_at lw_m9 238 rfl
theorem q2252 : (Jvm.Cond.instanceMethod ({ cls := "GoblinHousehold$Parser", name := "spaceAndDigit", desc := "()I" } : Jvm.MethodName)) ∈ lw_all := lw_g (lw_at lw_m9 239 rfl) rfl
theorem q2253 : (Jvm.Cond.code ({ cls := "GoblinHousehold$Parser", name := "spaceAndDigit", desc := "()I" } : Jvm.MethodName) prog_19_method_8_code (1 : Nat) (Option.some Jvm.ClassFile.FieldType.int)) ∈ lw_all := lw_g (lw_at lw_m10 0 rfl) rfl
theorem q2254 : (Jvm.Cond.methodLink "GoblinHousehold$Parser" (47 : Nat) ({ cls := "GoblinHousehold$Parser", name := "take", desc := "(C)V" } : Jvm.MethodName)) ∈ lw_all := lw_g (lw_at lw_m10 1 rfl) rfl
theorem q2255 : (Jvm.Cond.privateMethod ({ cls := "GoblinHousehold$Parser", name := "take", desc := "(C)V" } : Jvm.MethodName)) ∈ lw_tbl := lw_at lw_m10 2 rfl
theorem q2256 : (Jvm.Cond.instanceMethod ({ cls := "GoblinHousehold$Parser", name := "take", desc := "(C)V" } : Jvm.MethodName)) ∈ lw_all := lw_g (lw_at lw_m10 3 rfl) rfl
theorem q2257 : (Jvm.Cond.code ({ cls := "GoblinHousehold$Parser", name := "take", desc := "(C)V" } : Jvm.MethodName) prog_19_method_4_code (2 : Nat) (Option.none : Option Jvm.ClassFile.FieldType)) ∈ lw_all := lw_g (lw_at lw_m10 4 rfl) rfl
theorem q2258 : (Jvm.Cond.methodLink "GoblinHousehold$Parser" (44 : Nat) ({ cls := "GoblinHousehold$Parser", name := "digit", desc := "()I" } : Jvm.MethodName)) ∈ lw_all := lw_g (lw_at lw_m10 5 rfl) rfl
theorem q2259 : (Jvm.Cond.privateMethod ({ cls := "GoblinHousehold$Parser", name := "digit", desc := "()I" } : Jvm.MethodName)) ∈ lw_tbl := lw_at lw_m10 6 rfl
theorem q2260 : (Jvm.Cond.instanceMethod ({ cls := "GoblinHousehold$Parser", name := "digit", desc := "()I" } : Jvm.MethodName)) ∈ lw_all := lw_g (lw_at lw_m10 7 rfl) rfl
theorem q2261 : (Jvm.Cond.code ({ cls := "GoblinHousehold$Parser", name := "digit", desc := "()I" } : Jvm.MethodName) prog_19_method_6_code (1 : Nat) (Option.some Jvm.ClassFile.FieldType.int)) ∈ lw_all := lw_g (lw_at lw_m10 8 rfl) rfl
theorem q2262 : (Jvm.Cond.methodLink "GoblinHousehold$Parser" (40 : Nat) ({ cls := "GoblinHousehold$Parser", name := "isAtDigit", desc := "()Z" } : Jvm.MethodName)) ∈ lw_all := lw_g (lw_at lw_m10 9 rfl) rfl
theorem q2263 : (Jvm.Cond.privateMethod ({ cls := "GoblinHousehold$Parser", name := "isAtDigit", desc := "()Z" } : Jvm.MethodName)) ∈ lw_tbl := lw_at lw_m10 10 rfl
theorem q2264 : (Jvm.Cond.instanceMethod ({ cls := "GoblinHousehold$Parser", name := "isAtDigit", desc := "()Z" } : Jvm.MethodName)) ∈ lw_all := lw_g (lw_at lw_m10 11 rfl) rfl
theorem q2265 : (Jvm.Cond.code ({ cls := "GoblinHousehold$Parser", name := "isAtDigit", desc := "()Z" } : Jvm.MethodName) prog_19_method_5_code (1 : Nat) (Option.some Jvm.ClassFile.FieldType.boolean)) ∈ lw_all := lw_g (lw_at lw_m10 12 rfl) rfl
theorem q2266 : (Jvm.Cond.methodLink "GoblinHousehold$Parser" (82 : Nat) ({ cls := "GoblinHousehold$Parser", name := "spaceAndNumber", desc := "()I" } : Jvm.MethodName)) ∈ lw_all := lw_g (lw_at lw_m10 13 rfl) rfl
theorem q2267 : (Jvm.Cond.privateMethod ({ cls := "GoblinHousehold$Parser", name := "spaceAndNumber", desc := "()I" } : Jvm.MethodName)) ∈ lw_tbl := lw_at lw_m10 14 rfl
theorem q2268 : (Jvm.Cond.instanceMethod ({ cls := "GoblinHousehold$Parser", name := "spaceAndNumber", desc := "()I" } : Jvm.MethodName)) ∈ lw_all := lw_g (lw_at lw_m10 15 rfl) rfl
theorem q2269 : (Jvm.Cond.code ({ cls := "GoblinHousehold$Parser", name := "spaceAndNumber", desc := "()I" } : Jvm.MethodName) prog_19_method_9_code (1 : Nat) (Option.some Jvm.ClassFile.FieldType.int)) ∈ lw_all := lw_g (lw_at lw_m10 16 rfl) rfl
theorem q2270 : (Jvm.Cond.methodLink "GoblinHousehold$Parser" (51 : Nat) ({ cls := "GoblinHousehold$Parser", name := "number", desc := "()I" } : Jvm.MethodName)) ∈ lw_all := lw_g (lw_at lw_m10 17 rfl) rfl
theorem q2271 : (Jvm.Cond.privateMethod ({ cls := "GoblinHousehold$Parser", name := "number", desc := "()I" } : Jvm.MethodName)) ∈ lw_tbl := lw_at lw_m10 18 rfl
theorem q2272 : (Jvm.Cond.instanceMethod ({ cls := "GoblinHousehold$Parser", name := "number", desc := "()I" } : Jvm.MethodName)) ∈ lw_all := lw_g (lw_at lw_m10 19 rfl) rfl
theorem q2273 : (Jvm.Cond.code ({ cls := "GoblinHousehold$Parser", name := "number", desc := "()I" } : Jvm.MethodName) prog_19_method_7_code (3 : Nat) (Option.some Jvm.ClassFile.FieldType.int)) ∈ lw_all := lw_g (lw_at lw_m10 20 rfl) rfl
theorem q2274 : (Jvm.Cond.static ({ cls := "GoblinHousehold$Parser", name := "lambda$change$9", desc := "(IIIILGoblinHousehold$Household;)I" } : Jvm.MethodName)) ∈ lw_all := lw_g (lw_at lw_m10 21 rfl) rfl
theorem q2275 : (Jvm.Cond.code ({ cls := "GoblinHousehold$Parser", name := "lambda$change$9", desc := "(IIIILGoblinHousehold$Household;)I" } : Jvm.MethodName) prog_19_method_16_code (5 : Nat) (Option.some Jvm.ClassFile.FieldType.int)) ∈ lw_all := lw_g (lw_at lw_m10 22 rfl) rfl
theorem q2276 : (Jvm.Cond.methodLink "GoblinHousehold$Parser" (169 : Nat) ({ cls := "GoblinHousehold$Household", name := "hire", desc := "(IIII)I" } : Jvm.MethodName)) ∈ lw_all := lw_g (lw_at lw_m10 23 rfl) rfl
theorem q2277 : (Jvm.Cond.static ({ cls := "GoblinHousehold$Parser", name := "lambda$change$10", desc := "(IILGoblinHousehold$Household;)I" } : Jvm.MethodName)) ∈ lw_all := lw_g (lw_at lw_m10 24 rfl) rfl
theorem q2278 : (Jvm.Cond.code ({ cls := "GoblinHousehold$Parser", name := "lambda$change$10", desc := "(IILGoblinHousehold$Household;)I" } : Jvm.MethodName) prog_19_method_15_code (3 : Nat) (Option.some Jvm.ClassFile.FieldType.int)) ∈ lw_all := lw_g (lw_at lw_m10 25 rfl) rfl
theorem q2279 : (Jvm.Cond.methodLink "GoblinHousehold$Parser" (166 : Nat) ({ cls := "GoblinHousehold$Household", name := "lend", desc := "(II)I" } : Jvm.MethodName)) ∈ lw_all := lw_g (lw_at lw_m10 26 rfl) rfl
theorem q2280 : (Jvm.Cond.static ({ cls := "GoblinHousehold$Parser", name := "lambda$change$11", desc := "(ILGoblinHousehold$Household;)I" } : Jvm.MethodName)) ∈ lw_all := lw_g (lw_at lw_m10 27 rfl) rfl
theorem q2281 : (Jvm.Cond.code ({ cls := "GoblinHousehold$Parser", name := "lambda$change$11", desc := "(ILGoblinHousehold$Household;)I" } : Jvm.MethodName) prog_19_method_14_code (2 : Nat) (Option.some Jvm.ClassFile.FieldType.int)) ∈ lw_all := lw_g (lw_at lw_m10 28 rfl) rfl
theorem q2282 : (Jvm.Cond.methodLink "GoblinHousehold$Parser" (160 : Nat) ({ cls := "GoblinHousehold$Household", name := "passNights", desc := "(I)I" } : Jvm.MethodName)) ∈ lw_all := lw_g (lw_at lw_m10 29 rfl) rfl
theorem q2283 : (Jvm.Cond.methodLink "GoblinHousehold$Parser" (139 : Nat) ({ cls := "GoblinHousehold$Parser", name := "oneArgument", desc := "(Ljava/lang/String;)LGoblinHousehold$Change;" } : Jvm.MethodName)) ∈ lw_all := lw_g (lw_at lw_m10 30 rfl) rfl
theorem q2284 : (Jvm.Cond.privateMethod ({ cls := "GoblinHousehold$Parser", name := "oneArgument", desc := "(Ljava/lang/String;)LGoblinHousehold$Change;" } : Jvm.MethodName)) ∈ lw_tbl := lw_at lw_m10 31 rfl
theorem q2285 : (Jvm.Cond.instanceMethod ({ cls := "GoblinHousehold$Parser", name := "oneArgument", desc := "(Ljava/lang/String;)LGoblinHousehold$Change;" } : Jvm.MethodName)) ∈ lw_all := lw_g (lw_at lw_m10 32 rfl) rfl
theorem q2286 : (Jvm.Cond.code ({ cls := "GoblinHousehold$Parser", name := "oneArgument", desc := "(Ljava/lang/String;)LGoblinHousehold$Change;" } : Jvm.MethodName) prog_19_method_11_code (5 : Nat) (Option.some (Jvm.ClassFile.FieldType.object "GoblinHousehold$Change"))) ∈ lw_all := lw_g (lw_at lw_m10 33 rfl) rfl
theorem q2287 : (Jvm.Cond.stringRef "GoblinHousehold$Parser" (80 : Nat) " broom cancel fund spend ") ∈ lw_tbl := lw_at lw_m10 34 rfl
theorem q2288 : (Jvm.Cond.stringRef "GoblinHousehold$Parser" (91 : Nat) "goblin") ∈ lw_tbl := lw_at lw_m10 35 rfl
theorem q2289 : (Jvm.Cond.stringRef "GoblinHousehold$Parser" (97 : Nat) "broom") ∈ lw_tbl := lw_at lw_m10 36 rfl
theorem q2290 : (Jvm.Cond.stringRef "GoblinHousehold$Parser" (99 : Nat) "banish") ∈ lw_tbl := lw_at lw_m10 37 rfl
theorem q2291 : (Jvm.Cond.stringRef "GoblinHousehold$Parser" (101 : Nat) "recall") ∈ lw_tbl := lw_at lw_m10 38 rfl
theorem q2292 : (Jvm.Cond.stringRef "GoblinHousehold$Parser" (103 : Nat) "cancel") ∈ lw_tbl := lw_at lw_m10 39 rfl
theorem q2293 : (Jvm.Cond.stringRef "GoblinHousehold$Parser" (105 : Nat) "rest") ∈ lw_tbl := lw_at lw_m10 40 rfl
theorem q2294 : (Jvm.Cond.stringRef "GoblinHousehold$Parser" (107 : Nat) "wake") ∈ lw_tbl := lw_at lw_m10 41 rfl
theorem q2295 : (Jvm.Cond.stringRef "GoblinHousehold$Parser" (109 : Nat) "fund") ∈ lw_tbl := lw_at lw_m10 42 rfl
theorem q2296 : (Jvm.Cond.static ({ cls := "GoblinHousehold$Parser", name := "lambda$oneArgument$0", desc := "(ILGoblinHousehold$Household;)I" } : Jvm.MethodName)) ∈ lw_all := lw_g (lw_at lw_m10 43 rfl) rfl
theorem q2297 : (Jvm.Cond.code ({ cls := "GoblinHousehold$Parser", name := "lambda$oneArgument$0", desc := "(ILGoblinHousehold$Household;)I" } : Jvm.MethodName) prog_19_method_25_code (2 : Nat) (Option.some Jvm.ClassFile.FieldType.int)) ∈ lw_all := lw_g (lw_at lw_m10 44 rfl) rfl
theorem q2298 : (Jvm.Cond.methodLink "GoblinHousehold$Parser" (190 : Nat) ({ cls := "GoblinHousehold$Household", name := "addGoblin", desc := "(I)I" } : Jvm.MethodName)) ∈ lw_all := lw_g (lw_at lw_m10 45 rfl) rfl
theorem q2299 : (Jvm.Cond.static ({ cls := "GoblinHousehold$Parser", name := "lambda$oneArgument$1", desc := "(ILGoblinHousehold$Household;)I" } : Jvm.MethodName)) ∈ lw_all := lw_g (lw_at lw_m10 46 rfl) rfl
theorem q2300 : (Jvm.Cond.code ({ cls := "GoblinHousehold$Parser", name := "lambda$oneArgument$1", desc := "(ILGoblinHousehold$Household;)I" } : Jvm.MethodName) prog_19_method_24_code (2 : Nat) (Option.some Jvm.ClassFile.FieldType.int)) ∈ lw_all := lw_g (lw_at lw_m10 47 rfl) rfl
theorem q2301 : (Jvm.Cond.methodLink "GoblinHousehold$Parser" (187 : Nat) ({ cls := "GoblinHousehold$Household", name := "addBroom", desc := "(I)I" } : Jvm.MethodName)) ∈ lw_all := lw_g (lw_at lw_m10 48 rfl) rfl
theorem q2302 : (Jvm.Cond.static ({ cls := "GoblinHousehold$Parser", name := "lambda$oneArgument$2", desc := "(ILGoblinHousehold$Household;)I" } : Jvm.MethodName)) ∈ lw_all := lw_g (lw_at lw_m10 49 rfl) rfl
theorem q2303 : (Jvm.Cond.code ({ cls := "GoblinHousehold$Parser", name := "lambda$oneArgument$2", desc := "(ILGoblinHousehold$Household;)I" } : Jvm.MethodName) prog_19_method_23_code (2 : Nat) (Option.some Jvm.ClassFile.FieldType.int)) ∈ lw_all := lw_g (lw_at lw_m10 50 rfl) rfl
theorem q2304 : (Jvm.Cond.methodLink "GoblinHousehold$Parser" (185 : Nat) ({ cls := "GoblinHousehold$Household", name := "banish", desc := "(I)I" } : Jvm.MethodName)) ∈ lw_all := lw_g (lw_at lw_m10 51 rfl) rfl
theorem q2305 : (Jvm.Cond.static ({ cls := "GoblinHousehold$Parser", name := "lambda$oneArgument$3", desc := "(ILGoblinHousehold$Household;)I" } : Jvm.MethodName)) ∈ lw_all := lw_g (lw_at lw_m10 52 rfl) rfl
theorem q2306 : (Jvm.Cond.code ({ cls := "GoblinHousehold$Parser", name := "lambda$oneArgument$3", desc := "(ILGoblinHousehold$Household;)I" } : Jvm.MethodName) prog_19_method_22_code (2 : Nat) (Option.some Jvm.ClassFile.FieldType.int)) ∈ lw_all := lw_g (lw_at lw_m10 53 rfl) rfl
theorem q2307 : (Jvm.Cond.methodLink "GoblinHousehold$Parser" (183 : Nat) ({ cls := "GoblinHousehold$Household", name := "recall", desc := "(I)I" } : Jvm.MethodName)) ∈ lw_all := lw_g (lw_at lw_m10 54 rfl) rfl
theorem q2308 : (Jvm.Cond.static ({ cls := "GoblinHousehold$Parser", name := "lambda$oneArgument$4", desc := "(ILGoblinHousehold$Household;)I" } : Jvm.MethodName)) ∈ lw_all := lw_g (lw_at lw_m10 55 rfl) rfl
theorem q2309 : (Jvm.Cond.code ({ cls := "GoblinHousehold$Parser", name := "lambda$oneArgument$4", desc := "(ILGoblinHousehold$Household;)I" } : Jvm.MethodName) prog_19_method_21_code (2 : Nat) (Option.some Jvm.ClassFile.FieldType.int)) ∈ lw_all := lw_g (lw_at lw_m10 56 rfl) rfl
theorem q2310 : (Jvm.Cond.methodLink "GoblinHousehold$Parser" (181 : Nat) ({ cls := "GoblinHousehold$Household", name := "cancel", desc := "(I)I" } : Jvm.MethodName)) ∈ lw_all := lw_g (lw_at lw_m10 57 rfl) rfl
theorem q2311 : (Jvm.Cond.static ({ cls := "GoblinHousehold$Parser", name := "lambda$oneArgument$5", desc := "(ILGoblinHousehold$Household;)I" } : Jvm.MethodName)) ∈ lw_all := lw_g (lw_at lw_m10 58 rfl) rfl
theorem q2312 : (Jvm.Cond.code ({ cls := "GoblinHousehold$Parser", name := "lambda$oneArgument$5", desc := "(ILGoblinHousehold$Household;)I" } : Jvm.MethodName) prog_19_method_20_code (2 : Nat) (Option.some Jvm.ClassFile.FieldType.int)) ∈ lw_all := lw_g (lw_at lw_m10 59 rfl) rfl
theorem q2313 : (Jvm.Cond.methodLink "GoblinHousehold$Parser" (177 : Nat) ({ cls := "GoblinHousehold$Household", name := "setResting", desc := "(IZ)I" } : Jvm.MethodName)) ∈ lw_all := lw_g (lw_at lw_m10 60 rfl) rfl
theorem q2314 : (Jvm.Cond.static ({ cls := "GoblinHousehold$Parser", name := "lambda$oneArgument$6", desc := "(ILGoblinHousehold$Household;)I" } : Jvm.MethodName)) ∈ lw_all := lw_g (lw_at lw_m10 61 rfl) rfl
theorem q2315 : (Jvm.Cond.code ({ cls := "GoblinHousehold$Parser", name := "lambda$oneArgument$6", desc := "(ILGoblinHousehold$Household;)I" } : Jvm.MethodName) prog_19_method_19_code (2 : Nat) (Option.some Jvm.ClassFile.FieldType.int)) ∈ lw_all := lw_g (lw_at lw_m10 62 rfl) rfl
theorem q2316 : (Jvm.Cond.static ({ cls := "GoblinHousehold$Parser", name := "lambda$oneArgument$7", desc := "(ILGoblinHousehold$Household;)I" } : Jvm.MethodName)) ∈ lw_all := lw_g (lw_at lw_m10 63 rfl) rfl
theorem q2317 : (Jvm.Cond.code ({ cls := "GoblinHousehold$Parser", name := "lambda$oneArgument$7", desc := "(ILGoblinHousehold$Household;)I" } : Jvm.MethodName) prog_19_method_18_code (2 : Nat) (Option.some Jvm.ClassFile.FieldType.int)) ∈ lw_all := lw_g (lw_at lw_m10 64 rfl) rfl
theorem q2318 : (Jvm.Cond.methodLink "GoblinHousehold$Parser" (175 : Nat) ({ cls := "GoblinHousehold$Household", name := "fund", desc := "(I)I" } : Jvm.MethodName)) ∈ lw_all := lw_g (lw_at lw_m10 65 rfl) rfl
theorem q2319 : (Jvm.Cond.static ({ cls := "GoblinHousehold$Parser", name := "lambda$oneArgument$8", desc := "(ILGoblinHousehold$Household;)I" } : Jvm.MethodName)) ∈ lw_all := lw_g (lw_at lw_m10 66 rfl) rfl
theorem q2320 : (Jvm.Cond.code ({ cls := "GoblinHousehold$Parser", name := "lambda$oneArgument$8", desc := "(ILGoblinHousehold$Household;)I" } : Jvm.MethodName) prog_19_method_17_code (2 : Nat) (Option.some Jvm.ClassFile.FieldType.int)) ∈ lw_all := lw_g (lw_at lw_m10 67 rfl) rfl
theorem q2321 : (Jvm.Cond.methodLink "GoblinHousehold$Parser" (172 : Nat) ({ cls := "GoblinHousehold$Household", name := "spend", desc := "(I)I" } : Jvm.MethodName)) ∈ lw_all := lw_g (lw_at lw_m10 68 rfl) rfl
theorem q2322 : (Jvm.Cond.methodLink "GoblinHousehold$Parser" (152 : Nat) ({ cls := "GoblinHousehold$Command", name := "<init>", desc := "(LGoblinHousehold$Change;)V" } : Jvm.MethodName)) ∈ lw_all := lw_g (lw_at lw_m10 69 rfl) rfl
theorem q2330 : (Jvm.Cond.interfaceEntry "GoblinHousehold$Parser" (155 : Nat)) ∈ lw_tbl := lw_at lw_m10 77 rfl
theorem q2331 : (Jvm.Cond.methodLink "GoblinHousehold$Parser" (155 : Nat) ({ cls := "java/util/List", name := "add", desc := "(Ljava/lang/Object;)Z" } : Jvm.MethodName)) ∈ lw_all := lw_g (lw_at lw_m10 78 rfl) rfl
theorem q3036 : (Jvm.Cond.castable "GoblinHousehold$Parser" "java/lang/Object") ∈ lw_tbl := lw_at lw_m13 63 rfl
theorem in_X15 : ∀ w ∈ wsX150, w ∈ lw_all := lw_in wsX150 [2071, 2073] (by decide +kernel) (by decide +kernel)
/-! GoblinHousehold$Command -/
set_option maxRecDepth 100000
def RX16 : String := "GoblinHousehold$Command"
def TX16 : u_T := fun k => match k with
  | _ => ("GoblinHousehold$Command", "change", "LGoblinHousehold$Change;", true)
def tyX16 : Nat → FieldType := fun k => match k with
  | _ => .object "GoblinHousehold$Change"
abbrev wsX160 : List Cond := u_ws RX16 TX16 1
theorem nmX16 : ∀ a, a < 1 → ∀ b, b < 1 → a ≠ b → (TX16 a).2.1 ≠ (TX16 b).2.1 := by decide +kernel
theorem tyX16_ok : ∀ k, k < 1 → parseFieldDescriptor (TX16 k).2.2.1 = some (tyX16 k) := by decide +kernel
abbrev cX16_init : ByteArray := prog_8_method_1_code
def yX16_init : MethodName := ⟨RX16, "<init>", "(LGoblinHousehold$Change;)V"⟩
def dkwX16_init_0 : List UInt8 := [42, 183, 0, 1, 42, 43, 181, 0, 7, 177]
abbrev dktX16_init_0 : List UInt8 := dkwX16_init_0 ++ []
theorem dksX16_init_0 : cX16_init.data.toList.drop 0 = dktX16_init_0 := by decide +kernel
theorem dX16_init_0 : decode cX16_init 0 = .ok (.aload_n 0, 1) := dk_42 (dk_at dksX16_init_0 0 rfl rfl)
theorem dX16_init_1 : decode cX16_init 1 = .ok (.invokespecial 1, 3) := dk_183 0 1 (dk_at dksX16_init_0 1 rfl rfl)
theorem dX16_init_4 : decode cX16_init 4 = .ok (.aload_n 0, 1) := dk_42 (dk_at dksX16_init_0 4 rfl rfl)
theorem dX16_init_5 : decode cX16_init 5 = .ok (.aload_n 1, 1) := dk_43 (dk_at dksX16_init_0 5 rfl rfl)
theorem dX16_init_6 : decode cX16_init 6 = .ok (.putfield 7, 3) := dk_181 0 7 (dk_at dksX16_init_0 6 rfl rfl)
theorem dX16_init_9 : decode cX16_init 9 = .ok (.return_, 1) := dk_177 (dk_at dksX16_init_0 9 rfl rfl)
abbrev cX16_change : ByteArray := prog_8_method_2_code
def yX16_change : MethodName := ⟨RX16, "change", "()LGoblinHousehold$Change;"⟩
theorem dX16_change_0 : decode cX16_change 0 = .ok (.aload_n 0, 1) := by decide +kernel
theorem dX16_change_1 : decode cX16_change 1 = .ok (.getfield 7, 3) := by decide +kernel
theorem dX16_change_4 : decode cX16_change 4 = .ok (.areturn, 1) := by decide +kernel
theorem q141 : (Jvm.Cond.initialized "GoblinHousehold$Command") ∈ lw_all := lw_g (lw_at lw_m1 48 rfl) rfl
theorem q986 : (Jvm.Cond.selects "GoblinHousehold$Command" ({ cls := "java/lang/Object", name := "getClass", desc := "()Ljava/lang/Class;" } : Jvm.MethodName) ({ cls := "java/lang/Object", name := "getClass", desc := "()Ljava/lang/Class;" } : Jvm.MethodName)) ∈ lw_all := lw_g (lw_at lw_m4 173 rfl) rfl
theorem q1503 : (Jvm.Cond.selects "GoblinHousehold$Command" ({ cls := "java/lang/Object", name := "equals", desc := "(Ljava/lang/Object;)Z" } : Jvm.MethodName) ({ cls := "java/lang/Object", name := "equals", desc := "(Ljava/lang/Object;)Z" } : Jvm.MethodName)) ∈ lw_all := lw_g (lw_at lw_m6 210 rfl) rfl
theorem q2083 : (Jvm.Cond.instantiable "GoblinHousehold$Command" (1 : Nat)) ∈ lw_all := lw_g (lw_at lw_m9 70 rfl) rfl
theorem q2118 : (Jvm.Cond.selects "GoblinHousehold$Command" ({ cls := "java/lang/Object", name := "toString", desc := "()Ljava/lang/String;" } : Jvm.MethodName) ({ cls := "java/lang/Object", name := "toString", desc := "()Ljava/lang/String;" } : Jvm.MethodName)) ∈ lw_all := lw_g (lw_at lw_m9 105 rfl) rfl
theorem q2323 : (Jvm.Cond.instanceMethod ({ cls := "GoblinHousehold$Command", name := "<init>", desc := "(LGoblinHousehold$Change;)V" } : Jvm.MethodName)) ∈ lw_all := lw_g (lw_at lw_m10 70 rfl) rfl
theorem q2324 : (Jvm.Cond.code ({ cls := "GoblinHousehold$Command", name := "<init>", desc := "(LGoblinHousehold$Change;)V" } : Jvm.MethodName) prog_8_method_1_code (2 : Nat) (Option.none : Option Jvm.ClassFile.FieldType)) ∈ lw_all := lw_g (lw_at lw_m10 71 rfl) rfl
theorem q2325 : (Jvm.Cond.methodLink "GoblinHousehold$Command" (1 : Nat) ({ cls := "java/lang/Object", name := "<init>", desc := "()V" } : Jvm.MethodName)) ∈ lw_all := lw_g (lw_at lw_m10 72 rfl) rfl
theorem q2326 : (Jvm.Cond.fieldLink "GoblinHousehold$Command" (7 : Nat) "GoblinHousehold$Command" "change" "LGoblinHousehold$Change;") ∈ lw_all := lw_g (lw_at lw_m10 73 rfl) rfl
theorem q2327 : (Jvm.Cond.laysFinal "GoblinHousehold$Command" "GoblinHousehold$Command" "change" "LGoblinHousehold$Change;") ∈ lw_all := lw_g (lw_at lw_m10 74 rfl) rfl
theorem q2328 : (Jvm.Cond.soleField "GoblinHousehold$Command" "change") ∈ lw_all := lw_g (lw_at lw_m10 75 rfl) rfl
theorem q2329 : (Jvm.Cond.superclass "GoblinHousehold$Command" "java/lang/Object") ∈ lw_all := lw_g (lw_at lw_m10 76 rfl) rfl
theorem q2338 : (Jvm.Cond.instanceMethod ({ cls := "GoblinHousehold$Command", name := "change", desc := "()LGoblinHousehold$Change;" } : Jvm.MethodName)) ∈ lw_all := lw_g (lw_at lw_m10 85 rfl) rfl
theorem q2339 : (Jvm.Cond.selects "GoblinHousehold$Command" ({ cls := "GoblinHousehold$Command", name := "change", desc := "()LGoblinHousehold$Change;" } : Jvm.MethodName) ({ cls := "GoblinHousehold$Command", name := "change", desc := "()LGoblinHousehold$Change;" } : Jvm.MethodName)) ∈ lw_all := lw_g (lw_at lw_m10 86 rfl) rfl
theorem q2340 : (Jvm.Cond.code ({ cls := "GoblinHousehold$Command", name := "change", desc := "()LGoblinHousehold$Change;" } : Jvm.MethodName) prog_8_method_2_code (1 : Nat) (Option.some (Jvm.ClassFile.FieldType.object "GoblinHousehold$Change"))) ∈ lw_all := lw_g (lw_at lw_m10 87 rfl) rfl
theorem q3037 : (Jvm.Cond.castable "GoblinHousehold$Command" "java/lang/Object") ∈ lw_tbl := lw_at lw_m13 64 rfl
theorem in_X16 : ∀ w ∈ wsX160, w ∈ lw_all := lw_in wsX160 [2327] (by decide +kernel) (by decide +kernel)
/-! GoblinHousehold$SyntaxFailure -/
set_option maxRecDepth 100000
def RX17 : String := "GoblinHousehold$SyntaxFailure"
def TX17 : u_T := fun k => match k with
  | 0 => ("java/lang/Throwable", "cause", "Ljava/lang/Throwable;", false)
  | 1 => ("java/lang/Throwable", "stackTrace", "[Ljava/lang/StackTraceElement;", false)
  | 2 => ("java/lang/Throwable", "suppressedExceptions", "Ljava/util/List;", false)
  | 3 => ("java/lang/Throwable", "detailMessage", "Ljava/lang/String;", false)
  | 4 => ("java/lang/Throwable", "backtrace", "Ljava/lang/Object;", false)
  | 5 => ("java/lang/Throwable", "depth", "I", false)
  | _ => ("GoblinHousehold$SyntaxFailure", "position", "I", true)
def tyX17 : Nat → FieldType := fun k => match k with
  | 0 => .object "java/lang/Throwable"
  | 1 => .array (.object "java/lang/StackTraceElement")
  | 2 => .object "java/util/List"
  | 3 => .object "java/lang/String"
  | 4 => .object "java/lang/Object"
  | 5 => .int
  | _ => .int
abbrev wsX170 : List Cond := u_ws RX17 TX17 7
theorem nmX17 : ∀ a, a < 7 → ∀ b, b < 7 → a ≠ b → (TX17 a).2.1 ≠ (TX17 b).2.1 := by decide +kernel
theorem tyX17_ok : ∀ k, k < 7 → parseFieldDescriptor (TX17 k).2.2.1 = some (tyX17 k) := by decide +kernel
abbrev cX17_asPublicException : ByteArray := prog_24_method_3_code
def yX17_asPublicException : MethodName := ⟨RX17, "asPublicException", "()Ljava/lang/RuntimeException;"⟩
def dkwX17_asPublicException_0 : List UInt8 := [187, 0, 13, 89, 183, 0, 15, 176]
abbrev dktX17_asPublicException_0 : List UInt8 := dkwX17_asPublicException_0 ++ []
theorem dksX17_asPublicException_0 : cX17_asPublicException.data.toList.drop 0 = dktX17_asPublicException_0 := by decide +kernel
theorem dX17_asPublicException_0 : decode cX17_asPublicException 0 = .ok (.new 13, 3) := dk_187 0 13 (dk_at dksX17_asPublicException_0 0 rfl rfl)
theorem dX17_asPublicException_3 : decode cX17_asPublicException 3 = .ok (.dup, 1) := dk_89 (dk_at dksX17_asPublicException_0 3 rfl rfl)
theorem dX17_asPublicException_4 : decode cX17_asPublicException 4 = .ok (.invokespecial 15, 3) := dk_183 0 15 (dk_at dksX17_asPublicException_0 4 rfl rfl)
theorem dX17_asPublicException_7 : decode cX17_asPublicException 7 = .ok (.areturn, 1) := dk_176 (dk_at dksX17_asPublicException_0 7 rfl rfl)
abbrev cX17_init : ByteArray := prog_24_method_1_code
def yX17_init : MethodName := ⟨RX17, "<init>", "(I)V"⟩
def dkwX17_init_0 : List UInt8 := [42, 1, 183, 0, 1, 42, 27, 181, 0, 7, 177]
abbrev dktX17_init_0 : List UInt8 := dkwX17_init_0 ++ []
theorem dksX17_init_0 : cX17_init.data.toList.drop 0 = dktX17_init_0 := by decide +kernel
theorem dX17_init_0 : decode cX17_init 0 = .ok (.aload_n 0, 1) := dk_42 (dk_at dksX17_init_0 0 rfl rfl)
theorem dX17_init_1 : decode cX17_init 1 = .ok (.aconst_null, 1) := dk_1 (dk_at dksX17_init_0 1 rfl rfl)
theorem dX17_init_2 : decode cX17_init 2 = .ok (.invokespecial 1, 3) := dk_183 0 1 (dk_at dksX17_init_0 2 rfl rfl)
theorem dX17_init_5 : decode cX17_init 5 = .ok (.aload_n 0, 1) := dk_42 (dk_at dksX17_init_0 5 rfl rfl)
theorem dX17_init_6 : decode cX17_init 6 = .ok (.iload_n 1, 1) := dk_27 (dk_at dksX17_init_0 6 rfl rfl)
theorem dX17_init_7 : decode cX17_init 7 = .ok (.putfield 7, 3) := dk_181 0 7 (dk_at dksX17_init_0 7 rfl rfl)
theorem dX17_init_10 : decode cX17_init 10 = .ok (.return_, 1) := dk_177 (dk_at dksX17_init_0 10 rfl rfl)
abbrev cX17_position : ByteArray := prog_24_method_2_code
def yX17_position : MethodName := ⟨RX17, "position", "()I"⟩
theorem dX17_position_0 : decode cX17_position 0 = .ok (.aload_n 0, 1) := by decide +kernel
theorem dX17_position_1 : decode cX17_position 1 = .ok (.getfield 7, 3) := by decide +kernel
theorem dX17_position_4 : decode cX17_position 4 = .ok (.ireturn, 1) := by decide +kernel
theorem q142 : (Jvm.Cond.initialized "GoblinHousehold$SyntaxFailure") ∈ lw_all := lw_g (lw_at lw_m1 49 rfl) rfl
theorem q427 : (Jvm.Cond.selects "GoblinHousehold$SyntaxFailure" ({ cls := "java/lang/Throwable", name := "fillInStackTrace", desc := "()Ljava/lang/Throwable;" } : Jvm.MethodName) ({ cls := "java/lang/Throwable", name := "fillInStackTrace", desc := "()Ljava/lang/Throwable;" } : Jvm.MethodName)) ∈ lw_all := lw_g (lw_at lw_m2 94 rfl) rfl
theorem q996 : (Jvm.Cond.selects "GoblinHousehold$SyntaxFailure" ({ cls := "java/lang/Object", name := "getClass", desc := "()Ljava/lang/Class;" } : Jvm.MethodName) ({ cls := "java/lang/Object", name := "getClass", desc := "()Ljava/lang/Class;" } : Jvm.MethodName)) ∈ lw_all := lw_g (lw_at lw_m4 183 rfl) rfl
theorem q1290 : (Jvm.Cond.selects "GoblinHousehold$SyntaxFailure" ({ cls := "GoblinHousehold$Failure", name := "asPublicException", desc := "()Ljava/lang/RuntimeException;" } : Jvm.MethodName) ({ cls := "GoblinHousehold$SyntaxFailure", name := "asPublicException", desc := "()Ljava/lang/RuntimeException;" } : Jvm.MethodName)) ∈ lw_all := lw_g (lw_at lw_m5 237 rfl) rfl
theorem q1291 : (Jvm.Cond.instanceMethod ({ cls := "GoblinHousehold$SyntaxFailure", name := "asPublicException", desc := "()Ljava/lang/RuntimeException;" } : Jvm.MethodName)) ∈ lw_all := lw_g (lw_at lw_m5 238 rfl) rfl
theorem q1292 : (Jvm.Cond.code ({ cls := "GoblinHousehold$SyntaxFailure", name := "asPublicException", desc := "()Ljava/lang/RuntimeException;" } : Jvm.MethodName) prog_24_method_3_code (1 : Nat) (Option.some (Jvm.ClassFile.FieldType.object "java/lang/RuntimeException"))) ∈ lw_all := lw_g (lw_at lw_m5 239 rfl) rfl
theorem q1293 : (Jvm.Cond.classLink "GoblinHousehold$SyntaxFailure" (13 : Nat) "java/lang/IllegalArgumentException") ∈ lw_all := lw_g (lw_at lw_m6 0 rfl) rfl
theorem q1294 : (Jvm.Cond.methodLink "GoblinHousehold$SyntaxFailure" (15 : Nat) ({ cls := "java/lang/IllegalArgumentException", name := "<init>", desc := "()V" } : Jvm.MethodName)) ∈ lw_all := lw_g (lw_at lw_m6 1 rfl) rfl
theorem q1513 : (Jvm.Cond.selects "GoblinHousehold$SyntaxFailure" ({ cls := "java/lang/Object", name := "equals", desc := "(Ljava/lang/Object;)Z" } : Jvm.MethodName) ({ cls := "java/lang/Object", name := "equals", desc := "(Ljava/lang/Object;)Z" } : Jvm.MethodName)) ∈ lw_all := lw_g (lw_at lw_m6 220 rfl) rfl
theorem q2128 : (Jvm.Cond.selects "GoblinHousehold$SyntaxFailure" ({ cls := "java/lang/Throwable", name := "getLocalizedMessage", desc := "()Ljava/lang/String;" } : Jvm.MethodName) ({ cls := "java/lang/Throwable", name := "getLocalizedMessage", desc := "()Ljava/lang/String;" } : Jvm.MethodName)) ∈ lw_all := lw_g (lw_at lw_m9 115 rfl) rfl
theorem q2143 : (Jvm.Cond.selects "GoblinHousehold$SyntaxFailure" ({ cls := "java/lang/Throwable", name := "getMessage", desc := "()Ljava/lang/String;" } : Jvm.MethodName) ({ cls := "java/lang/Throwable", name := "getMessage", desc := "()Ljava/lang/String;" } : Jvm.MethodName)) ∈ lw_all := lw_g (lw_at lw_m9 130 rfl) rfl
theorem q2167 : (Jvm.Cond.selects "GoblinHousehold$SyntaxFailure" ({ cls := "java/lang/Object", name := "toString", desc := "()Ljava/lang/String;" } : Jvm.MethodName) ({ cls := "java/lang/Throwable", name := "toString", desc := "()Ljava/lang/String;" } : Jvm.MethodName)) ∈ lw_all := lw_g (lw_at lw_m9 154 rfl) rfl
theorem q2227 : (Jvm.Cond.instantiable "GoblinHousehold$SyntaxFailure" (7 : Nat)) ∈ lw_all := lw_g (lw_at lw_m9 214 rfl) rfl
theorem q2228 : (Jvm.Cond.castable "GoblinHousehold$SyntaxFailure" "GoblinHousehold$SyntaxFailure") ∈ lw_tbl := lw_at lw_m9 215 rfl
theorem q2229 : (Jvm.Cond.selects "GoblinHousehold$SyntaxFailure" ({ cls := "java/lang/Throwable", name := "fillInStackTrace", desc := "(I)Ljava/lang/Throwable;" } : Jvm.MethodName) ({ cls := "java/lang/Throwable", name := "fillInStackTrace", desc := "(I)Ljava/lang/Throwable;" } : Jvm.MethodName)) ∈ lw_all := lw_g (lw_at lw_m9 216 rfl) rfl
theorem q2230 : (Jvm.Cond.lays "GoblinHousehold$SyntaxFailure" "java/lang/Throwable" "cause" "Ljava/lang/Throwable;") ∈ lw_all := lw_g (lw_at lw_m9 217 rfl) rfl
theorem q2231 : (Jvm.Cond.lays "GoblinHousehold$SyntaxFailure" "java/lang/Throwable" "stackTrace" "[Ljava/lang/StackTraceElement;") ∈ lw_all := lw_g (lw_at lw_m9 218 rfl) rfl
theorem q2232 : (Jvm.Cond.lays "GoblinHousehold$SyntaxFailure" "java/lang/Throwable" "suppressedExceptions" "Ljava/util/List;") ∈ lw_all := lw_g (lw_at lw_m9 219 rfl) rfl
theorem q2233 : (Jvm.Cond.lays "GoblinHousehold$SyntaxFailure" "java/lang/Throwable" "detailMessage" "Ljava/lang/String;") ∈ lw_all := lw_g (lw_at lw_m9 220 rfl) rfl
theorem q2234 : (Jvm.Cond.lays "GoblinHousehold$SyntaxFailure" "java/lang/Throwable" "backtrace" "Ljava/lang/Object;") ∈ lw_all := lw_g (lw_at lw_m9 221 rfl) rfl
theorem q2236 : (Jvm.Cond.instanceMethod ({ cls := "GoblinHousehold$SyntaxFailure", name := "<init>", desc := "(I)V" } : Jvm.MethodName)) ∈ lw_all := lw_g (lw_at lw_m9 223 rfl) rfl
theorem q2237 : (Jvm.Cond.code ({ cls := "GoblinHousehold$SyntaxFailure", name := "<init>", desc := "(I)V" } : Jvm.MethodName) prog_24_method_1_code (2 : Nat) (Option.none : Option Jvm.ClassFile.FieldType)) ∈ lw_all := lw_g (lw_at lw_m9 224 rfl) rfl
theorem q2238 : (Jvm.Cond.methodLink "GoblinHousehold$SyntaxFailure" (1 : Nat) ({ cls := "GoblinHousehold$Failure", name := "<init>", desc := "(LGoblinHousehold$Failure;)V" } : Jvm.MethodName)) ∈ lw_all := lw_g (lw_at lw_m9 225 rfl) rfl
theorem q2239 : (Jvm.Cond.fieldLink "GoblinHousehold$SyntaxFailure" (7 : Nat) "GoblinHousehold$SyntaxFailure" "position" "I") ∈ lw_all := lw_g (lw_at lw_m9 226 rfl) rfl
theorem q2240 : (Jvm.Cond.laysFinal "GoblinHousehold$SyntaxFailure" "GoblinHousehold$SyntaxFailure" "position" "I") ∈ lw_all := lw_g (lw_at lw_m9 227 rfl) rfl
theorem q2241 : (Jvm.Cond.soleField "GoblinHousehold$SyntaxFailure" "position") ∈ lw_all := lw_g (lw_at lw_m9 228 rfl) rfl
theorem q2242 : (Jvm.Cond.lays "GoblinHousehold$SyntaxFailure" "java/lang/Throwable" "depth" "I") ∈ lw_all := lw_g (lw_at lw_m9 229 rfl) rfl
theorem q2243 : (Jvm.Cond.superclass "GoblinHousehold$SyntaxFailure" "GoblinHousehold$Failure") ∈ lw_all := lw_g (lw_at lw_m9 230 rfl) rfl
theorem q2411 : (Jvm.Cond.instanceMethod ({ cls := "GoblinHousehold$SyntaxFailure", name := "position", desc := "()I" } : Jvm.MethodName)) ∈ lw_all := lw_g (lw_at lw_m10 158 rfl) rfl
theorem q2412 : (Jvm.Cond.selects "GoblinHousehold$SyntaxFailure" ({ cls := "GoblinHousehold$SyntaxFailure", name := "position", desc := "()I" } : Jvm.MethodName) ({ cls := "GoblinHousehold$SyntaxFailure", name := "position", desc := "()I" } : Jvm.MethodName)) ∈ lw_all := lw_g (lw_at lw_m10 159 rfl) rfl
theorem q2413 : (Jvm.Cond.code ({ cls := "GoblinHousehold$SyntaxFailure", name := "position", desc := "()I" } : Jvm.MethodName) prog_24_method_2_code (1 : Nat) (Option.some Jvm.ClassFile.FieldType.int)) ∈ lw_all := lw_g (lw_at lw_m10 160 rfl) rfl
theorem q3002 : (Jvm.Cond.selects "GoblinHousehold$SyntaxFailure" ({ cls := "GoblinHousehold$SyntaxFailure", name := "asPublicException", desc := "()Ljava/lang/RuntimeException;" } : Jvm.MethodName) ({ cls := "GoblinHousehold$SyntaxFailure", name := "asPublicException", desc := "()Ljava/lang/RuntimeException;" } : Jvm.MethodName)) ∈ lw_all := lw_g (lw_at lw_m13 29 rfl) rfl
theorem q3007 : (Jvm.Cond.castable "GoblinHousehold$SyntaxFailure" "GoblinHousehold$Failure") ∈ lw_tbl := lw_at lw_m13 34 rfl
theorem q3038 : (Jvm.Cond.castable "GoblinHousehold$SyntaxFailure" "java/lang/Object") ∈ lw_tbl := lw_at lw_m13 65 rfl
theorem in_X17 : ∀ w ∈ wsX170, w ∈ lw_all := lw_in wsX170 [2230, 2231, 2232, 2233, 2234, 2242, 2240] (by decide +kernel) (by decide +kernel)
/-! GoblinHousehold$CommandFailure -/
set_option maxRecDepth 100000
def RX18 : String := "GoblinHousehold$CommandFailure"
def TX18 : u_T := fun k => match k with
  | 0 => ("java/lang/Throwable", "cause", "Ljava/lang/Throwable;", false)
  | 1 => ("java/lang/Throwable", "stackTrace", "[Ljava/lang/StackTraceElement;", false)
  | 2 => ("java/lang/Throwable", "suppressedExceptions", "Ljava/util/List;", false)
  | 3 => ("java/lang/Throwable", "detailMessage", "Ljava/lang/String;", false)
  | 4 => ("java/lang/Throwable", "backtrace", "Ljava/lang/Object;", false)
  | 5 => ("java/lang/Throwable", "depth", "I", false)
  | _ => ("GoblinHousehold$CommandFailure", "index", "I", true)
def tyX18 : Nat → FieldType := fun k => match k with
  | 0 => .object "java/lang/Throwable"
  | 1 => .array (.object "java/lang/StackTraceElement")
  | 2 => .object "java/util/List"
  | 3 => .object "java/lang/String"
  | 4 => .object "java/lang/Object"
  | 5 => .int
  | _ => .int
abbrev wsX180 : List Cond := u_ws RX18 TX18 7
theorem nmX18 : ∀ a, a < 7 → ∀ b, b < 7 → a ≠ b → (TX18 a).2.1 ≠ (TX18 b).2.1 := by decide +kernel
theorem tyX18_ok : ∀ k, k < 7 → parseFieldDescriptor (TX18 k).2.2.1 = some (tyX18 k) := by decide +kernel
abbrev cX18_asPublicException : ByteArray := prog_9_method_3_code
def yX18_asPublicException : MethodName := ⟨RX18, "asPublicException", "()Ljava/lang/RuntimeException;"⟩
def dkwX18_asPublicException_0 : List UInt8 := [187, 0, 13, 89, 183, 0, 15, 176]
abbrev dktX18_asPublicException_0 : List UInt8 := dkwX18_asPublicException_0 ++ []
theorem dksX18_asPublicException_0 : cX18_asPublicException.data.toList.drop 0 = dktX18_asPublicException_0 := by decide +kernel
theorem dX18_asPublicException_0 : decode cX18_asPublicException 0 = .ok (.new 13, 3) := dk_187 0 13 (dk_at dksX18_asPublicException_0 0 rfl rfl)
theorem dX18_asPublicException_3 : decode cX18_asPublicException 3 = .ok (.dup, 1) := dk_89 (dk_at dksX18_asPublicException_0 3 rfl rfl)
theorem dX18_asPublicException_4 : decode cX18_asPublicException 4 = .ok (.invokespecial 15, 3) := dk_183 0 15 (dk_at dksX18_asPublicException_0 4 rfl rfl)
theorem dX18_asPublicException_7 : decode cX18_asPublicException 7 = .ok (.areturn, 1) := dk_176 (dk_at dksX18_asPublicException_0 7 rfl rfl)
abbrev cX18_init : ByteArray := prog_9_method_1_code
def yX18_init : MethodName := ⟨RX18, "<init>", "(ILGoblinHousehold$Failure;)V"⟩
def dkwX18_init_0 : List UInt8 := [42, 44, 183, 0, 1, 42, 27, 181, 0, 7, 177]
abbrev dktX18_init_0 : List UInt8 := dkwX18_init_0 ++ []
theorem dksX18_init_0 : cX18_init.data.toList.drop 0 = dktX18_init_0 := by decide +kernel
theorem dX18_init_0 : decode cX18_init 0 = .ok (.aload_n 0, 1) := dk_42 (dk_at dksX18_init_0 0 rfl rfl)
theorem dX18_init_1 : decode cX18_init 1 = .ok (.aload_n 2, 1) := dk_44 (dk_at dksX18_init_0 1 rfl rfl)
theorem dX18_init_2 : decode cX18_init 2 = .ok (.invokespecial 1, 3) := dk_183 0 1 (dk_at dksX18_init_0 2 rfl rfl)
theorem dX18_init_5 : decode cX18_init 5 = .ok (.aload_n 0, 1) := dk_42 (dk_at dksX18_init_0 5 rfl rfl)
theorem dX18_init_6 : decode cX18_init 6 = .ok (.iload_n 1, 1) := dk_27 (dk_at dksX18_init_0 6 rfl rfl)
theorem dX18_init_7 : decode cX18_init 7 = .ok (.putfield 7, 3) := dk_181 0 7 (dk_at dksX18_init_0 7 rfl rfl)
theorem dX18_init_10 : decode cX18_init 10 = .ok (.return_, 1) := dk_177 (dk_at dksX18_init_0 10 rfl rfl)
abbrev cX18_index : ByteArray := prog_9_method_2_code
def yX18_index : MethodName := ⟨RX18, "index", "()I"⟩
theorem dX18_index_0 : decode cX18_index 0 = .ok (.aload_n 0, 1) := by decide +kernel
theorem dX18_index_1 : decode cX18_index 1 = .ok (.getfield 7, 3) := by decide +kernel
theorem dX18_index_4 : decode cX18_index 4 = .ok (.ireturn, 1) := by decide +kernel
theorem q143 : (Jvm.Cond.initialized "GoblinHousehold$CommandFailure") ∈ lw_all := lw_g (lw_at lw_m1 50 rfl) rfl
theorem q425 : (Jvm.Cond.selects "GoblinHousehold$CommandFailure" ({ cls := "java/lang/Throwable", name := "fillInStackTrace", desc := "()Ljava/lang/Throwable;" } : Jvm.MethodName) ({ cls := "java/lang/Throwable", name := "fillInStackTrace", desc := "()Ljava/lang/Throwable;" } : Jvm.MethodName)) ∈ lw_all := lw_g (lw_at lw_m2 92 rfl) rfl
theorem q987 : (Jvm.Cond.selects "GoblinHousehold$CommandFailure" ({ cls := "java/lang/Object", name := "getClass", desc := "()Ljava/lang/Class;" } : Jvm.MethodName) ({ cls := "java/lang/Object", name := "getClass", desc := "()Ljava/lang/Class;" } : Jvm.MethodName)) ∈ lw_all := lw_g (lw_at lw_m4 174 rfl) rfl
theorem q1167 : (Jvm.Cond.selects "GoblinHousehold$CommandFailure" ({ cls := "GoblinHousehold$Failure", name := "asPublicException", desc := "()Ljava/lang/RuntimeException;" } : Jvm.MethodName) ({ cls := "GoblinHousehold$CommandFailure", name := "asPublicException", desc := "()Ljava/lang/RuntimeException;" } : Jvm.MethodName)) ∈ lw_all := lw_g (lw_at lw_m5 114 rfl) rfl
theorem q1168 : (Jvm.Cond.instanceMethod ({ cls := "GoblinHousehold$CommandFailure", name := "asPublicException", desc := "()Ljava/lang/RuntimeException;" } : Jvm.MethodName)) ∈ lw_all := lw_g (lw_at lw_m5 115 rfl) rfl
theorem q1169 : (Jvm.Cond.code ({ cls := "GoblinHousehold$CommandFailure", name := "asPublicException", desc := "()Ljava/lang/RuntimeException;" } : Jvm.MethodName) prog_9_method_3_code (1 : Nat) (Option.some (Jvm.ClassFile.FieldType.object "java/lang/RuntimeException"))) ∈ lw_all := lw_g (lw_at lw_m5 116 rfl) rfl
theorem q1170 : (Jvm.Cond.classLink "GoblinHousehold$CommandFailure" (13 : Nat) "java/lang/IllegalStateException") ∈ lw_all := lw_g (lw_at lw_m5 117 rfl) rfl
theorem q1179 : (Jvm.Cond.methodLink "GoblinHousehold$CommandFailure" (15 : Nat) ({ cls := "java/lang/IllegalStateException", name := "<init>", desc := "()V" } : Jvm.MethodName)) ∈ lw_all := lw_g (lw_at lw_m5 126 rfl) rfl
theorem q1504 : (Jvm.Cond.selects "GoblinHousehold$CommandFailure" ({ cls := "java/lang/Object", name := "equals", desc := "(Ljava/lang/Object;)Z" } : Jvm.MethodName) ({ cls := "java/lang/Object", name := "equals", desc := "(Ljava/lang/Object;)Z" } : Jvm.MethodName)) ∈ lw_all := lw_g (lw_at lw_m6 211 rfl) rfl
theorem q2119 : (Jvm.Cond.selects "GoblinHousehold$CommandFailure" ({ cls := "java/lang/Object", name := "toString", desc := "()Ljava/lang/String;" } : Jvm.MethodName) ({ cls := "java/lang/Throwable", name := "toString", desc := "()Ljava/lang/String;" } : Jvm.MethodName)) ∈ lw_all := lw_g (lw_at lw_m9 106 rfl) rfl
theorem q2126 : (Jvm.Cond.selects "GoblinHousehold$CommandFailure" ({ cls := "java/lang/Throwable", name := "getLocalizedMessage", desc := "()Ljava/lang/String;" } : Jvm.MethodName) ({ cls := "java/lang/Throwable", name := "getLocalizedMessage", desc := "()Ljava/lang/String;" } : Jvm.MethodName)) ∈ lw_all := lw_g (lw_at lw_m9 113 rfl) rfl
theorem q2141 : (Jvm.Cond.selects "GoblinHousehold$CommandFailure" ({ cls := "java/lang/Throwable", name := "getMessage", desc := "()Ljava/lang/String;" } : Jvm.MethodName) ({ cls := "java/lang/Throwable", name := "getMessage", desc := "()Ljava/lang/String;" } : Jvm.MethodName)) ∈ lw_all := lw_g (lw_at lw_m9 128 rfl) rfl
theorem q2341 : (Jvm.Cond.instantiable "GoblinHousehold$CommandFailure" (7 : Nat)) ∈ lw_all := lw_g (lw_at lw_m10 88 rfl) rfl
theorem q2342 : (Jvm.Cond.castable "GoblinHousehold$CommandFailure" "GoblinHousehold$CommandFailure") ∈ lw_tbl := lw_at lw_m10 89 rfl
theorem q2343 : (Jvm.Cond.selects "GoblinHousehold$CommandFailure" ({ cls := "java/lang/Throwable", name := "fillInStackTrace", desc := "(I)Ljava/lang/Throwable;" } : Jvm.MethodName) ({ cls := "java/lang/Throwable", name := "fillInStackTrace", desc := "(I)Ljava/lang/Throwable;" } : Jvm.MethodName)) ∈ lw_all := lw_g (lw_at lw_m10 90 rfl) rfl
theorem q2344 : (Jvm.Cond.lays "GoblinHousehold$CommandFailure" "java/lang/Throwable" "cause" "Ljava/lang/Throwable;") ∈ lw_all := lw_g (lw_at lw_m10 91 rfl) rfl
theorem q2345 : (Jvm.Cond.lays "GoblinHousehold$CommandFailure" "java/lang/Throwable" "stackTrace" "[Ljava/lang/StackTraceElement;") ∈ lw_all := lw_g (lw_at lw_m10 92 rfl) rfl
theorem q2346 : (Jvm.Cond.lays "GoblinHousehold$CommandFailure" "java/lang/Throwable" "suppressedExceptions" "Ljava/util/List;") ∈ lw_all := lw_g (lw_at lw_m10 93 rfl) rfl
theorem q2347 : (Jvm.Cond.lays "GoblinHousehold$CommandFailure" "java/lang/Throwable" "detailMessage" "Ljava/lang/String;") ∈ lw_all := lw_g (lw_at lw_m10 94 rfl) rfl
theorem q2348 : (Jvm.Cond.lays "GoblinHousehold$CommandFailure" "java/lang/Throwable" "backtrace" "Ljava/lang/Object;") ∈ lw_all := lw_g (lw_at lw_m10 95 rfl) rfl
theorem q2350 : (Jvm.Cond.instanceMethod ({ cls := "GoblinHousehold$CommandFailure", name := "<init>", desc := "(ILGoblinHousehold$Failure;)V" } : Jvm.MethodName)) ∈ lw_all := lw_g (lw_at lw_m10 97 rfl) rfl
theorem q2351 : (Jvm.Cond.code ({ cls := "GoblinHousehold$CommandFailure", name := "<init>", desc := "(ILGoblinHousehold$Failure;)V" } : Jvm.MethodName) prog_9_method_1_code (3 : Nat) (Option.none : Option Jvm.ClassFile.FieldType)) ∈ lw_all := lw_g (lw_at lw_m10 98 rfl) rfl
theorem q2352 : (Jvm.Cond.methodLink "GoblinHousehold$CommandFailure" (1 : Nat) ({ cls := "GoblinHousehold$Failure", name := "<init>", desc := "(LGoblinHousehold$Failure;)V" } : Jvm.MethodName)) ∈ lw_all := lw_g (lw_at lw_m10 99 rfl) rfl
theorem q2353 : (Jvm.Cond.fieldLink "GoblinHousehold$CommandFailure" (7 : Nat) "GoblinHousehold$CommandFailure" "index" "I") ∈ lw_all := lw_g (lw_at lw_m10 100 rfl) rfl
theorem q2354 : (Jvm.Cond.laysFinal "GoblinHousehold$CommandFailure" "GoblinHousehold$CommandFailure" "index" "I") ∈ lw_all := lw_g (lw_at lw_m10 101 rfl) rfl
theorem q2355 : (Jvm.Cond.soleField "GoblinHousehold$CommandFailure" "index") ∈ lw_all := lw_g (lw_at lw_m10 102 rfl) rfl
theorem q2356 : (Jvm.Cond.lays "GoblinHousehold$CommandFailure" "java/lang/Throwable" "depth" "I") ∈ lw_all := lw_g (lw_at lw_m10 103 rfl) rfl
theorem q2357 : (Jvm.Cond.superclass "GoblinHousehold$CommandFailure" "GoblinHousehold$Failure") ∈ lw_all := lw_g (lw_at lw_m10 104 rfl) rfl
theorem q2416 : (Jvm.Cond.instanceMethod ({ cls := "GoblinHousehold$CommandFailure", name := "index", desc := "()I" } : Jvm.MethodName)) ∈ lw_all := lw_g (lw_at lw_m10 163 rfl) rfl
theorem q2417 : (Jvm.Cond.selects "GoblinHousehold$CommandFailure" ({ cls := "GoblinHousehold$CommandFailure", name := "index", desc := "()I" } : Jvm.MethodName) ({ cls := "GoblinHousehold$CommandFailure", name := "index", desc := "()I" } : Jvm.MethodName)) ∈ lw_all := lw_g (lw_at lw_m10 164 rfl) rfl
theorem q2418 : (Jvm.Cond.code ({ cls := "GoblinHousehold$CommandFailure", name := "index", desc := "()I" } : Jvm.MethodName) prog_9_method_2_code (1 : Nat) (Option.some Jvm.ClassFile.FieldType.int)) ∈ lw_all := lw_g (lw_at lw_m10 165 rfl) rfl
theorem q3003 : (Jvm.Cond.selects "GoblinHousehold$CommandFailure" ({ cls := "GoblinHousehold$CommandFailure", name := "asPublicException", desc := "()Ljava/lang/RuntimeException;" } : Jvm.MethodName) ({ cls := "GoblinHousehold$CommandFailure", name := "asPublicException", desc := "()Ljava/lang/RuntimeException;" } : Jvm.MethodName)) ∈ lw_all := lw_g (lw_at lw_m13 30 rfl) rfl
theorem q3005 : (Jvm.Cond.castable "GoblinHousehold$CommandFailure" "GoblinHousehold$Failure") ∈ lw_tbl := lw_at lw_m13 32 rfl
theorem q3039 : (Jvm.Cond.castable "GoblinHousehold$CommandFailure" "java/lang/Object") ∈ lw_tbl := lw_at lw_m13 66 rfl
theorem in_X18 : ∀ w ∈ wsX180, w ∈ lw_all := lw_in wsX180 [2344, 2345, 2346, 2347, 2348, 2356, 2354] (by decide +kernel) (by decide +kernel)
/-! GoblinHousehold$Standing$1 -/
set_option maxRecDepth 100000
def RX19 : String := "GoblinHousehold$Standing$1"
abbrev cX19_usefulPower : ByteArray := prog_22_method_2_code
def yX19_usefulPower : MethodName := ⟨RX19, "usefulPower", "(I)I"⟩
theorem dX19_usefulPower_0 : decode cX19_usefulPower 0 = .ok (.iload_n 1, 1) := by decide +kernel
theorem dX19_usefulPower_1 : decode cX19_usefulPower 1 = .ok (.ireturn, 1) := by decide +kernel
theorem q994 : (Jvm.Cond.selects "GoblinHousehold$Standing$1" ({ cls := "java/lang/Object", name := "getClass", desc := "()Ljava/lang/Class;" } : Jvm.MethodName) ({ cls := "java/lang/Object", name := "getClass", desc := "()Ljava/lang/Class;" } : Jvm.MethodName)) ∈ lw_all := lw_g (lw_at lw_m4 181 rfl) rfl
theorem q1511 : (Jvm.Cond.selects "GoblinHousehold$Standing$1" ({ cls := "java/lang/Object", name := "equals", desc := "(Ljava/lang/Object;)Z" } : Jvm.MethodName) ({ cls := "java/lang/Enum", name := "equals", desc := "(Ljava/lang/Object;)Z" } : Jvm.MethodName)) ∈ lw_all := lw_g (lw_at lw_m6 218 rfl) rfl
theorem q1661 : (Jvm.Cond.selects "GoblinHousehold$Standing$1" ({ cls := "GoblinHousehold$Standing", name := "usefulPower", desc := "(I)I" } : Jvm.MethodName) ({ cls := "GoblinHousehold$Standing$1", name := "usefulPower", desc := "(I)I" } : Jvm.MethodName)) ∈ lw_all := lw_g (lw_at lw_m7 128 rfl) rfl
theorem q1662 : (Jvm.Cond.instanceMethod ({ cls := "GoblinHousehold$Standing$1", name := "usefulPower", desc := "(I)I" } : Jvm.MethodName)) ∈ lw_all := lw_g (lw_at lw_m7 129 rfl) rfl
theorem q1663 : (Jvm.Cond.code ({ cls := "GoblinHousehold$Standing$1", name := "usefulPower", desc := "(I)I" } : Jvm.MethodName) prog_22_method_2_code (2 : Nat) (Option.some Jvm.ClassFile.FieldType.int)) ∈ lw_all := lw_g (lw_at lw_m7 130 rfl) rfl
theorem q2163 : (Jvm.Cond.selects "GoblinHousehold$Standing$1" ({ cls := "java/lang/Object", name := "toString", desc := "()Ljava/lang/String;" } : Jvm.MethodName) ({ cls := "java/lang/Enum", name := "toString", desc := "()Ljava/lang/String;" } : Jvm.MethodName)) ∈ lw_all := lw_g (lw_at lw_m9 150 rfl) rfl
theorem q3027 : (Jvm.Cond.castable "GoblinHousehold$Standing$1" "java/lang/Object") ∈ lw_tbl := lw_at lw_m13 54 rfl
/-! GoblinHousehold$Standing$2 -/
set_option maxRecDepth 100000
def RX20 : String := "GoblinHousehold$Standing$2"
abbrev cX20_usefulPower : ByteArray := prog_23_method_2_code
def yX20_usefulPower : MethodName := ⟨RX20, "usefulPower", "(I)I"⟩
theorem dX20_usefulPower_0 : decode cX20_usefulPower 0 = .ok (.iconst 0, 1) := by decide +kernel
theorem dX20_usefulPower_1 : decode cX20_usefulPower 1 = .ok (.ireturn, 1) := by decide +kernel
theorem q995 : (Jvm.Cond.selects "GoblinHousehold$Standing$2" ({ cls := "java/lang/Object", name := "getClass", desc := "()Ljava/lang/Class;" } : Jvm.MethodName) ({ cls := "java/lang/Object", name := "getClass", desc := "()Ljava/lang/Class;" } : Jvm.MethodName)) ∈ lw_all := lw_g (lw_at lw_m4 182 rfl) rfl
theorem q1512 : (Jvm.Cond.selects "GoblinHousehold$Standing$2" ({ cls := "java/lang/Object", name := "equals", desc := "(Ljava/lang/Object;)Z" } : Jvm.MethodName) ({ cls := "java/lang/Enum", name := "equals", desc := "(Ljava/lang/Object;)Z" } : Jvm.MethodName)) ∈ lw_all := lw_g (lw_at lw_m6 219 rfl) rfl
theorem q1664 : (Jvm.Cond.selects "GoblinHousehold$Standing$2" ({ cls := "GoblinHousehold$Standing", name := "usefulPower", desc := "(I)I" } : Jvm.MethodName) ({ cls := "GoblinHousehold$Standing$2", name := "usefulPower", desc := "(I)I" } : Jvm.MethodName)) ∈ lw_all := lw_g (lw_at lw_m7 131 rfl) rfl
theorem q1665 : (Jvm.Cond.instanceMethod ({ cls := "GoblinHousehold$Standing$2", name := "usefulPower", desc := "(I)I" } : Jvm.MethodName)) ∈ lw_all := lw_g (lw_at lw_m7 132 rfl) rfl
theorem q1666 : (Jvm.Cond.code ({ cls := "GoblinHousehold$Standing$2", name := "usefulPower", desc := "(I)I" } : Jvm.MethodName) prog_23_method_2_code (2 : Nat) (Option.some Jvm.ClassFile.FieldType.int)) ∈ lw_all := lw_g (lw_at lw_m7 133 rfl) rfl
theorem q2166 : (Jvm.Cond.selects "GoblinHousehold$Standing$2" ({ cls := "java/lang/Object", name := "toString", desc := "()Ljava/lang/String;" } : Jvm.MethodName) ({ cls := "java/lang/Enum", name := "toString", desc := "()Ljava/lang/String;" } : Jvm.MethodName)) ∈ lw_all := lw_g (lw_at lw_m9 153 rfl) rfl
theorem q3029 : (Jvm.Cond.castable "GoblinHousehold$Standing$2" "java/lang/Object") ∈ lw_tbl := lw_at lw_m13 56 rfl
theorem q1124 : (Jvm.Cond.interfaceMethod "GoblinHousehold$Change" "GoblinHousehold$Change" "applyTo" "(LGoblinHousehold$Household;)I") ∈ lw_tbl := lw_at lw_m5 71 rfl
set_option maxRecDepth 100000
theorem q1125 : (Jvm.Cond.declares ({ cls := "GoblinHousehold$Change", name := "applyTo", desc := "(LGoblinHousehold$Household;)I" } : Jvm.MethodName)) ∈ lw_tbl := lw_at lw_m5 72 rfl
theorem q1069 : (Jvm.Cond.interfaceMethod "GoblinHousehold$Copied" "GoblinHousehold$Copied" "copy" "()Ljava/lang/Object;") ∈ lw_tbl := lw_at lw_m5 16 rfl
set_option maxRecDepth 100000
theorem q1070 : (Jvm.Cond.declares ({ cls := "GoblinHousehold$Copied", name := "copy", desc := "()Ljava/lang/Object;" } : Jvm.MethodName)) ∈ lw_tbl := lw_at lw_m5 17 rfl
theorem q1454 : (Jvm.Cond.interfaceMethod "GoblinHousehold$Ending" "GoblinHousehold$Ending" "contract" "()LGoblinHousehold$Contract;") ∈ lw_tbl := lw_at lw_m6 161 rfl
set_option maxRecDepth 100000
theorem q1455 : (Jvm.Cond.declares ({ cls := "GoblinHousehold$Ending", name := "contract", desc := "()LGoblinHousehold$Contract;" } : Jvm.MethodName)) ∈ lw_tbl := lw_at lw_m6 162 rfl
theorem q819 : (Jvm.Cond.interfaceMethod "GoblinHousehold$Question" "GoblinHousehold$Question" "ask" "(LGoblinHousehold$Contract;)I") ∈ lw_tbl := lw_at lw_m4 6 rfl
set_option maxRecDepth 100000
theorem q820 : (Jvm.Cond.declares ({ cls := "GoblinHousehold$Question", name := "ask", desc := "(LGoblinHousehold$Contract;)I" } : Jvm.MethodName)) ∈ lw_tbl := lw_at lw_m4 7 rfl
theorem q128 : (Jvm.Cond.initialized "GoblinHousehold$Standing") ∈ lw_all := lw_g (lw_at lw_m1 35 rfl) rfl
set_option maxRecDepth 100000
theorem q792 : (Jvm.Cond.laysStatic "GoblinHousehold$Standing" "USED" "LGoblinHousehold$Standing;") ∈ lw_tbl := lw_at lw_m3 219 rfl
theorem q1339 : (Jvm.Cond.laysStatic "GoblinHousehold$Standing" "BANISHED" "LGoblinHousehold$Standing;") ∈ lw_tbl := lw_at lw_m6 46 rfl
theorem q1659 : (Jvm.Cond.declares ({ cls := "GoblinHousehold$Standing", name := "usefulPower", desc := "(I)I" } : Jvm.MethodName)) ∈ lw_tbl := lw_at lw_m7 126 rfl
theorem q1660 : (Jvm.Cond.sameMethod "GoblinHousehold$Standing" "GoblinHousehold$Standing" "usefulPower" "(I)I") ∈ lw_all := lw_g (lw_at lw_m7 127 rfl) rfl
theorem q3045 : (Jvm.Cond.castable "GoblinHousehold$Standing" "java/lang/Object") ∈ lw_tbl := lw_at lw_m13 72 rfl
theorem q3055 : (Jvm.Cond.stringRef "GoblinHousehold$Standing" (31 : Nat) "USED") ∈ lw_tbl := lw_at lw_m13 82 rfl
theorem q3056 : (Jvm.Cond.stringRef "GoblinHousehold$Standing" (35 : Nat) "BANISHED") ∈ lw_tbl := lw_at lw_m13 83 rfl
