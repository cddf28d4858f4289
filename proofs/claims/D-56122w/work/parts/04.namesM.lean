/-! GoblinHouseholdModel -/
set_option maxRecDepth 100000
def RX3 : String := "GoblinHouseholdModel"
def TX3 : u_T := fun k => match k with
  | 0 => ("GoblinHouseholdModel", "now", "[I", true)
  | 1 => ("GoblinHouseholdModel", "before", "[I", true)
  | 2 => ("GoblinHouseholdModel", "trial", "[I", true)
  | 3 => ("GoblinHouseholdModel", "saved", "[I", true)
  | 4 => ("GoblinHouseholdModel", "history", "[I", true)
  | 5 => ("GoblinHouseholdModel", "isSaved", "Z", false)
  | 6 => ("GoblinHouseholdModel", "remembered", "I", false)
  | 7 => ("GoblinHouseholdModel", "errorAt", "I", false)
  | 8 => ("GoblinHouseholdModel", "failedAt", "I", false)
  | 9 => ("GoblinHouseholdModel", "best", "[I", true)
  | 10 => ("GoblinHouseholdModel", "text", "[I", true)
  | 11 => ("GoblinHouseholdModel", "typed", "I", false)
  | 12 => ("GoblinHouseholdModel", "line", "[I", true)
  | 13 => ("GoblinHouseholdModel", "lined", "I", false)
  | 14 => ("GoblinHouseholdModel", "thrown", "I", false)
  | 15 => ("GoblinHouseholdModel", "size", "I", false)
  | 16 => ("GoblinHouseholdModel", "spot", "I", false)
  | 17 => ("GoblinHouseholdModel", "wrong", "I", false)
  | 18 => ("GoblinHouseholdModel", "told", "I", false)
  | _ => ("GoblinHouseholdModel", "numbers", "[I", true)
def tyX3 : Nat → FieldType := fun k => match k with
  | 0 => .array .int
  | 1 => .array .int
  | 2 => .array .int
  | 3 => .array .int
  | 4 => .array .int
  | 5 => .boolean
  | 6 => .int
  | 7 => .int
  | 8 => .int
  | 9 => .array .int
  | 10 => .array .int
  | 11 => .int
  | 12 => .array .int
  | 13 => .int
  | 14 => .int
  | 15 => .int
  | 16 => .int
  | 17 => .int
  | 18 => .int
  | _ => .array .int
abbrev wsX30 : List Cond := u_ws RX3 TX3 20
set_option maxRecDepth 100000 in
theorem nmX3 : ∀ a, a < 20 → ∀ b, b < 20 → a ≠ b → (TX3 a).2.1 ≠ (TX3 b).2.1 := by decide +kernel
set_option maxRecDepth 100000 in
theorem tyX3_ok : ∀ k, k < 20 → parseFieldDescriptor (TX3 k).2.2.1 = some (tyX3 k) := by decide +kernel
abbrev cX3_init : ByteArray := prog_26_method_1_code
def yX3_init : MethodName := ⟨RX3, "<init>", "()V"⟩
def dkwX3_init_5 : List UInt8 := [132, 1, 1, 167, 255, 236, 177]
abbrev dktX3_init_5 : List UInt8 := dkwX3_init_5 ++ []
def dkwX3_init_4 : List UInt8 := [16, 100, 79, 3, 60, 27, 16, 6, 162, 0, 20, 42, 180, 0, 9, 16, 12, 27, 96, 16, 20, 79]
abbrev dktX3_init_4 : List UInt8 := dkwX3_init_4 ++ dktX3_init_5
def dkwX3_init_3 : List UInt8 := [42, 17, 0, 240, 188, 10, 181, 0, 38, 42, 17, 0, 150, 188, 10, 181, 0, 41, 42, 180, 0, 9, 4]
abbrev dktX3_init_3 : List UInt8 := dkwX3_init_3 ++ dktX3_init_4
def dkwX3_init_2 : List UInt8 := [181, 0, 25, 42, 2, 181, 0, 29, 42, 16, 60, 188, 10, 181, 0, 32, 42, 16, 60, 188, 10, 181, 0, 35]
abbrev dktX3_init_2 : List UInt8 := dkwX3_init_2 ++ dktX3_init_3
def dkwX3_init_1 : List UInt8 := [188, 10, 181, 0, 16, 42, 16, 91, 188, 10, 181, 0, 19, 42, 17, 2, 216, 188, 10, 181, 0, 22, 42, 2]
abbrev dktX3_init_1 : List UInt8 := dkwX3_init_1 ++ dktX3_init_2
def dkwX3_init_0 : List UInt8 := [42, 183, 0, 3, 42, 16, 91, 188, 10, 181, 0, 9, 42, 16, 91, 188, 10, 181, 0, 13, 42, 16, 91]
abbrev dktX3_init_0 : List UInt8 := dkwX3_init_0 ++ dktX3_init_1
theorem dksX3_init_0 : cX3_init.data.toList.drop 0 = dktX3_init_0 := by decide +kernel
theorem dksX3_init_1 : cX3_init.data.toList.drop 23 = dktX3_init_1 := dk_seg dksX3_init_0 23 rfl rfl
theorem dksX3_init_2 : cX3_init.data.toList.drop 47 = dktX3_init_2 := dk_seg dksX3_init_1 24 rfl rfl
theorem dksX3_init_3 : cX3_init.data.toList.drop 71 = dktX3_init_3 := dk_seg dksX3_init_2 24 rfl rfl
theorem dksX3_init_4 : cX3_init.data.toList.drop 94 = dktX3_init_4 := dk_seg dksX3_init_3 23 rfl rfl
theorem dksX3_init_5 : cX3_init.data.toList.drop 116 = dktX3_init_5 := dk_seg dksX3_init_4 22 rfl rfl
theorem dX3_init_0 : decode cX3_init 0 = .ok (.aload_n 0, 1) := dk_42 (dk_at dksX3_init_0 0 rfl rfl)
theorem dX3_init_1 : decode cX3_init 1 = .ok (.invokespecial 3, 3) := dk_183 0 3 (dk_at dksX3_init_0 1 rfl rfl)
theorem dX3_init_4 : decode cX3_init 4 = .ok (.aload_n 0, 1) := dk_42 (dk_at dksX3_init_0 4 rfl rfl)
theorem dX3_init_5 : decode cX3_init 5 = .ok (.bipush 91, 2) := dk_16 91 (dk_at dksX3_init_0 5 rfl rfl)
theorem dX3_init_7 : decode cX3_init 7 = .ok (.newarray .int, 2) := dk_188_10 (dk_at dksX3_init_0 7 rfl rfl)
theorem dX3_init_9 : decode cX3_init 9 = .ok (.putfield 9, 3) := dk_181 0 9 (dk_at dksX3_init_0 9 rfl rfl)
theorem dX3_init_12 : decode cX3_init 12 = .ok (.aload_n 0, 1) := dk_42 (dk_at dksX3_init_0 12 rfl rfl)
theorem dX3_init_13 : decode cX3_init 13 = .ok (.bipush 91, 2) := dk_16 91 (dk_at dksX3_init_0 13 rfl rfl)
theorem dX3_init_15 : decode cX3_init 15 = .ok (.newarray .int, 2) := dk_188_10 (dk_at dksX3_init_0 15 rfl rfl)
theorem dX3_init_17 : decode cX3_init 17 = .ok (.putfield 13, 3) := dk_181 0 13 (dk_at dksX3_init_0 17 rfl rfl)
theorem dX3_init_20 : decode cX3_init 20 = .ok (.aload_n 0, 1) := dk_42 (dk_at dksX3_init_0 20 rfl rfl)
theorem dX3_init_21 : decode cX3_init 21 = .ok (.bipush 91, 2) := dk_16 91 (dk_at dksX3_init_0 21 rfl rfl)
theorem dX3_init_23 : decode cX3_init 23 = .ok (.newarray .int, 2) := dk_188_10 (dk_at dksX3_init_1 0 rfl rfl)
theorem dX3_init_25 : decode cX3_init 25 = .ok (.putfield 16, 3) := dk_181 0 16 (dk_at dksX3_init_1 2 rfl rfl)
theorem dX3_init_28 : decode cX3_init 28 = .ok (.aload_n 0, 1) := dk_42 (dk_at dksX3_init_1 5 rfl rfl)
theorem dX3_init_29 : decode cX3_init 29 = .ok (.bipush 91, 2) := dk_16 91 (dk_at dksX3_init_1 6 rfl rfl)
theorem dX3_init_31 : decode cX3_init 31 = .ok (.newarray .int, 2) := dk_188_10 (dk_at dksX3_init_1 8 rfl rfl)
theorem dX3_init_33 : decode cX3_init 33 = .ok (.putfield 19, 3) := dk_181 0 19 (dk_at dksX3_init_1 10 rfl rfl)
theorem dX3_init_36 : decode cX3_init 36 = .ok (.aload_n 0, 1) := dk_42 (dk_at dksX3_init_1 13 rfl rfl)
theorem dX3_init_37 : decode cX3_init 37 = .ok (.sipush 728, 3) := dk_17 2 216 (dk_at dksX3_init_1 14 rfl rfl)
theorem dX3_init_40 : decode cX3_init 40 = .ok (.newarray .int, 2) := dk_188_10 (dk_at dksX3_init_1 17 rfl rfl)
theorem dX3_init_42 : decode cX3_init 42 = .ok (.putfield 22, 3) := dk_181 0 22 (dk_at dksX3_init_1 19 rfl rfl)
theorem dX3_init_45 : decode cX3_init 45 = .ok (.aload_n 0, 1) := dk_42 (dk_at dksX3_init_1 22 rfl rfl)
theorem dX3_init_46 : decode cX3_init 46 = .ok (.iconst (-1), 1) := dk_2 (dk_at dksX3_init_1 23 rfl rfl)
theorem dX3_init_47 : decode cX3_init 47 = .ok (.putfield 25, 3) := dk_181 0 25 (dk_at dksX3_init_2 0 rfl rfl)
theorem dX3_init_50 : decode cX3_init 50 = .ok (.aload_n 0, 1) := dk_42 (dk_at dksX3_init_2 3 rfl rfl)
theorem dX3_init_51 : decode cX3_init 51 = .ok (.iconst (-1), 1) := dk_2 (dk_at dksX3_init_2 4 rfl rfl)
theorem dX3_init_52 : decode cX3_init 52 = .ok (.putfield 29, 3) := dk_181 0 29 (dk_at dksX3_init_2 5 rfl rfl)
theorem dX3_init_55 : decode cX3_init 55 = .ok (.aload_n 0, 1) := dk_42 (dk_at dksX3_init_2 8 rfl rfl)
theorem dX3_init_56 : decode cX3_init 56 = .ok (.bipush 60, 2) := dk_16 60 (dk_at dksX3_init_2 9 rfl rfl)
theorem dX3_init_58 : decode cX3_init 58 = .ok (.newarray .int, 2) := dk_188_10 (dk_at dksX3_init_2 11 rfl rfl)
theorem dX3_init_60 : decode cX3_init 60 = .ok (.putfield 32, 3) := dk_181 0 32 (dk_at dksX3_init_2 13 rfl rfl)
theorem dX3_init_63 : decode cX3_init 63 = .ok (.aload_n 0, 1) := dk_42 (dk_at dksX3_init_2 16 rfl rfl)
theorem dX3_init_64 : decode cX3_init 64 = .ok (.bipush 60, 2) := dk_16 60 (dk_at dksX3_init_2 17 rfl rfl)
theorem dX3_init_66 : decode cX3_init 66 = .ok (.newarray .int, 2) := dk_188_10 (dk_at dksX3_init_2 19 rfl rfl)
theorem dX3_init_68 : decode cX3_init 68 = .ok (.putfield 35, 3) := dk_181 0 35 (dk_at dksX3_init_2 21 rfl rfl)
theorem dX3_init_71 : decode cX3_init 71 = .ok (.aload_n 0, 1) := dk_42 (dk_at dksX3_init_3 0 rfl rfl)
theorem dX3_init_72 : decode cX3_init 72 = .ok (.sipush 240, 3) := dk_17 0 240 (dk_at dksX3_init_3 1 rfl rfl)
theorem dX3_init_75 : decode cX3_init 75 = .ok (.newarray .int, 2) := dk_188_10 (dk_at dksX3_init_3 4 rfl rfl)
theorem dX3_init_77 : decode cX3_init 77 = .ok (.putfield 38, 3) := dk_181 0 38 (dk_at dksX3_init_3 6 rfl rfl)
theorem dX3_init_80 : decode cX3_init 80 = .ok (.aload_n 0, 1) := dk_42 (dk_at dksX3_init_3 9 rfl rfl)
theorem dX3_init_81 : decode cX3_init 81 = .ok (.sipush 150, 3) := dk_17 0 150 (dk_at dksX3_init_3 10 rfl rfl)
theorem dX3_init_84 : decode cX3_init 84 = .ok (.newarray .int, 2) := dk_188_10 (dk_at dksX3_init_3 13 rfl rfl)
theorem dX3_init_86 : decode cX3_init 86 = .ok (.putfield 41, 3) := dk_181 0 41 (dk_at dksX3_init_3 15 rfl rfl)
theorem dX3_init_89 : decode cX3_init 89 = .ok (.aload_n 0, 1) := dk_42 (dk_at dksX3_init_3 18 rfl rfl)
theorem dX3_init_90 : decode cX3_init 90 = .ok (.getfield 9, 3) := dk_180 0 9 (dk_at dksX3_init_3 19 rfl rfl)
theorem dX3_init_93 : decode cX3_init 93 = .ok (.iconst 1, 1) := dk_4 (dk_at dksX3_init_3 22 rfl rfl)
theorem dX3_init_94 : decode cX3_init 94 = .ok (.bipush 100, 2) := dk_16 100 (dk_at dksX3_init_4 0 rfl rfl)
theorem dX3_init_96 : decode cX3_init 96 = .ok (.iastore, 1) := dk_79 (dk_at dksX3_init_4 2 rfl rfl)
theorem dX3_init_97 : decode cX3_init 97 = .ok (.iconst 0, 1) := dk_3 (dk_at dksX3_init_4 3 rfl rfl)
theorem dX3_init_98 : decode cX3_init 98 = .ok (.istore_n 1, 1) := dk_60 (dk_at dksX3_init_4 4 rfl rfl)
theorem dX3_init_99 : decode cX3_init 99 = .ok (.iload_n 1, 1) := dk_27 (dk_at dksX3_init_4 5 rfl rfl)
theorem dX3_init_100 : decode cX3_init 100 = .ok (.bipush 6, 2) := dk_16 6 (dk_at dksX3_init_4 6 rfl rfl)
theorem dX3_init_102 : decode cX3_init 102 = .ok (.if_icmp .ge 20, 3) := dk_162 0 20 (dk_at dksX3_init_4 8 rfl rfl)
theorem dX3_init_105 : decode cX3_init 105 = .ok (.aload_n 0, 1) := dk_42 (dk_at dksX3_init_4 11 rfl rfl)
theorem dX3_init_106 : decode cX3_init 106 = .ok (.getfield 9, 3) := dk_180 0 9 (dk_at dksX3_init_4 12 rfl rfl)
theorem dX3_init_109 : decode cX3_init 109 = .ok (.bipush 12, 2) := dk_16 12 (dk_at dksX3_init_4 15 rfl rfl)
theorem dX3_init_111 : decode cX3_init 111 = .ok (.iload_n 1, 1) := dk_27 (dk_at dksX3_init_4 17 rfl rfl)
theorem dX3_init_112 : decode cX3_init 112 = .ok (.iadd, 1) := dk_96 (dk_at dksX3_init_4 18 rfl rfl)
theorem dX3_init_113 : decode cX3_init 113 = .ok (.bipush 20, 2) := dk_16 20 (dk_at dksX3_init_4 19 rfl rfl)
theorem dX3_init_115 : decode cX3_init 115 = .ok (.iastore, 1) := dk_79 (dk_at dksX3_init_4 21 rfl rfl)
theorem dX3_init_116 : decode cX3_init 116 = .ok (.iinc 1 1, 3) := dk_132 1 1 (dk_at dksX3_init_5 0 rfl rfl)
theorem dX3_init_119 : decode cX3_init 119 = .ok (.goto (-20), 3) := dk_167 255 236 (dk_at dksX3_init_5 3 rfl rfl)
theorem dX3_init_122 : decode cX3_init 122 = .ok (.return_, 1) := dk_177 (dk_at dksX3_init_5 6 rfl rfl)
abbrev cX3_thrown : ByteArray := prog_26_method_2_code
def yX3_thrown : MethodName := ⟨RX3, "thrown", "()I"⟩
theorem dX3_thrown_0 : decode cX3_thrown 0 = .ok (.aload_n 0, 1) := by decide +kernel
theorem dX3_thrown_1 : decode cX3_thrown 1 = .ok (.getfield 44, 3) := by decide +kernel
theorem dX3_thrown_4 : decode cX3_thrown 4 = .ok (.ireturn, 1) := by decide +kernel
abbrev cX3_undo : ByteArray := prog_26_method_10_code
def yX3_undo : MethodName := ⟨RX3, "undo", "()I"⟩
def dkwX3_undo_2 : List UInt8 := [184, 0, 51, 42, 180, 0, 55, 172]
abbrev dktX3_undo_2 : List UInt8 := dkwX3_undo_2 ++ []
def dkwX3_undo_1 : List UInt8 := [180, 0, 55, 4, 100, 181, 0, 55, 42, 180, 0, 22, 42, 180, 0, 55, 16, 91, 104, 42, 180, 0, 9, 3]
abbrev dktX3_undo_1 : List UInt8 := dkwX3_undo_1 ++ dktX3_undo_2
def dkwX3_undo_0 : List UInt8 := [42, 42, 180, 0, 55, 158, 0, 7, 4, 167, 0, 4, 3, 182, 0, 61, 154, 0, 5, 3, 172, 42, 89]
abbrev dktX3_undo_0 : List UInt8 := dkwX3_undo_0 ++ dktX3_undo_1
theorem dksX3_undo_0 : cX3_undo.data.toList.drop 0 = dktX3_undo_0 := by decide +kernel
theorem dksX3_undo_1 : cX3_undo.data.toList.drop 23 = dktX3_undo_1 := dk_seg dksX3_undo_0 23 rfl rfl
theorem dksX3_undo_2 : cX3_undo.data.toList.drop 47 = dktX3_undo_2 := dk_seg dksX3_undo_1 24 rfl rfl
theorem dX3_undo_0 : decode cX3_undo 0 = .ok (.aload_n 0, 1) := dk_42 (dk_at dksX3_undo_0 0 rfl rfl)
theorem dX3_undo_1 : decode cX3_undo 1 = .ok (.aload_n 0, 1) := dk_42 (dk_at dksX3_undo_0 1 rfl rfl)
theorem dX3_undo_2 : decode cX3_undo 2 = .ok (.getfield 55, 3) := dk_180 0 55 (dk_at dksX3_undo_0 2 rfl rfl)
theorem dX3_undo_5 : decode cX3_undo 5 = .ok (.ifCond .le 7, 3) := dk_158 0 7 (dk_at dksX3_undo_0 5 rfl rfl)
theorem dX3_undo_8 : decode cX3_undo 8 = .ok (.iconst 1, 1) := dk_4 (dk_at dksX3_undo_0 8 rfl rfl)
theorem dX3_undo_9 : decode cX3_undo 9 = .ok (.goto 4, 3) := dk_167 0 4 (dk_at dksX3_undo_0 9 rfl rfl)
theorem dX3_undo_12 : decode cX3_undo 12 = .ok (.iconst 0, 1) := dk_3 (dk_at dksX3_undo_0 12 rfl rfl)
theorem dX3_undo_13 : decode cX3_undo 13 = .ok (.invokevirtual 61, 3) := dk_182 0 61 (dk_at dksX3_undo_0 13 rfl rfl)
theorem dX3_undo_16 : decode cX3_undo 16 = .ok (.ifCond .ne 5, 3) := dk_154 0 5 (dk_at dksX3_undo_0 16 rfl rfl)
theorem dX3_undo_19 : decode cX3_undo 19 = .ok (.iconst 0, 1) := dk_3 (dk_at dksX3_undo_0 19 rfl rfl)
theorem dX3_undo_20 : decode cX3_undo 20 = .ok (.ireturn, 1) := dk_172 (dk_at dksX3_undo_0 20 rfl rfl)
theorem dX3_undo_21 : decode cX3_undo 21 = .ok (.aload_n 0, 1) := dk_42 (dk_at dksX3_undo_0 21 rfl rfl)
theorem dX3_undo_22 : decode cX3_undo 22 = .ok (.dup, 1) := dk_89 (dk_at dksX3_undo_0 22 rfl rfl)
theorem dX3_undo_23 : decode cX3_undo 23 = .ok (.getfield 55, 3) := dk_180 0 55 (dk_at dksX3_undo_1 0 rfl rfl)
theorem dX3_undo_26 : decode cX3_undo 26 = .ok (.iconst 1, 1) := dk_4 (dk_at dksX3_undo_1 3 rfl rfl)
theorem dX3_undo_27 : decode cX3_undo 27 = .ok (.isub, 1) := dk_100 (dk_at dksX3_undo_1 4 rfl rfl)
theorem dX3_undo_28 : decode cX3_undo 28 = .ok (.putfield 55, 3) := dk_181 0 55 (dk_at dksX3_undo_1 5 rfl rfl)
theorem dX3_undo_31 : decode cX3_undo 31 = .ok (.aload_n 0, 1) := dk_42 (dk_at dksX3_undo_1 8 rfl rfl)
theorem dX3_undo_32 : decode cX3_undo 32 = .ok (.getfield 22, 3) := dk_180 0 22 (dk_at dksX3_undo_1 9 rfl rfl)
theorem dX3_undo_35 : decode cX3_undo 35 = .ok (.aload_n 0, 1) := dk_42 (dk_at dksX3_undo_1 12 rfl rfl)
theorem dX3_undo_36 : decode cX3_undo 36 = .ok (.getfield 55, 3) := dk_180 0 55 (dk_at dksX3_undo_1 13 rfl rfl)
theorem dX3_undo_39 : decode cX3_undo 39 = .ok (.bipush 91, 2) := dk_16 91 (dk_at dksX3_undo_1 16 rfl rfl)
theorem dX3_undo_41 : decode cX3_undo 41 = .ok (.imul, 1) := dk_104 (dk_at dksX3_undo_1 18 rfl rfl)
theorem dX3_undo_42 : decode cX3_undo 42 = .ok (.aload_n 0, 1) := dk_42 (dk_at dksX3_undo_1 19 rfl rfl)
theorem dX3_undo_43 : decode cX3_undo 43 = .ok (.getfield 9, 3) := dk_180 0 9 (dk_at dksX3_undo_1 20 rfl rfl)
theorem dX3_undo_46 : decode cX3_undo 46 = .ok (.iconst 0, 1) := dk_3 (dk_at dksX3_undo_1 23 rfl rfl)
theorem dX3_undo_47 : decode cX3_undo 47 = .ok (.invokestatic 51, 3) := dk_184 0 51 (dk_at dksX3_undo_2 0 rfl rfl)
theorem dX3_undo_50 : decode cX3_undo 50 = .ok (.aload_n 0, 1) := dk_42 (dk_at dksX3_undo_2 3 rfl rfl)
theorem dX3_undo_51 : decode cX3_undo 51 = .ok (.getfield 55, 3) := dk_180 0 55 (dk_at dksX3_undo_2 4 rfl rfl)
theorem dX3_undo_54 : decode cX3_undo 54 = .ok (.ireturn, 1) := dk_172 (dk_at dksX3_undo_2 7 rfl rfl)
abbrev cX3_goes : ByteArray := prog_26_method_6_code
def yX3_goes : MethodName := ⟨RX3, "goes", "(Z)Z"⟩
def dkwX3_goes_0 : List UInt8 := [42, 27, 4, 4, 4, 182, 0, 47, 172]
abbrev dktX3_goes_0 : List UInt8 := dkwX3_goes_0 ++ []
theorem dksX3_goes_0 : cX3_goes.data.toList.drop 0 = dktX3_goes_0 := by decide +kernel
theorem dX3_goes_0 : decode cX3_goes 0 = .ok (.aload_n 0, 1) := dk_42 (dk_at dksX3_goes_0 0 rfl rfl)
theorem dX3_goes_1 : decode cX3_goes 1 = .ok (.iload_n 1, 1) := dk_27 (dk_at dksX3_goes_0 1 rfl rfl)
theorem dX3_goes_2 : decode cX3_goes 2 = .ok (.iconst 1, 1) := dk_4 (dk_at dksX3_goes_0 2 rfl rfl)
theorem dX3_goes_3 : decode cX3_goes 3 = .ok (.iconst 1, 1) := dk_4 (dk_at dksX3_goes_0 3 rfl rfl)
theorem dX3_goes_4 : decode cX3_goes 4 = .ok (.iconst 1, 1) := dk_4 (dk_at dksX3_goes_0 4 rfl rfl)
theorem dX3_goes_5 : decode cX3_goes 5 = .ok (.invokevirtual 47, 3) := dk_182 0 47 (dk_at dksX3_goes_0 5 rfl rfl)
theorem dX3_goes_8 : decode cX3_goes 8 = .ok (.ireturn, 1) := dk_172 (dk_at dksX3_goes_0 8 rfl rfl)
abbrev cX3_holds : ByteArray := prog_26_method_5_code
def yX3_holds : MethodName := ⟨RX3, "holds", "(ZZZZ)Z"⟩
def dkwX3_holds_2 : List UInt8 := [167, 0, 4, 3, 172]
abbrev dktX3_holds_2 : List UInt8 := dkwX3_holds_2 ++ []
def dkwX3_holds_1 : List UInt8 := [167, 0, 13, 21, 4, 154, 0, 7, 7, 167, 0, 4, 3, 181, 0, 44, 42, 180, 0, 44, 154, 0, 7, 4]
abbrev dktX3_holds_1 : List UInt8 := dkwX3_holds_1 ++ dktX3_holds_2
def dkwX3_holds_0 : List UInt8 := [42, 27, 154, 0, 7, 4, 167, 0, 29, 28, 154, 0, 7, 5, 167, 0, 21, 29, 154, 0, 7, 6]
abbrev dktX3_holds_0 : List UInt8 := dkwX3_holds_0 ++ dktX3_holds_1
theorem dksX3_holds_0 : cX3_holds.data.toList.drop 0 = dktX3_holds_0 := by decide +kernel
theorem dksX3_holds_1 : cX3_holds.data.toList.drop 22 = dktX3_holds_1 := dk_seg dksX3_holds_0 22 rfl rfl
theorem dksX3_holds_2 : cX3_holds.data.toList.drop 46 = dktX3_holds_2 := dk_seg dksX3_holds_1 24 rfl rfl
theorem dX3_holds_0 : decode cX3_holds 0 = .ok (.aload_n 0, 1) := dk_42 (dk_at dksX3_holds_0 0 rfl rfl)
theorem dX3_holds_1 : decode cX3_holds 1 = .ok (.iload_n 1, 1) := dk_27 (dk_at dksX3_holds_0 1 rfl rfl)
theorem dX3_holds_2 : decode cX3_holds 2 = .ok (.ifCond .ne 7, 3) := dk_154 0 7 (dk_at dksX3_holds_0 2 rfl rfl)
theorem dX3_holds_5 : decode cX3_holds 5 = .ok (.iconst 1, 1) := dk_4 (dk_at dksX3_holds_0 5 rfl rfl)
theorem dX3_holds_6 : decode cX3_holds 6 = .ok (.goto 29, 3) := dk_167 0 29 (dk_at dksX3_holds_0 6 rfl rfl)
theorem dX3_holds_9 : decode cX3_holds 9 = .ok (.iload_n 2, 1) := dk_28 (dk_at dksX3_holds_0 9 rfl rfl)
theorem dX3_holds_10 : decode cX3_holds 10 = .ok (.ifCond .ne 7, 3) := dk_154 0 7 (dk_at dksX3_holds_0 10 rfl rfl)
theorem dX3_holds_13 : decode cX3_holds 13 = .ok (.iconst 2, 1) := dk_5 (dk_at dksX3_holds_0 13 rfl rfl)
theorem dX3_holds_14 : decode cX3_holds 14 = .ok (.goto 21, 3) := dk_167 0 21 (dk_at dksX3_holds_0 14 rfl rfl)
theorem dX3_holds_17 : decode cX3_holds 17 = .ok (.iload_n 3, 1) := dk_29 (dk_at dksX3_holds_0 17 rfl rfl)
theorem dX3_holds_18 : decode cX3_holds 18 = .ok (.ifCond .ne 7, 3) := dk_154 0 7 (dk_at dksX3_holds_0 18 rfl rfl)
theorem dX3_holds_21 : decode cX3_holds 21 = .ok (.iconst 3, 1) := dk_6 (dk_at dksX3_holds_0 21 rfl rfl)
theorem dX3_holds_22 : decode cX3_holds 22 = .ok (.goto 13, 3) := dk_167 0 13 (dk_at dksX3_holds_1 0 rfl rfl)
theorem dX3_holds_25 : decode cX3_holds 25 = .ok (.iload 4, 2) := dk_21 4 (dk_at dksX3_holds_1 3 rfl rfl)
theorem dX3_holds_27 : decode cX3_holds 27 = .ok (.ifCond .ne 7, 3) := dk_154 0 7 (dk_at dksX3_holds_1 5 rfl rfl)
theorem dX3_holds_30 : decode cX3_holds 30 = .ok (.iconst 4, 1) := dk_7 (dk_at dksX3_holds_1 8 rfl rfl)
theorem dX3_holds_31 : decode cX3_holds 31 = .ok (.goto 4, 3) := dk_167 0 4 (dk_at dksX3_holds_1 9 rfl rfl)
theorem dX3_holds_34 : decode cX3_holds 34 = .ok (.iconst 0, 1) := dk_3 (dk_at dksX3_holds_1 12 rfl rfl)
theorem dX3_holds_35 : decode cX3_holds 35 = .ok (.putfield 44, 3) := dk_181 0 44 (dk_at dksX3_holds_1 13 rfl rfl)
theorem dX3_holds_38 : decode cX3_holds 38 = .ok (.aload_n 0, 1) := dk_42 (dk_at dksX3_holds_1 16 rfl rfl)
theorem dX3_holds_39 : decode cX3_holds 39 = .ok (.getfield 44, 3) := dk_180 0 44 (dk_at dksX3_holds_1 17 rfl rfl)
theorem dX3_holds_42 : decode cX3_holds 42 = .ok (.ifCond .ne 7, 3) := dk_154 0 7 (dk_at dksX3_holds_1 20 rfl rfl)
theorem dX3_holds_45 : decode cX3_holds 45 = .ok (.iconst 1, 1) := dk_4 (dk_at dksX3_holds_1 23 rfl rfl)
theorem dX3_holds_46 : decode cX3_holds 46 = .ok (.goto 4, 3) := dk_167 0 4 (dk_at dksX3_holds_2 0 rfl rfl)
theorem dX3_holds_49 : decode cX3_holds 49 = .ok (.iconst 0, 1) := dk_3 (dk_at dksX3_holds_2 3 rfl rfl)
theorem dX3_holds_50 : decode cX3_holds 50 = .ok (.ireturn, 1) := dk_172 (dk_at dksX3_holds_2 4 rfl rfl)
abbrev cX3_copies : ByteArray := prog_26_method_4_code
def yX3_copies : MethodName := ⟨RX3, "copies", "([II[II)V"⟩
def dkwX3_copies_1 : List UInt8 := [132, 4, 1, 167, 255, 234, 177]
abbrev dktX3_copies_1 : List UInt8 := dkwX3_copies_1 ++ []
def dkwX3_copies_0 : List UInt8 := [3, 54, 4, 21, 4, 16, 91, 162, 0, 21, 44, 29, 21, 4, 96, 42, 27, 21, 4, 96, 46, 79]
abbrev dktX3_copies_0 : List UInt8 := dkwX3_copies_0 ++ dktX3_copies_1
theorem dksX3_copies_0 : cX3_copies.data.toList.drop 0 = dktX3_copies_0 := by decide +kernel
theorem dksX3_copies_1 : cX3_copies.data.toList.drop 22 = dktX3_copies_1 := dk_seg dksX3_copies_0 22 rfl rfl
theorem dX3_copies_0 : decode cX3_copies 0 = .ok (.iconst 0, 1) := dk_3 (dk_at dksX3_copies_0 0 rfl rfl)
theorem dX3_copies_1 : decode cX3_copies 1 = .ok (.istore 4, 2) := dk_54 4 (dk_at dksX3_copies_0 1 rfl rfl)
theorem dX3_copies_3 : decode cX3_copies 3 = .ok (.iload 4, 2) := dk_21 4 (dk_at dksX3_copies_0 3 rfl rfl)
theorem dX3_copies_5 : decode cX3_copies 5 = .ok (.bipush 91, 2) := dk_16 91 (dk_at dksX3_copies_0 5 rfl rfl)
theorem dX3_copies_7 : decode cX3_copies 7 = .ok (.if_icmp .ge 21, 3) := dk_162 0 21 (dk_at dksX3_copies_0 7 rfl rfl)
theorem dX3_copies_10 : decode cX3_copies 10 = .ok (.aload_n 2, 1) := dk_44 (dk_at dksX3_copies_0 10 rfl rfl)
theorem dX3_copies_11 : decode cX3_copies 11 = .ok (.iload_n 3, 1) := dk_29 (dk_at dksX3_copies_0 11 rfl rfl)
theorem dX3_copies_12 : decode cX3_copies 12 = .ok (.iload 4, 2) := dk_21 4 (dk_at dksX3_copies_0 12 rfl rfl)
theorem dX3_copies_14 : decode cX3_copies 14 = .ok (.iadd, 1) := dk_96 (dk_at dksX3_copies_0 14 rfl rfl)
theorem dX3_copies_15 : decode cX3_copies 15 = .ok (.aload_n 0, 1) := dk_42 (dk_at dksX3_copies_0 15 rfl rfl)
theorem dX3_copies_16 : decode cX3_copies 16 = .ok (.iload_n 1, 1) := dk_27 (dk_at dksX3_copies_0 16 rfl rfl)
theorem dX3_copies_17 : decode cX3_copies 17 = .ok (.iload 4, 2) := dk_21 4 (dk_at dksX3_copies_0 17 rfl rfl)
theorem dX3_copies_19 : decode cX3_copies 19 = .ok (.iadd, 1) := dk_96 (dk_at dksX3_copies_0 19 rfl rfl)
theorem dX3_copies_20 : decode cX3_copies 20 = .ok (.iaload, 1) := dk_46 (dk_at dksX3_copies_0 20 rfl rfl)
theorem dX3_copies_21 : decode cX3_copies 21 = .ok (.iastore, 1) := dk_79 (dk_at dksX3_copies_0 21 rfl rfl)
theorem dX3_copies_22 : decode cX3_copies 22 = .ok (.iinc 4 1, 3) := dk_132 4 1 (dk_at dksX3_copies_1 0 rfl rfl)
theorem dX3_copies_25 : decode cX3_copies 25 = .ok (.goto (-22), 3) := dk_167 255 234 (dk_at dksX3_copies_1 3 rfl rfl)
theorem dX3_copies_28 : decode cX3_copies 28 = .ok (.return_, 1) := dk_177 (dk_at dksX3_copies_1 6 rfl rfl)
abbrev cX3_save : ByteArray := prog_26_method_11_code
def yX3_save : MethodName := ⟨RX3, "save", "()I"⟩
def dkwX3_save_1 : List UInt8 := [180, 0, 9, 16, 11, 46, 172]
abbrev dktX3_save_1 : List UInt8 := dkwX3_save_1 ++ []
def dkwX3_save_0 : List UInt8 := [42, 3, 181, 0, 44, 42, 180, 0, 9, 3, 42, 180, 0, 19, 3, 184, 0, 51, 42, 4, 181, 0, 65, 42]
abbrev dktX3_save_0 : List UInt8 := dkwX3_save_0 ++ dktX3_save_1
theorem dksX3_save_0 : cX3_save.data.toList.drop 0 = dktX3_save_0 := by decide +kernel
theorem dksX3_save_1 : cX3_save.data.toList.drop 24 = dktX3_save_1 := dk_seg dksX3_save_0 24 rfl rfl
theorem dX3_save_0 : decode cX3_save 0 = .ok (.aload_n 0, 1) := dk_42 (dk_at dksX3_save_0 0 rfl rfl)
theorem dX3_save_1 : decode cX3_save 1 = .ok (.iconst 0, 1) := dk_3 (dk_at dksX3_save_0 1 rfl rfl)
theorem dX3_save_2 : decode cX3_save 2 = .ok (.putfield 44, 3) := dk_181 0 44 (dk_at dksX3_save_0 2 rfl rfl)
theorem dX3_save_5 : decode cX3_save 5 = .ok (.aload_n 0, 1) := dk_42 (dk_at dksX3_save_0 5 rfl rfl)
theorem dX3_save_6 : decode cX3_save 6 = .ok (.getfield 9, 3) := dk_180 0 9 (dk_at dksX3_save_0 6 rfl rfl)
theorem dX3_save_9 : decode cX3_save 9 = .ok (.iconst 0, 1) := dk_3 (dk_at dksX3_save_0 9 rfl rfl)
theorem dX3_save_10 : decode cX3_save 10 = .ok (.aload_n 0, 1) := dk_42 (dk_at dksX3_save_0 10 rfl rfl)
theorem dX3_save_11 : decode cX3_save 11 = .ok (.getfield 19, 3) := dk_180 0 19 (dk_at dksX3_save_0 11 rfl rfl)
theorem dX3_save_14 : decode cX3_save 14 = .ok (.iconst 0, 1) := dk_3 (dk_at dksX3_save_0 14 rfl rfl)
theorem dX3_save_15 : decode cX3_save 15 = .ok (.invokestatic 51, 3) := dk_184 0 51 (dk_at dksX3_save_0 15 rfl rfl)
theorem dX3_save_18 : decode cX3_save 18 = .ok (.aload_n 0, 1) := dk_42 (dk_at dksX3_save_0 18 rfl rfl)
theorem dX3_save_19 : decode cX3_save 19 = .ok (.iconst 1, 1) := dk_4 (dk_at dksX3_save_0 19 rfl rfl)
theorem dX3_save_20 : decode cX3_save 20 = .ok (.putfield 65, 3) := dk_181 0 65 (dk_at dksX3_save_0 20 rfl rfl)
theorem dX3_save_23 : decode cX3_save 23 = .ok (.aload_n 0, 1) := dk_42 (dk_at dksX3_save_0 23 rfl rfl)
theorem dX3_save_24 : decode cX3_save 24 = .ok (.getfield 9, 3) := dk_180 0 9 (dk_at dksX3_save_1 0 rfl rfl)
theorem dX3_save_27 : decode cX3_save 27 = .ok (.bipush 11, 2) := dk_16 11 (dk_at dksX3_save_1 3 rfl rfl)
theorem dX3_save_29 : decode cX3_save 29 = .ok (.iaload, 1) := dk_46 (dk_at dksX3_save_1 5 rfl rfl)
theorem dX3_save_30 : decode cX3_save 30 = .ok (.ireturn, 1) := dk_172 (dk_at dksX3_save_1 6 rfl rfl)
abbrev cX3_restore : ByteArray := prog_26_method_12_code
def yX3_restore : MethodName := ⟨RX3, "restore", "()I"⟩
def dkwX3_restore_1 : List UInt8 := [184, 0, 51, 42, 3, 181, 0, 55, 42, 180, 0, 9, 16, 11, 46, 172]
abbrev dktX3_restore_1 : List UInt8 := dkwX3_restore_1 ++ []
def dkwX3_restore_0 : List UInt8 := [42, 42, 180, 0, 65, 182, 0, 61, 154, 0, 5, 3, 172, 42, 180, 0, 19, 3, 42, 180, 0, 9, 3]
abbrev dktX3_restore_0 : List UInt8 := dkwX3_restore_0 ++ dktX3_restore_1
theorem dksX3_restore_0 : cX3_restore.data.toList.drop 0 = dktX3_restore_0 := by decide +kernel
theorem dksX3_restore_1 : cX3_restore.data.toList.drop 23 = dktX3_restore_1 := dk_seg dksX3_restore_0 23 rfl rfl
theorem dX3_restore_0 : decode cX3_restore 0 = .ok (.aload_n 0, 1) := dk_42 (dk_at dksX3_restore_0 0 rfl rfl)
theorem dX3_restore_1 : decode cX3_restore 1 = .ok (.aload_n 0, 1) := dk_42 (dk_at dksX3_restore_0 1 rfl rfl)
theorem dX3_restore_2 : decode cX3_restore 2 = .ok (.getfield 65, 3) := dk_180 0 65 (dk_at dksX3_restore_0 2 rfl rfl)
theorem dX3_restore_5 : decode cX3_restore 5 = .ok (.invokevirtual 61, 3) := dk_182 0 61 (dk_at dksX3_restore_0 5 rfl rfl)
theorem dX3_restore_8 : decode cX3_restore 8 = .ok (.ifCond .ne 5, 3) := dk_154 0 5 (dk_at dksX3_restore_0 8 rfl rfl)
theorem dX3_restore_11 : decode cX3_restore 11 = .ok (.iconst 0, 1) := dk_3 (dk_at dksX3_restore_0 11 rfl rfl)
theorem dX3_restore_12 : decode cX3_restore 12 = .ok (.ireturn, 1) := dk_172 (dk_at dksX3_restore_0 12 rfl rfl)
theorem dX3_restore_13 : decode cX3_restore 13 = .ok (.aload_n 0, 1) := dk_42 (dk_at dksX3_restore_0 13 rfl rfl)
theorem dX3_restore_14 : decode cX3_restore 14 = .ok (.getfield 19, 3) := dk_180 0 19 (dk_at dksX3_restore_0 14 rfl rfl)
theorem dX3_restore_17 : decode cX3_restore 17 = .ok (.iconst 0, 1) := dk_3 (dk_at dksX3_restore_0 17 rfl rfl)
theorem dX3_restore_18 : decode cX3_restore 18 = .ok (.aload_n 0, 1) := dk_42 (dk_at dksX3_restore_0 18 rfl rfl)
theorem dX3_restore_19 : decode cX3_restore 19 = .ok (.getfield 9, 3) := dk_180 0 9 (dk_at dksX3_restore_0 19 rfl rfl)
theorem dX3_restore_22 : decode cX3_restore 22 = .ok (.iconst 0, 1) := dk_3 (dk_at dksX3_restore_0 22 rfl rfl)
theorem dX3_restore_23 : decode cX3_restore 23 = .ok (.invokestatic 51, 3) := dk_184 0 51 (dk_at dksX3_restore_1 0 rfl rfl)
theorem dX3_restore_26 : decode cX3_restore 26 = .ok (.aload_n 0, 1) := dk_42 (dk_at dksX3_restore_1 3 rfl rfl)
theorem dX3_restore_27 : decode cX3_restore 27 = .ok (.iconst 0, 1) := dk_3 (dk_at dksX3_restore_1 4 rfl rfl)
theorem dX3_restore_28 : decode cX3_restore 28 = .ok (.putfield 55, 3) := dk_181 0 55 (dk_at dksX3_restore_1 5 rfl rfl)
theorem dX3_restore_31 : decode cX3_restore 31 = .ok (.aload_n 0, 1) := dk_42 (dk_at dksX3_restore_1 8 rfl rfl)
theorem dX3_restore_32 : decode cX3_restore 32 = .ok (.getfield 9, 3) := dk_180 0 9 (dk_at dksX3_restore_1 9 rfl rfl)
theorem dX3_restore_35 : decode cX3_restore 35 = .ok (.bipush 11, 2) := dk_16 11 (dk_at dksX3_restore_1 12 rfl rfl)
theorem dX3_restore_37 : decode cX3_restore 37 = .ok (.iaload, 1) := dk_46 (dk_at dksX3_restore_1 14 rfl rfl)
theorem dX3_restore_38 : decode cX3_restore 38 = .ok (.ireturn, 1) := dk_172 (dk_at dksX3_restore_1 15 rfl rfl)
abbrev cX3_addGoblin : ByteArray := prog_26_method_26_code
def yX3_addGoblin : MethodName := ⟨RX3, "addGoblin", "(I)I"⟩
def dkwX3_addGoblin_0 : List UInt8 := [42, 182, 0, 102, 42, 42, 27, 182, 0, 105, 182, 0, 109, 172]
abbrev dktX3_addGoblin_0 : List UInt8 := dkwX3_addGoblin_0 ++ []
theorem dksX3_addGoblin_0 : cX3_addGoblin.data.toList.drop 0 = dktX3_addGoblin_0 := by decide +kernel
theorem dX3_addGoblin_0 : decode cX3_addGoblin 0 = .ok (.aload_n 0, 1) := dk_42 (dk_at dksX3_addGoblin_0 0 rfl rfl)
theorem dX3_addGoblin_1 : decode cX3_addGoblin 1 = .ok (.invokevirtual 102, 3) := dk_182 0 102 (dk_at dksX3_addGoblin_0 1 rfl rfl)
theorem dX3_addGoblin_4 : decode cX3_addGoblin 4 = .ok (.aload_n 0, 1) := dk_42 (dk_at dksX3_addGoblin_0 4 rfl rfl)
theorem dX3_addGoblin_5 : decode cX3_addGoblin 5 = .ok (.aload_n 0, 1) := dk_42 (dk_at dksX3_addGoblin_0 5 rfl rfl)
theorem dX3_addGoblin_6 : decode cX3_addGoblin 6 = .ok (.iload_n 1, 1) := dk_27 (dk_at dksX3_addGoblin_0 6 rfl rfl)
theorem dX3_addGoblin_7 : decode cX3_addGoblin 7 = .ok (.invokevirtual 105, 3) := dk_182 0 105 (dk_at dksX3_addGoblin_0 7 rfl rfl)
theorem dX3_addGoblin_10 : decode cX3_addGoblin 10 = .ok (.invokevirtual 109, 3) := dk_182 0 109 (dk_at dksX3_addGoblin_0 10 rfl rfl)
theorem dX3_addGoblin_13 : decode cX3_addGoblin 13 = .ok (.ireturn, 1) := dk_172 (dk_at dksX3_addGoblin_0 13 rfl rfl)
abbrev cX3_begins : ByteArray := prog_26_method_7_code
def yX3_begins : MethodName := ⟨RX3, "begins", "()V"⟩
def dkwX3_begins_0 : List UInt8 := [42, 180, 0, 9, 3, 42, 180, 0, 13, 3, 184, 0, 51, 177]
abbrev dktX3_begins_0 : List UInt8 := dkwX3_begins_0 ++ []
theorem dksX3_begins_0 : cX3_begins.data.toList.drop 0 = dktX3_begins_0 := by decide +kernel
theorem dX3_begins_0 : decode cX3_begins 0 = .ok (.aload_n 0, 1) := dk_42 (dk_at dksX3_begins_0 0 rfl rfl)
theorem dX3_begins_1 : decode cX3_begins 1 = .ok (.getfield 9, 3) := dk_180 0 9 (dk_at dksX3_begins_0 1 rfl rfl)
theorem dX3_begins_4 : decode cX3_begins 4 = .ok (.iconst 0, 1) := dk_3 (dk_at dksX3_begins_0 4 rfl rfl)
theorem dX3_begins_5 : decode cX3_begins 5 = .ok (.aload_n 0, 1) := dk_42 (dk_at dksX3_begins_0 5 rfl rfl)
theorem dX3_begins_6 : decode cX3_begins 6 = .ok (.getfield 13, 3) := dk_180 0 13 (dk_at dksX3_begins_0 6 rfl rfl)
theorem dX3_begins_9 : decode cX3_begins 9 = .ok (.iconst 0, 1) := dk_3 (dk_at dksX3_begins_0 9 rfl rfl)
theorem dX3_begins_10 : decode cX3_begins 10 = .ok (.invokestatic 51, 3) := dk_184 0 51 (dk_at dksX3_begins_0 10 rfl rfl)
theorem dX3_begins_13 : decode cX3_begins 13 = .ok (.return_, 1) := dk_177 (dk_at dksX3_begins_0 13 rfl rfl)
abbrev cX3_addsGoblin : ByteArray := prog_26_method_25_code
def yX3_addsGoblin : MethodName := ⟨RX3, "addsGoblin", "(I)I"⟩
def dkwX3_addsGoblin_4 : List UInt8 := [4, 100, 172]
abbrev dktX3_addsGoblin_4 : List UInt8 := dkwX3_addsGoblin_4 ++ []
def dkwX3_addsGoblin_3 : List UInt8 := [132, 3, 1, 167, 255, 231, 42, 180, 0, 9, 16, 9, 92, 46, 4, 96, 79, 42, 180, 0, 9, 16, 9, 46]
abbrev dktX3_addsGoblin_3 : List UInt8 := dkwX3_addsGoblin_3 ++ dktX3_addsGoblin_4
def dkwX3_addsGoblin_2 : List UInt8 := [62, 29, 8, 162, 0, 26, 42, 180, 0, 9, 28, 29, 96, 29, 154, 0, 7, 27, 167, 0, 4, 3, 79]
abbrev dktX3_addsGoblin_2 : List UInt8 := dkwX3_addsGoblin_2 ++ dktX3_addsGoblin_3
def dkwX3_addsGoblin_1 : List UInt8 := [4, 4, 182, 0, 47, 154, 0, 5, 3, 172, 16, 26, 8, 42, 180, 0, 9, 16, 9, 46, 104, 96, 61, 3]
abbrev dktX3_addsGoblin_1 : List UInt8 := dkwX3_addsGoblin_1 ++ dktX3_addsGoblin_2
def dkwX3_addsGoblin_0 : List UInt8 := [42, 27, 4, 16, 9, 184, 0, 69, 42, 180, 0, 9, 16, 9, 46, 8, 162, 0, 7, 4, 167, 0, 4, 3]
abbrev dktX3_addsGoblin_0 : List UInt8 := dkwX3_addsGoblin_0 ++ dktX3_addsGoblin_1
theorem dksX3_addsGoblin_0 : cX3_addsGoblin.data.toList.drop 0 = dktX3_addsGoblin_0 := by decide +kernel
theorem dksX3_addsGoblin_1 : cX3_addsGoblin.data.toList.drop 24 = dktX3_addsGoblin_1 := dk_seg dksX3_addsGoblin_0 24 rfl rfl
theorem dksX3_addsGoblin_2 : cX3_addsGoblin.data.toList.drop 48 = dktX3_addsGoblin_2 := dk_seg dksX3_addsGoblin_1 24 rfl rfl
theorem dksX3_addsGoblin_3 : cX3_addsGoblin.data.toList.drop 71 = dktX3_addsGoblin_3 := dk_seg dksX3_addsGoblin_2 23 rfl rfl
theorem dksX3_addsGoblin_4 : cX3_addsGoblin.data.toList.drop 95 = dktX3_addsGoblin_4 := dk_seg dksX3_addsGoblin_3 24 rfl rfl
theorem dX3_addsGoblin_0 : decode cX3_addsGoblin 0 = .ok (.aload_n 0, 1) := dk_42 (dk_at dksX3_addsGoblin_0 0 rfl rfl)
theorem dX3_addsGoblin_1 : decode cX3_addsGoblin 1 = .ok (.iload_n 1, 1) := dk_27 (dk_at dksX3_addsGoblin_0 1 rfl rfl)
theorem dX3_addsGoblin_2 : decode cX3_addsGoblin 2 = .ok (.iconst 1, 1) := dk_4 (dk_at dksX3_addsGoblin_0 2 rfl rfl)
theorem dX3_addsGoblin_3 : decode cX3_addsGoblin 3 = .ok (.bipush 9, 2) := dk_16 9 (dk_at dksX3_addsGoblin_0 3 rfl rfl)
theorem dX3_addsGoblin_5 : decode cX3_addsGoblin 5 = .ok (.invokestatic 69, 3) := dk_184 0 69 (dk_at dksX3_addsGoblin_0 5 rfl rfl)
theorem dX3_addsGoblin_8 : decode cX3_addsGoblin 8 = .ok (.aload_n 0, 1) := dk_42 (dk_at dksX3_addsGoblin_0 8 rfl rfl)
theorem dX3_addsGoblin_9 : decode cX3_addsGoblin 9 = .ok (.getfield 9, 3) := dk_180 0 9 (dk_at dksX3_addsGoblin_0 9 rfl rfl)
theorem dX3_addsGoblin_12 : decode cX3_addsGoblin 12 = .ok (.bipush 9, 2) := dk_16 9 (dk_at dksX3_addsGoblin_0 12 rfl rfl)
theorem dX3_addsGoblin_14 : decode cX3_addsGoblin 14 = .ok (.iaload, 1) := dk_46 (dk_at dksX3_addsGoblin_0 14 rfl rfl)
theorem dX3_addsGoblin_15 : decode cX3_addsGoblin 15 = .ok (.iconst 5, 1) := dk_8 (dk_at dksX3_addsGoblin_0 15 rfl rfl)
theorem dX3_addsGoblin_16 : decode cX3_addsGoblin 16 = .ok (.if_icmp .ge 7, 3) := dk_162 0 7 (dk_at dksX3_addsGoblin_0 16 rfl rfl)
theorem dX3_addsGoblin_19 : decode cX3_addsGoblin 19 = .ok (.iconst 1, 1) := dk_4 (dk_at dksX3_addsGoblin_0 19 rfl rfl)
theorem dX3_addsGoblin_20 : decode cX3_addsGoblin 20 = .ok (.goto 4, 3) := dk_167 0 4 (dk_at dksX3_addsGoblin_0 20 rfl rfl)
theorem dX3_addsGoblin_23 : decode cX3_addsGoblin 23 = .ok (.iconst 0, 1) := dk_3 (dk_at dksX3_addsGoblin_0 23 rfl rfl)
theorem dX3_addsGoblin_24 : decode cX3_addsGoblin 24 = .ok (.iconst 1, 1) := dk_4 (dk_at dksX3_addsGoblin_1 0 rfl rfl)
theorem dX3_addsGoblin_25 : decode cX3_addsGoblin 25 = .ok (.iconst 1, 1) := dk_4 (dk_at dksX3_addsGoblin_1 1 rfl rfl)
theorem dX3_addsGoblin_26 : decode cX3_addsGoblin 26 = .ok (.invokevirtual 47, 3) := dk_182 0 47 (dk_at dksX3_addsGoblin_1 2 rfl rfl)
theorem dX3_addsGoblin_29 : decode cX3_addsGoblin 29 = .ok (.ifCond .ne 5, 3) := dk_154 0 5 (dk_at dksX3_addsGoblin_1 5 rfl rfl)
theorem dX3_addsGoblin_32 : decode cX3_addsGoblin 32 = .ok (.iconst 0, 1) := dk_3 (dk_at dksX3_addsGoblin_1 8 rfl rfl)
theorem dX3_addsGoblin_33 : decode cX3_addsGoblin 33 = .ok (.ireturn, 1) := dk_172 (dk_at dksX3_addsGoblin_1 9 rfl rfl)
theorem dX3_addsGoblin_34 : decode cX3_addsGoblin 34 = .ok (.bipush 26, 2) := dk_16 26 (dk_at dksX3_addsGoblin_1 10 rfl rfl)
theorem dX3_addsGoblin_36 : decode cX3_addsGoblin 36 = .ok (.iconst 5, 1) := dk_8 (dk_at dksX3_addsGoblin_1 12 rfl rfl)
theorem dX3_addsGoblin_37 : decode cX3_addsGoblin 37 = .ok (.aload_n 0, 1) := dk_42 (dk_at dksX3_addsGoblin_1 13 rfl rfl)
theorem dX3_addsGoblin_38 : decode cX3_addsGoblin 38 = .ok (.getfield 9, 3) := dk_180 0 9 (dk_at dksX3_addsGoblin_1 14 rfl rfl)
theorem dX3_addsGoblin_41 : decode cX3_addsGoblin 41 = .ok (.bipush 9, 2) := dk_16 9 (dk_at dksX3_addsGoblin_1 17 rfl rfl)
theorem dX3_addsGoblin_43 : decode cX3_addsGoblin 43 = .ok (.iaload, 1) := dk_46 (dk_at dksX3_addsGoblin_1 19 rfl rfl)
theorem dX3_addsGoblin_44 : decode cX3_addsGoblin 44 = .ok (.imul, 1) := dk_104 (dk_at dksX3_addsGoblin_1 20 rfl rfl)
theorem dX3_addsGoblin_45 : decode cX3_addsGoblin 45 = .ok (.iadd, 1) := dk_96 (dk_at dksX3_addsGoblin_1 21 rfl rfl)
theorem dX3_addsGoblin_46 : decode cX3_addsGoblin 46 = .ok (.istore_n 2, 1) := dk_61 (dk_at dksX3_addsGoblin_1 22 rfl rfl)
theorem dX3_addsGoblin_47 : decode cX3_addsGoblin 47 = .ok (.iconst 0, 1) := dk_3 (dk_at dksX3_addsGoblin_1 23 rfl rfl)
theorem dX3_addsGoblin_48 : decode cX3_addsGoblin 48 = .ok (.istore_n 3, 1) := dk_62 (dk_at dksX3_addsGoblin_2 0 rfl rfl)
theorem dX3_addsGoblin_49 : decode cX3_addsGoblin 49 = .ok (.iload_n 3, 1) := dk_29 (dk_at dksX3_addsGoblin_2 1 rfl rfl)
theorem dX3_addsGoblin_50 : decode cX3_addsGoblin 50 = .ok (.iconst 5, 1) := dk_8 (dk_at dksX3_addsGoblin_2 2 rfl rfl)
theorem dX3_addsGoblin_51 : decode cX3_addsGoblin 51 = .ok (.if_icmp .ge 26, 3) := dk_162 0 26 (dk_at dksX3_addsGoblin_2 3 rfl rfl)
theorem dX3_addsGoblin_54 : decode cX3_addsGoblin 54 = .ok (.aload_n 0, 1) := dk_42 (dk_at dksX3_addsGoblin_2 6 rfl rfl)
theorem dX3_addsGoblin_55 : decode cX3_addsGoblin 55 = .ok (.getfield 9, 3) := dk_180 0 9 (dk_at dksX3_addsGoblin_2 7 rfl rfl)
theorem dX3_addsGoblin_58 : decode cX3_addsGoblin 58 = .ok (.iload_n 2, 1) := dk_28 (dk_at dksX3_addsGoblin_2 10 rfl rfl)
theorem dX3_addsGoblin_59 : decode cX3_addsGoblin 59 = .ok (.iload_n 3, 1) := dk_29 (dk_at dksX3_addsGoblin_2 11 rfl rfl)
theorem dX3_addsGoblin_60 : decode cX3_addsGoblin 60 = .ok (.iadd, 1) := dk_96 (dk_at dksX3_addsGoblin_2 12 rfl rfl)
theorem dX3_addsGoblin_61 : decode cX3_addsGoblin 61 = .ok (.iload_n 3, 1) := dk_29 (dk_at dksX3_addsGoblin_2 13 rfl rfl)
theorem dX3_addsGoblin_62 : decode cX3_addsGoblin 62 = .ok (.ifCond .ne 7, 3) := dk_154 0 7 (dk_at dksX3_addsGoblin_2 14 rfl rfl)
theorem dX3_addsGoblin_65 : decode cX3_addsGoblin 65 = .ok (.iload_n 1, 1) := dk_27 (dk_at dksX3_addsGoblin_2 17 rfl rfl)
theorem dX3_addsGoblin_66 : decode cX3_addsGoblin 66 = .ok (.goto 4, 3) := dk_167 0 4 (dk_at dksX3_addsGoblin_2 18 rfl rfl)
theorem dX3_addsGoblin_69 : decode cX3_addsGoblin 69 = .ok (.iconst 0, 1) := dk_3 (dk_at dksX3_addsGoblin_2 21 rfl rfl)
theorem dX3_addsGoblin_70 : decode cX3_addsGoblin 70 = .ok (.iastore, 1) := dk_79 (dk_at dksX3_addsGoblin_2 22 rfl rfl)
theorem dX3_addsGoblin_71 : decode cX3_addsGoblin 71 = .ok (.iinc 3 1, 3) := dk_132 3 1 (dk_at dksX3_addsGoblin_3 0 rfl rfl)
theorem dX3_addsGoblin_74 : decode cX3_addsGoblin 74 = .ok (.goto (-25), 3) := dk_167 255 231 (dk_at dksX3_addsGoblin_3 3 rfl rfl)
theorem dX3_addsGoblin_77 : decode cX3_addsGoblin 77 = .ok (.aload_n 0, 1) := dk_42 (dk_at dksX3_addsGoblin_3 6 rfl rfl)
theorem dX3_addsGoblin_78 : decode cX3_addsGoblin 78 = .ok (.getfield 9, 3) := dk_180 0 9 (dk_at dksX3_addsGoblin_3 7 rfl rfl)
theorem dX3_addsGoblin_81 : decode cX3_addsGoblin 81 = .ok (.bipush 9, 2) := dk_16 9 (dk_at dksX3_addsGoblin_3 10 rfl rfl)
theorem dX3_addsGoblin_83 : decode cX3_addsGoblin 83 = .ok (.dup2, 1) := dk_92 (dk_at dksX3_addsGoblin_3 12 rfl rfl)
theorem dX3_addsGoblin_84 : decode cX3_addsGoblin 84 = .ok (.iaload, 1) := dk_46 (dk_at dksX3_addsGoblin_3 13 rfl rfl)
theorem dX3_addsGoblin_85 : decode cX3_addsGoblin 85 = .ok (.iconst 1, 1) := dk_4 (dk_at dksX3_addsGoblin_3 14 rfl rfl)
theorem dX3_addsGoblin_86 : decode cX3_addsGoblin 86 = .ok (.iadd, 1) := dk_96 (dk_at dksX3_addsGoblin_3 15 rfl rfl)
theorem dX3_addsGoblin_87 : decode cX3_addsGoblin 87 = .ok (.iastore, 1) := dk_79 (dk_at dksX3_addsGoblin_3 16 rfl rfl)
theorem dX3_addsGoblin_88 : decode cX3_addsGoblin 88 = .ok (.aload_n 0, 1) := dk_42 (dk_at dksX3_addsGoblin_3 17 rfl rfl)
theorem dX3_addsGoblin_89 : decode cX3_addsGoblin 89 = .ok (.getfield 9, 3) := dk_180 0 9 (dk_at dksX3_addsGoblin_3 18 rfl rfl)
theorem dX3_addsGoblin_92 : decode cX3_addsGoblin 92 = .ok (.bipush 9, 2) := dk_16 9 (dk_at dksX3_addsGoblin_3 21 rfl rfl)
theorem dX3_addsGoblin_94 : decode cX3_addsGoblin 94 = .ok (.iaload, 1) := dk_46 (dk_at dksX3_addsGoblin_3 23 rfl rfl)
theorem dX3_addsGoblin_95 : decode cX3_addsGoblin 95 = .ok (.iconst 1, 1) := dk_4 (dk_at dksX3_addsGoblin_4 0 rfl rfl)
theorem dX3_addsGoblin_96 : decode cX3_addsGoblin 96 = .ok (.isub, 1) := dk_100 (dk_at dksX3_addsGoblin_4 1 rfl rfl)
theorem dX3_addsGoblin_97 : decode cX3_addsGoblin 97 = .ok (.ireturn, 1) := dk_172 (dk_at dksX3_addsGoblin_4 2 rfl rfl)
abbrev cX3_isIn : ByteArray := prog_26_method_3_code
def yX3_isIn : MethodName := ⟨RX3, "isIn", "(III)Z"⟩
def dkwX3_isIn_0 : List UInt8 := [26, 27, 161, 0, 12, 26, 28, 163, 0, 7, 4, 167, 0, 4, 3, 172]
abbrev dktX3_isIn_0 : List UInt8 := dkwX3_isIn_0 ++ []
theorem dksX3_isIn_0 : cX3_isIn.data.toList.drop 0 = dktX3_isIn_0 := by decide +kernel
theorem dX3_isIn_0 : decode cX3_isIn 0 = .ok (.iload_n 0, 1) := dk_26 (dk_at dksX3_isIn_0 0 rfl rfl)
theorem dX3_isIn_1 : decode cX3_isIn 1 = .ok (.iload_n 1, 1) := dk_27 (dk_at dksX3_isIn_0 1 rfl rfl)
theorem dX3_isIn_2 : decode cX3_isIn 2 = .ok (.if_icmp .lt 12, 3) := dk_161 0 12 (dk_at dksX3_isIn_0 2 rfl rfl)
theorem dX3_isIn_5 : decode cX3_isIn 5 = .ok (.iload_n 0, 1) := dk_26 (dk_at dksX3_isIn_0 5 rfl rfl)
theorem dX3_isIn_6 : decode cX3_isIn 6 = .ok (.iload_n 2, 1) := dk_28 (dk_at dksX3_isIn_0 6 rfl rfl)
theorem dX3_isIn_7 : decode cX3_isIn 7 = .ok (.if_icmp .gt 7, 3) := dk_163 0 7 (dk_at dksX3_isIn_0 7 rfl rfl)
theorem dX3_isIn_10 : decode cX3_isIn 10 = .ok (.iconst 1, 1) := dk_4 (dk_at dksX3_isIn_0 10 rfl rfl)
theorem dX3_isIn_11 : decode cX3_isIn 11 = .ok (.goto 4, 3) := dk_167 0 4 (dk_at dksX3_isIn_0 11 rfl rfl)
theorem dX3_isIn_14 : decode cX3_isIn 14 = .ok (.iconst 0, 1) := dk_3 (dk_at dksX3_isIn_0 14 rfl rfl)
theorem dX3_isIn_15 : decode cX3_isIn 15 = .ok (.ireturn, 1) := dk_172 (dk_at dksX3_isIn_0 15 rfl rfl)
abbrev cX3_ends : ByteArray := prog_26_method_9_code
def yX3_ends : MethodName := ⟨RX3, "ends", "(I)I"⟩
def dkwX3_ends_1 : List UInt8 := [182, 0, 58, 27, 172]
abbrev dktX3_ends_1 : List UInt8 := dkwX3_ends_1 ++ []
def dkwX3_ends_0 : List UInt8 := [42, 180, 0, 44, 153, 0, 18, 42, 180, 0, 13, 3, 42, 180, 0, 9, 3, 184, 0, 51, 3, 172, 42]
abbrev dktX3_ends_0 : List UInt8 := dkwX3_ends_0 ++ dktX3_ends_1
theorem dksX3_ends_0 : cX3_ends.data.toList.drop 0 = dktX3_ends_0 := by decide +kernel
theorem dksX3_ends_1 : cX3_ends.data.toList.drop 23 = dktX3_ends_1 := dk_seg dksX3_ends_0 23 rfl rfl
theorem dX3_ends_0 : decode cX3_ends 0 = .ok (.aload_n 0, 1) := dk_42 (dk_at dksX3_ends_0 0 rfl rfl)
theorem dX3_ends_1 : decode cX3_ends 1 = .ok (.getfield 44, 3) := dk_180 0 44 (dk_at dksX3_ends_0 1 rfl rfl)
theorem dX3_ends_4 : decode cX3_ends 4 = .ok (.ifCond .eq 18, 3) := dk_153 0 18 (dk_at dksX3_ends_0 4 rfl rfl)
theorem dX3_ends_7 : decode cX3_ends 7 = .ok (.aload_n 0, 1) := dk_42 (dk_at dksX3_ends_0 7 rfl rfl)
theorem dX3_ends_8 : decode cX3_ends 8 = .ok (.getfield 13, 3) := dk_180 0 13 (dk_at dksX3_ends_0 8 rfl rfl)
theorem dX3_ends_11 : decode cX3_ends 11 = .ok (.iconst 0, 1) := dk_3 (dk_at dksX3_ends_0 11 rfl rfl)
theorem dX3_ends_12 : decode cX3_ends 12 = .ok (.aload_n 0, 1) := dk_42 (dk_at dksX3_ends_0 12 rfl rfl)
theorem dX3_ends_13 : decode cX3_ends 13 = .ok (.getfield 9, 3) := dk_180 0 9 (dk_at dksX3_ends_0 13 rfl rfl)
theorem dX3_ends_16 : decode cX3_ends 16 = .ok (.iconst 0, 1) := dk_3 (dk_at dksX3_ends_0 16 rfl rfl)
theorem dX3_ends_17 : decode cX3_ends 17 = .ok (.invokestatic 51, 3) := dk_184 0 51 (dk_at dksX3_ends_0 17 rfl rfl)
theorem dX3_ends_20 : decode cX3_ends 20 = .ok (.iconst 0, 1) := dk_3 (dk_at dksX3_ends_0 20 rfl rfl)
theorem dX3_ends_21 : decode cX3_ends 21 = .ok (.ireturn, 1) := dk_172 (dk_at dksX3_ends_0 21 rfl rfl)
theorem dX3_ends_22 : decode cX3_ends 22 = .ok (.aload_n 0, 1) := dk_42 (dk_at dksX3_ends_0 22 rfl rfl)
theorem dX3_ends_23 : decode cX3_ends 23 = .ok (.invokevirtual 58, 3) := dk_182 0 58 (dk_at dksX3_ends_1 0 rfl rfl)
theorem dX3_ends_26 : decode cX3_ends 26 = .ok (.iload_n 1, 1) := dk_27 (dk_at dksX3_ends_1 3 rfl rfl)
theorem dX3_ends_27 : decode cX3_ends 27 = .ok (.ireturn, 1) := dk_172 (dk_at dksX3_ends_1 4 rfl rfl)
abbrev cX3_remembers : ByteArray := prog_26_method_8_code
def yX3_remembers : MethodName := ⟨RX3, "remembers", "()V"⟩
def dkwX3_remembers_3 : List UInt8 := [180, 0, 55, 4, 96, 181, 0, 55, 177]
abbrev dktX3_remembers_3 : List UInt8 := dkwX3_remembers_3 ++ []
def dkwX3_remembers_2 : List UInt8 := [181, 0, 55, 42, 180, 0, 13, 3, 42, 180, 0, 22, 42, 180, 0, 55, 16, 91, 104, 184, 0, 51, 42, 89]
abbrev dktX3_remembers_2 : List UInt8 := dkwX3_remembers_2 ++ dktX3_remembers_3
def dkwX3_remembers_1 : List UInt8 := [180, 0, 22, 27, 16, 91, 96, 46, 79, 132, 1, 1, 167, 255, 231, 42, 89, 180, 0, 55, 4, 100]
abbrev dktX3_remembers_1 : List UInt8 := dkwX3_remembers_1 ++ dktX3_remembers_2
def dkwX3_remembers_0 : List UInt8 := [42, 180, 0, 55, 16, 8, 160, 0, 43, 3, 60, 27, 17, 2, 125, 162, 0, 24, 42, 180, 0, 22, 27, 42]
abbrev dktX3_remembers_0 : List UInt8 := dkwX3_remembers_0 ++ dktX3_remembers_1
theorem dksX3_remembers_0 : cX3_remembers.data.toList.drop 0 = dktX3_remembers_0 := by decide +kernel
theorem dksX3_remembers_1 : cX3_remembers.data.toList.drop 24 = dktX3_remembers_1 := dk_seg dksX3_remembers_0 24 rfl rfl
theorem dksX3_remembers_2 : cX3_remembers.data.toList.drop 46 = dktX3_remembers_2 := dk_seg dksX3_remembers_1 22 rfl rfl
theorem dksX3_remembers_3 : cX3_remembers.data.toList.drop 70 = dktX3_remembers_3 := dk_seg dksX3_remembers_2 24 rfl rfl
theorem dX3_remembers_0 : decode cX3_remembers 0 = .ok (.aload_n 0, 1) := dk_42 (dk_at dksX3_remembers_0 0 rfl rfl)
theorem dX3_remembers_1 : decode cX3_remembers 1 = .ok (.getfield 55, 3) := dk_180 0 55 (dk_at dksX3_remembers_0 1 rfl rfl)
theorem dX3_remembers_4 : decode cX3_remembers 4 = .ok (.bipush 8, 2) := dk_16 8 (dk_at dksX3_remembers_0 4 rfl rfl)
theorem dX3_remembers_6 : decode cX3_remembers 6 = .ok (.if_icmp .ne 43, 3) := dk_160 0 43 (dk_at dksX3_remembers_0 6 rfl rfl)
theorem dX3_remembers_9 : decode cX3_remembers 9 = .ok (.iconst 0, 1) := dk_3 (dk_at dksX3_remembers_0 9 rfl rfl)
theorem dX3_remembers_10 : decode cX3_remembers 10 = .ok (.istore_n 1, 1) := dk_60 (dk_at dksX3_remembers_0 10 rfl rfl)
theorem dX3_remembers_11 : decode cX3_remembers 11 = .ok (.iload_n 1, 1) := dk_27 (dk_at dksX3_remembers_0 11 rfl rfl)
theorem dX3_remembers_12 : decode cX3_remembers 12 = .ok (.sipush 637, 3) := dk_17 2 125 (dk_at dksX3_remembers_0 12 rfl rfl)
theorem dX3_remembers_15 : decode cX3_remembers 15 = .ok (.if_icmp .ge 24, 3) := dk_162 0 24 (dk_at dksX3_remembers_0 15 rfl rfl)
theorem dX3_remembers_18 : decode cX3_remembers 18 = .ok (.aload_n 0, 1) := dk_42 (dk_at dksX3_remembers_0 18 rfl rfl)
theorem dX3_remembers_19 : decode cX3_remembers 19 = .ok (.getfield 22, 3) := dk_180 0 22 (dk_at dksX3_remembers_0 19 rfl rfl)
theorem dX3_remembers_22 : decode cX3_remembers 22 = .ok (.iload_n 1, 1) := dk_27 (dk_at dksX3_remembers_0 22 rfl rfl)
theorem dX3_remembers_23 : decode cX3_remembers 23 = .ok (.aload_n 0, 1) := dk_42 (dk_at dksX3_remembers_0 23 rfl rfl)
theorem dX3_remembers_24 : decode cX3_remembers 24 = .ok (.getfield 22, 3) := dk_180 0 22 (dk_at dksX3_remembers_1 0 rfl rfl)
theorem dX3_remembers_27 : decode cX3_remembers 27 = .ok (.iload_n 1, 1) := dk_27 (dk_at dksX3_remembers_1 3 rfl rfl)
theorem dX3_remembers_28 : decode cX3_remembers 28 = .ok (.bipush 91, 2) := dk_16 91 (dk_at dksX3_remembers_1 4 rfl rfl)
theorem dX3_remembers_30 : decode cX3_remembers 30 = .ok (.iadd, 1) := dk_96 (dk_at dksX3_remembers_1 6 rfl rfl)
theorem dX3_remembers_31 : decode cX3_remembers 31 = .ok (.iaload, 1) := dk_46 (dk_at dksX3_remembers_1 7 rfl rfl)
theorem dX3_remembers_32 : decode cX3_remembers 32 = .ok (.iastore, 1) := dk_79 (dk_at dksX3_remembers_1 8 rfl rfl)
theorem dX3_remembers_33 : decode cX3_remembers 33 = .ok (.iinc 1 1, 3) := dk_132 1 1 (dk_at dksX3_remembers_1 9 rfl rfl)
theorem dX3_remembers_36 : decode cX3_remembers 36 = .ok (.goto (-25), 3) := dk_167 255 231 (dk_at dksX3_remembers_1 12 rfl rfl)
theorem dX3_remembers_39 : decode cX3_remembers 39 = .ok (.aload_n 0, 1) := dk_42 (dk_at dksX3_remembers_1 15 rfl rfl)
theorem dX3_remembers_40 : decode cX3_remembers 40 = .ok (.dup, 1) := dk_89 (dk_at dksX3_remembers_1 16 rfl rfl)
theorem dX3_remembers_41 : decode cX3_remembers 41 = .ok (.getfield 55, 3) := dk_180 0 55 (dk_at dksX3_remembers_1 17 rfl rfl)
theorem dX3_remembers_44 : decode cX3_remembers 44 = .ok (.iconst 1, 1) := dk_4 (dk_at dksX3_remembers_1 20 rfl rfl)
theorem dX3_remembers_45 : decode cX3_remembers 45 = .ok (.isub, 1) := dk_100 (dk_at dksX3_remembers_1 21 rfl rfl)
theorem dX3_remembers_46 : decode cX3_remembers 46 = .ok (.putfield 55, 3) := dk_181 0 55 (dk_at dksX3_remembers_2 0 rfl rfl)
theorem dX3_remembers_49 : decode cX3_remembers 49 = .ok (.aload_n 0, 1) := dk_42 (dk_at dksX3_remembers_2 3 rfl rfl)
theorem dX3_remembers_50 : decode cX3_remembers 50 = .ok (.getfield 13, 3) := dk_180 0 13 (dk_at dksX3_remembers_2 4 rfl rfl)
theorem dX3_remembers_53 : decode cX3_remembers 53 = .ok (.iconst 0, 1) := dk_3 (dk_at dksX3_remembers_2 7 rfl rfl)
theorem dX3_remembers_54 : decode cX3_remembers 54 = .ok (.aload_n 0, 1) := dk_42 (dk_at dksX3_remembers_2 8 rfl rfl)
theorem dX3_remembers_55 : decode cX3_remembers 55 = .ok (.getfield 22, 3) := dk_180 0 22 (dk_at dksX3_remembers_2 9 rfl rfl)
theorem dX3_remembers_58 : decode cX3_remembers 58 = .ok (.aload_n 0, 1) := dk_42 (dk_at dksX3_remembers_2 12 rfl rfl)
theorem dX3_remembers_59 : decode cX3_remembers 59 = .ok (.getfield 55, 3) := dk_180 0 55 (dk_at dksX3_remembers_2 13 rfl rfl)
theorem dX3_remembers_62 : decode cX3_remembers 62 = .ok (.bipush 91, 2) := dk_16 91 (dk_at dksX3_remembers_2 16 rfl rfl)
theorem dX3_remembers_64 : decode cX3_remembers 64 = .ok (.imul, 1) := dk_104 (dk_at dksX3_remembers_2 18 rfl rfl)
theorem dX3_remembers_65 : decode cX3_remembers 65 = .ok (.invokestatic 51, 3) := dk_184 0 51 (dk_at dksX3_remembers_2 19 rfl rfl)
theorem dX3_remembers_68 : decode cX3_remembers 68 = .ok (.aload_n 0, 1) := dk_42 (dk_at dksX3_remembers_2 22 rfl rfl)
theorem dX3_remembers_69 : decode cX3_remembers 69 = .ok (.dup, 1) := dk_89 (dk_at dksX3_remembers_2 23 rfl rfl)
theorem dX3_remembers_70 : decode cX3_remembers 70 = .ok (.getfield 55, 3) := dk_180 0 55 (dk_at dksX3_remembers_3 0 rfl rfl)
theorem dX3_remembers_73 : decode cX3_remembers 73 = .ok (.iconst 1, 1) := dk_4 (dk_at dksX3_remembers_3 3 rfl rfl)
theorem dX3_remembers_74 : decode cX3_remembers 74 = .ok (.iadd, 1) := dk_96 (dk_at dksX3_remembers_3 4 rfl rfl)
theorem dX3_remembers_75 : decode cX3_remembers 75 = .ok (.putfield 55, 3) := dk_181 0 55 (dk_at dksX3_remembers_3 5 rfl rfl)
theorem dX3_remembers_78 : decode cX3_remembers 78 = .ok (.return_, 1) := dk_177 (dk_at dksX3_remembers_3 8 rfl rfl)
abbrev cX3_addBroom : ByteArray := prog_26_method_28_code
def yX3_addBroom : MethodName := ⟨RX3, "addBroom", "(I)I"⟩
def dkwX3_addBroom_0 : List UInt8 := [42, 182, 0, 102, 42, 42, 27, 182, 0, 112, 182, 0, 109, 172]
abbrev dktX3_addBroom_0 : List UInt8 := dkwX3_addBroom_0 ++ []
theorem dksX3_addBroom_0 : cX3_addBroom.data.toList.drop 0 = dktX3_addBroom_0 := by decide +kernel
theorem dX3_addBroom_0 : decode cX3_addBroom 0 = .ok (.aload_n 0, 1) := dk_42 (dk_at dksX3_addBroom_0 0 rfl rfl)
theorem dX3_addBroom_1 : decode cX3_addBroom 1 = .ok (.invokevirtual 102, 3) := dk_182 0 102 (dk_at dksX3_addBroom_0 1 rfl rfl)
theorem dX3_addBroom_4 : decode cX3_addBroom 4 = .ok (.aload_n 0, 1) := dk_42 (dk_at dksX3_addBroom_0 4 rfl rfl)
theorem dX3_addBroom_5 : decode cX3_addBroom 5 = .ok (.aload_n 0, 1) := dk_42 (dk_at dksX3_addBroom_0 5 rfl rfl)
theorem dX3_addBroom_6 : decode cX3_addBroom 6 = .ok (.iload_n 1, 1) := dk_27 (dk_at dksX3_addBroom_0 6 rfl rfl)
theorem dX3_addBroom_7 : decode cX3_addBroom 7 = .ok (.invokevirtual 112, 3) := dk_182 0 112 (dk_at dksX3_addBroom_0 7 rfl rfl)
theorem dX3_addBroom_10 : decode cX3_addBroom 10 = .ok (.invokevirtual 109, 3) := dk_182 0 109 (dk_at dksX3_addBroom_0 10 rfl rfl)
theorem dX3_addBroom_13 : decode cX3_addBroom 13 = .ok (.ireturn, 1) := dk_172 (dk_at dksX3_addBroom_0 13 rfl rfl)
abbrev cX3_addsBroom : ByteArray := prog_26_method_27_code
def yX3_addsBroom : MethodName := ⟨RX3, "addsBroom", "(I)I"⟩
def dkwX3_addsBroom_3 : List UInt8 := [3, 79, 42, 180, 0, 9, 16, 8, 92, 46, 4, 96, 79, 42, 180, 0, 9, 16, 8, 46, 4, 100, 172]
abbrev dktX3_addsBroom_3 : List UInt8 := dkwX3_addsBroom_3 ++ []
def dkwX3_addsBroom_2 : List UInt8 := [104, 96, 3, 96, 27, 79, 42, 180, 0, 9, 16, 18, 5, 42, 180, 0, 9, 16, 8, 46, 104, 96, 4, 96]
abbrev dktX3_addsBroom_2 : List UInt8 := dkwX3_addsBroom_2 ++ dktX3_addsBroom_3
def dkwX3_addsBroom_1 : List UInt8 := [4, 4, 182, 0, 47, 154, 0, 5, 3, 172, 42, 180, 0, 9, 16, 18, 5, 42, 180, 0, 9, 16, 8, 46]
abbrev dktX3_addsBroom_1 : List UInt8 := dkwX3_addsBroom_1 ++ dktX3_addsBroom_2
def dkwX3_addsBroom_0 : List UInt8 := [42, 27, 4, 16, 20, 184, 0, 69, 42, 180, 0, 9, 16, 8, 46, 7, 162, 0, 7, 4, 167, 0, 4, 3]
abbrev dktX3_addsBroom_0 : List UInt8 := dkwX3_addsBroom_0 ++ dktX3_addsBroom_1
theorem dksX3_addsBroom_0 : cX3_addsBroom.data.toList.drop 0 = dktX3_addsBroom_0 := by decide +kernel
theorem dksX3_addsBroom_1 : cX3_addsBroom.data.toList.drop 24 = dktX3_addsBroom_1 := dk_seg dksX3_addsBroom_0 24 rfl rfl
theorem dksX3_addsBroom_2 : cX3_addsBroom.data.toList.drop 48 = dktX3_addsBroom_2 := dk_seg dksX3_addsBroom_1 24 rfl rfl
theorem dksX3_addsBroom_3 : cX3_addsBroom.data.toList.drop 72 = dktX3_addsBroom_3 := dk_seg dksX3_addsBroom_2 24 rfl rfl
theorem dX3_addsBroom_0 : decode cX3_addsBroom 0 = .ok (.aload_n 0, 1) := dk_42 (dk_at dksX3_addsBroom_0 0 rfl rfl)
theorem dX3_addsBroom_1 : decode cX3_addsBroom 1 = .ok (.iload_n 1, 1) := dk_27 (dk_at dksX3_addsBroom_0 1 rfl rfl)
theorem dX3_addsBroom_2 : decode cX3_addsBroom 2 = .ok (.iconst 1, 1) := dk_4 (dk_at dksX3_addsBroom_0 2 rfl rfl)
theorem dX3_addsBroom_3 : decode cX3_addsBroom 3 = .ok (.bipush 20, 2) := dk_16 20 (dk_at dksX3_addsBroom_0 3 rfl rfl)
theorem dX3_addsBroom_5 : decode cX3_addsBroom 5 = .ok (.invokestatic 69, 3) := dk_184 0 69 (dk_at dksX3_addsBroom_0 5 rfl rfl)
theorem dX3_addsBroom_8 : decode cX3_addsBroom 8 = .ok (.aload_n 0, 1) := dk_42 (dk_at dksX3_addsBroom_0 8 rfl rfl)
theorem dX3_addsBroom_9 : decode cX3_addsBroom 9 = .ok (.getfield 9, 3) := dk_180 0 9 (dk_at dksX3_addsBroom_0 9 rfl rfl)
theorem dX3_addsBroom_12 : decode cX3_addsBroom 12 = .ok (.bipush 8, 2) := dk_16 8 (dk_at dksX3_addsBroom_0 12 rfl rfl)
theorem dX3_addsBroom_14 : decode cX3_addsBroom 14 = .ok (.iaload, 1) := dk_46 (dk_at dksX3_addsBroom_0 14 rfl rfl)
theorem dX3_addsBroom_15 : decode cX3_addsBroom 15 = .ok (.iconst 4, 1) := dk_7 (dk_at dksX3_addsBroom_0 15 rfl rfl)
theorem dX3_addsBroom_16 : decode cX3_addsBroom 16 = .ok (.if_icmp .ge 7, 3) := dk_162 0 7 (dk_at dksX3_addsBroom_0 16 rfl rfl)
theorem dX3_addsBroom_19 : decode cX3_addsBroom 19 = .ok (.iconst 1, 1) := dk_4 (dk_at dksX3_addsBroom_0 19 rfl rfl)
theorem dX3_addsBroom_20 : decode cX3_addsBroom 20 = .ok (.goto 4, 3) := dk_167 0 4 (dk_at dksX3_addsBroom_0 20 rfl rfl)
theorem dX3_addsBroom_23 : decode cX3_addsBroom 23 = .ok (.iconst 0, 1) := dk_3 (dk_at dksX3_addsBroom_0 23 rfl rfl)
theorem dX3_addsBroom_24 : decode cX3_addsBroom 24 = .ok (.iconst 1, 1) := dk_4 (dk_at dksX3_addsBroom_1 0 rfl rfl)
theorem dX3_addsBroom_25 : decode cX3_addsBroom 25 = .ok (.iconst 1, 1) := dk_4 (dk_at dksX3_addsBroom_1 1 rfl rfl)
theorem dX3_addsBroom_26 : decode cX3_addsBroom 26 = .ok (.invokevirtual 47, 3) := dk_182 0 47 (dk_at dksX3_addsBroom_1 2 rfl rfl)
theorem dX3_addsBroom_29 : decode cX3_addsBroom 29 = .ok (.ifCond .ne 5, 3) := dk_154 0 5 (dk_at dksX3_addsBroom_1 5 rfl rfl)
theorem dX3_addsBroom_32 : decode cX3_addsBroom 32 = .ok (.iconst 0, 1) := dk_3 (dk_at dksX3_addsBroom_1 8 rfl rfl)
theorem dX3_addsBroom_33 : decode cX3_addsBroom 33 = .ok (.ireturn, 1) := dk_172 (dk_at dksX3_addsBroom_1 9 rfl rfl)
theorem dX3_addsBroom_34 : decode cX3_addsBroom 34 = .ok (.aload_n 0, 1) := dk_42 (dk_at dksX3_addsBroom_1 10 rfl rfl)
theorem dX3_addsBroom_35 : decode cX3_addsBroom 35 = .ok (.getfield 9, 3) := dk_180 0 9 (dk_at dksX3_addsBroom_1 11 rfl rfl)
theorem dX3_addsBroom_38 : decode cX3_addsBroom 38 = .ok (.bipush 18, 2) := dk_16 18 (dk_at dksX3_addsBroom_1 14 rfl rfl)
theorem dX3_addsBroom_40 : decode cX3_addsBroom 40 = .ok (.iconst 2, 1) := dk_5 (dk_at dksX3_addsBroom_1 16 rfl rfl)
theorem dX3_addsBroom_41 : decode cX3_addsBroom 41 = .ok (.aload_n 0, 1) := dk_42 (dk_at dksX3_addsBroom_1 17 rfl rfl)
theorem dX3_addsBroom_42 : decode cX3_addsBroom 42 = .ok (.getfield 9, 3) := dk_180 0 9 (dk_at dksX3_addsBroom_1 18 rfl rfl)
theorem dX3_addsBroom_45 : decode cX3_addsBroom 45 = .ok (.bipush 8, 2) := dk_16 8 (dk_at dksX3_addsBroom_1 21 rfl rfl)
theorem dX3_addsBroom_47 : decode cX3_addsBroom 47 = .ok (.iaload, 1) := dk_46 (dk_at dksX3_addsBroom_1 23 rfl rfl)
theorem dX3_addsBroom_48 : decode cX3_addsBroom 48 = .ok (.imul, 1) := dk_104 (dk_at dksX3_addsBroom_2 0 rfl rfl)
theorem dX3_addsBroom_49 : decode cX3_addsBroom 49 = .ok (.iadd, 1) := dk_96 (dk_at dksX3_addsBroom_2 1 rfl rfl)
theorem dX3_addsBroom_50 : decode cX3_addsBroom 50 = .ok (.iconst 0, 1) := dk_3 (dk_at dksX3_addsBroom_2 2 rfl rfl)
theorem dX3_addsBroom_51 : decode cX3_addsBroom 51 = .ok (.iadd, 1) := dk_96 (dk_at dksX3_addsBroom_2 3 rfl rfl)
theorem dX3_addsBroom_52 : decode cX3_addsBroom 52 = .ok (.iload_n 1, 1) := dk_27 (dk_at dksX3_addsBroom_2 4 rfl rfl)
theorem dX3_addsBroom_53 : decode cX3_addsBroom 53 = .ok (.iastore, 1) := dk_79 (dk_at dksX3_addsBroom_2 5 rfl rfl)
theorem dX3_addsBroom_54 : decode cX3_addsBroom 54 = .ok (.aload_n 0, 1) := dk_42 (dk_at dksX3_addsBroom_2 6 rfl rfl)
theorem dX3_addsBroom_55 : decode cX3_addsBroom 55 = .ok (.getfield 9, 3) := dk_180 0 9 (dk_at dksX3_addsBroom_2 7 rfl rfl)
theorem dX3_addsBroom_58 : decode cX3_addsBroom 58 = .ok (.bipush 18, 2) := dk_16 18 (dk_at dksX3_addsBroom_2 10 rfl rfl)
theorem dX3_addsBroom_60 : decode cX3_addsBroom 60 = .ok (.iconst 2, 1) := dk_5 (dk_at dksX3_addsBroom_2 12 rfl rfl)
theorem dX3_addsBroom_61 : decode cX3_addsBroom 61 = .ok (.aload_n 0, 1) := dk_42 (dk_at dksX3_addsBroom_2 13 rfl rfl)
theorem dX3_addsBroom_62 : decode cX3_addsBroom 62 = .ok (.getfield 9, 3) := dk_180 0 9 (dk_at dksX3_addsBroom_2 14 rfl rfl)
theorem dX3_addsBroom_65 : decode cX3_addsBroom 65 = .ok (.bipush 8, 2) := dk_16 8 (dk_at dksX3_addsBroom_2 17 rfl rfl)
theorem dX3_addsBroom_67 : decode cX3_addsBroom 67 = .ok (.iaload, 1) := dk_46 (dk_at dksX3_addsBroom_2 19 rfl rfl)
theorem dX3_addsBroom_68 : decode cX3_addsBroom 68 = .ok (.imul, 1) := dk_104 (dk_at dksX3_addsBroom_2 20 rfl rfl)
theorem dX3_addsBroom_69 : decode cX3_addsBroom 69 = .ok (.iadd, 1) := dk_96 (dk_at dksX3_addsBroom_2 21 rfl rfl)
theorem dX3_addsBroom_70 : decode cX3_addsBroom 70 = .ok (.iconst 1, 1) := dk_4 (dk_at dksX3_addsBroom_2 22 rfl rfl)
theorem dX3_addsBroom_71 : decode cX3_addsBroom 71 = .ok (.iadd, 1) := dk_96 (dk_at dksX3_addsBroom_2 23 rfl rfl)
theorem dX3_addsBroom_72 : decode cX3_addsBroom 72 = .ok (.iconst 0, 1) := dk_3 (dk_at dksX3_addsBroom_3 0 rfl rfl)
theorem dX3_addsBroom_73 : decode cX3_addsBroom 73 = .ok (.iastore, 1) := dk_79 (dk_at dksX3_addsBroom_3 1 rfl rfl)
theorem dX3_addsBroom_74 : decode cX3_addsBroom 74 = .ok (.aload_n 0, 1) := dk_42 (dk_at dksX3_addsBroom_3 2 rfl rfl)
theorem dX3_addsBroom_75 : decode cX3_addsBroom 75 = .ok (.getfield 9, 3) := dk_180 0 9 (dk_at dksX3_addsBroom_3 3 rfl rfl)
theorem dX3_addsBroom_78 : decode cX3_addsBroom 78 = .ok (.bipush 8, 2) := dk_16 8 (dk_at dksX3_addsBroom_3 6 rfl rfl)
theorem dX3_addsBroom_80 : decode cX3_addsBroom 80 = .ok (.dup2, 1) := dk_92 (dk_at dksX3_addsBroom_3 8 rfl rfl)
theorem dX3_addsBroom_81 : decode cX3_addsBroom 81 = .ok (.iaload, 1) := dk_46 (dk_at dksX3_addsBroom_3 9 rfl rfl)
theorem dX3_addsBroom_82 : decode cX3_addsBroom 82 = .ok (.iconst 1, 1) := dk_4 (dk_at dksX3_addsBroom_3 10 rfl rfl)
theorem dX3_addsBroom_83 : decode cX3_addsBroom 83 = .ok (.iadd, 1) := dk_96 (dk_at dksX3_addsBroom_3 11 rfl rfl)
theorem dX3_addsBroom_84 : decode cX3_addsBroom 84 = .ok (.iastore, 1) := dk_79 (dk_at dksX3_addsBroom_3 12 rfl rfl)
theorem dX3_addsBroom_85 : decode cX3_addsBroom 85 = .ok (.aload_n 0, 1) := dk_42 (dk_at dksX3_addsBroom_3 13 rfl rfl)
theorem dX3_addsBroom_86 : decode cX3_addsBroom 86 = .ok (.getfield 9, 3) := dk_180 0 9 (dk_at dksX3_addsBroom_3 14 rfl rfl)
theorem dX3_addsBroom_89 : decode cX3_addsBroom 89 = .ok (.bipush 8, 2) := dk_16 8 (dk_at dksX3_addsBroom_3 17 rfl rfl)
theorem dX3_addsBroom_91 : decode cX3_addsBroom 91 = .ok (.iaload, 1) := dk_46 (dk_at dksX3_addsBroom_3 19 rfl rfl)
theorem dX3_addsBroom_92 : decode cX3_addsBroom 92 = .ok (.iconst 1, 1) := dk_4 (dk_at dksX3_addsBroom_3 20 rfl rfl)
theorem dX3_addsBroom_93 : decode cX3_addsBroom 93 = .ok (.isub, 1) := dk_100 (dk_at dksX3_addsBroom_3 21 rfl rfl)
theorem dX3_addsBroom_94 : decode cX3_addsBroom 94 = .ok (.ireturn, 1) := dk_172 (dk_at dksX3_addsBroom_3 22 rfl rfl)
abbrev cX3_banishBroom : ByteArray := prog_26_method_30_code
def yX3_banishBroom : MethodName := ⟨RX3, "banishBroom", "(I)I"⟩
def dkwX3_banishBroom_0 : List UInt8 := [42, 182, 0, 102, 42, 42, 27, 4, 182, 0, 115, 182, 0, 109, 172]
abbrev dktX3_banishBroom_0 : List UInt8 := dkwX3_banishBroom_0 ++ []
theorem dksX3_banishBroom_0 : cX3_banishBroom.data.toList.drop 0 = dktX3_banishBroom_0 := by decide +kernel
theorem dX3_banishBroom_0 : decode cX3_banishBroom 0 = .ok (.aload_n 0, 1) := dk_42 (dk_at dksX3_banishBroom_0 0 rfl rfl)
theorem dX3_banishBroom_1 : decode cX3_banishBroom 1 = .ok (.invokevirtual 102, 3) := dk_182 0 102 (dk_at dksX3_banishBroom_0 1 rfl rfl)
theorem dX3_banishBroom_4 : decode cX3_banishBroom 4 = .ok (.aload_n 0, 1) := dk_42 (dk_at dksX3_banishBroom_0 4 rfl rfl)
theorem dX3_banishBroom_5 : decode cX3_banishBroom 5 = .ok (.aload_n 0, 1) := dk_42 (dk_at dksX3_banishBroom_0 5 rfl rfl)
theorem dX3_banishBroom_6 : decode cX3_banishBroom 6 = .ok (.iload_n 1, 1) := dk_27 (dk_at dksX3_banishBroom_0 6 rfl rfl)
theorem dX3_banishBroom_7 : decode cX3_banishBroom 7 = .ok (.iconst 1, 1) := dk_4 (dk_at dksX3_banishBroom_0 7 rfl rfl)
theorem dX3_banishBroom_8 : decode cX3_banishBroom 8 = .ok (.invokevirtual 115, 3) := dk_182 0 115 (dk_at dksX3_banishBroom_0 8 rfl rfl)
theorem dX3_banishBroom_11 : decode cX3_banishBroom 11 = .ok (.invokevirtual 109, 3) := dk_182 0 109 (dk_at dksX3_banishBroom_0 11 rfl rfl)
theorem dX3_banishBroom_14 : decode cX3_banishBroom 14 = .ok (.ireturn, 1) := dk_172 (dk_at dksX3_banishBroom_0 14 rfl rfl)
abbrev cX3_banishes : ByteArray := prog_26_method_29_code
def yX3_banishes : MethodName := ⟨RX3, "banishes", "(II)I"⟩
def dkwX3_banishes_2 : List UInt8 := [182, 0, 98, 172]
abbrev dktX3_banishes_2 : List UInt8 := dkwX3_banishes_2 ++ []
def dkwX3_banishes_1 : List UInt8 := [182, 0, 47, 154, 0, 5, 3, 172, 42, 180, 0, 9, 16, 18, 5, 27, 104, 96, 4, 96, 28, 79, 42]
abbrev dktX3_banishes_1 : List UInt8 := dkwX3_banishes_1 ++ dktX3_banishes_2
def dkwX3_banishes_0 : List UInt8 := [42, 42, 27, 182, 0, 73, 42, 27, 4, 182, 0, 87, 28, 159, 0, 7, 4, 167, 0, 4, 3, 4, 4]
abbrev dktX3_banishes_0 : List UInt8 := dkwX3_banishes_0 ++ dktX3_banishes_1
theorem dksX3_banishes_0 : cX3_banishes.data.toList.drop 0 = dktX3_banishes_0 := by decide +kernel
theorem dksX3_banishes_1 : cX3_banishes.data.toList.drop 23 = dktX3_banishes_1 := dk_seg dksX3_banishes_0 23 rfl rfl
theorem dksX3_banishes_2 : cX3_banishes.data.toList.drop 46 = dktX3_banishes_2 := dk_seg dksX3_banishes_1 23 rfl rfl
theorem dX3_banishes_0 : decode cX3_banishes 0 = .ok (.aload_n 0, 1) := dk_42 (dk_at dksX3_banishes_0 0 rfl rfl)
theorem dX3_banishes_1 : decode cX3_banishes 1 = .ok (.aload_n 0, 1) := dk_42 (dk_at dksX3_banishes_0 1 rfl rfl)
theorem dX3_banishes_2 : decode cX3_banishes 2 = .ok (.iload_n 1, 1) := dk_27 (dk_at dksX3_banishes_0 2 rfl rfl)
theorem dX3_banishes_3 : decode cX3_banishes 3 = .ok (.invokevirtual 73, 3) := dk_182 0 73 (dk_at dksX3_banishes_0 3 rfl rfl)
theorem dX3_banishes_6 : decode cX3_banishes 6 = .ok (.aload_n 0, 1) := dk_42 (dk_at dksX3_banishes_0 6 rfl rfl)
theorem dX3_banishes_7 : decode cX3_banishes 7 = .ok (.iload_n 1, 1) := dk_27 (dk_at dksX3_banishes_0 7 rfl rfl)
theorem dX3_banishes_8 : decode cX3_banishes 8 = .ok (.iconst 1, 1) := dk_4 (dk_at dksX3_banishes_0 8 rfl rfl)
theorem dX3_banishes_9 : decode cX3_banishes 9 = .ok (.invokevirtual 87, 3) := dk_182 0 87 (dk_at dksX3_banishes_0 9 rfl rfl)
theorem dX3_banishes_12 : decode cX3_banishes 12 = .ok (.iload_n 2, 1) := dk_28 (dk_at dksX3_banishes_0 12 rfl rfl)
theorem dX3_banishes_13 : decode cX3_banishes 13 = .ok (.if_icmp .eq 7, 3) := dk_159 0 7 (dk_at dksX3_banishes_0 13 rfl rfl)
theorem dX3_banishes_16 : decode cX3_banishes 16 = .ok (.iconst 1, 1) := dk_4 (dk_at dksX3_banishes_0 16 rfl rfl)
theorem dX3_banishes_17 : decode cX3_banishes 17 = .ok (.goto 4, 3) := dk_167 0 4 (dk_at dksX3_banishes_0 17 rfl rfl)
theorem dX3_banishes_20 : decode cX3_banishes 20 = .ok (.iconst 0, 1) := dk_3 (dk_at dksX3_banishes_0 20 rfl rfl)
theorem dX3_banishes_21 : decode cX3_banishes 21 = .ok (.iconst 1, 1) := dk_4 (dk_at dksX3_banishes_0 21 rfl rfl)
theorem dX3_banishes_22 : decode cX3_banishes 22 = .ok (.iconst 1, 1) := dk_4 (dk_at dksX3_banishes_0 22 rfl rfl)
theorem dX3_banishes_23 : decode cX3_banishes 23 = .ok (.invokevirtual 47, 3) := dk_182 0 47 (dk_at dksX3_banishes_1 0 rfl rfl)
theorem dX3_banishes_26 : decode cX3_banishes 26 = .ok (.ifCond .ne 5, 3) := dk_154 0 5 (dk_at dksX3_banishes_1 3 rfl rfl)
theorem dX3_banishes_29 : decode cX3_banishes 29 = .ok (.iconst 0, 1) := dk_3 (dk_at dksX3_banishes_1 6 rfl rfl)
theorem dX3_banishes_30 : decode cX3_banishes 30 = .ok (.ireturn, 1) := dk_172 (dk_at dksX3_banishes_1 7 rfl rfl)
theorem dX3_banishes_31 : decode cX3_banishes 31 = .ok (.aload_n 0, 1) := dk_42 (dk_at dksX3_banishes_1 8 rfl rfl)
theorem dX3_banishes_32 : decode cX3_banishes 32 = .ok (.getfield 9, 3) := dk_180 0 9 (dk_at dksX3_banishes_1 9 rfl rfl)
theorem dX3_banishes_35 : decode cX3_banishes 35 = .ok (.bipush 18, 2) := dk_16 18 (dk_at dksX3_banishes_1 12 rfl rfl)
theorem dX3_banishes_37 : decode cX3_banishes 37 = .ok (.iconst 2, 1) := dk_5 (dk_at dksX3_banishes_1 14 rfl rfl)
theorem dX3_banishes_38 : decode cX3_banishes 38 = .ok (.iload_n 1, 1) := dk_27 (dk_at dksX3_banishes_1 15 rfl rfl)
theorem dX3_banishes_39 : decode cX3_banishes 39 = .ok (.imul, 1) := dk_104 (dk_at dksX3_banishes_1 16 rfl rfl)
theorem dX3_banishes_40 : decode cX3_banishes 40 = .ok (.iadd, 1) := dk_96 (dk_at dksX3_banishes_1 17 rfl rfl)
theorem dX3_banishes_41 : decode cX3_banishes 41 = .ok (.iconst 1, 1) := dk_4 (dk_at dksX3_banishes_1 18 rfl rfl)
theorem dX3_banishes_42 : decode cX3_banishes 42 = .ok (.iadd, 1) := dk_96 (dk_at dksX3_banishes_1 19 rfl rfl)
theorem dX3_banishes_43 : decode cX3_banishes 43 = .ok (.iload_n 2, 1) := dk_28 (dk_at dksX3_banishes_1 20 rfl rfl)
theorem dX3_banishes_44 : decode cX3_banishes 44 = .ok (.iastore, 1) := dk_79 (dk_at dksX3_banishes_1 21 rfl rfl)
theorem dX3_banishes_45 : decode cX3_banishes 45 = .ok (.aload_n 0, 1) := dk_42 (dk_at dksX3_banishes_1 22 rfl rfl)
theorem dX3_banishes_46 : decode cX3_banishes 46 = .ok (.invokevirtual 98, 3) := dk_182 0 98 (dk_at dksX3_banishes_2 0 rfl rfl)
theorem dX3_banishes_49 : decode cX3_banishes 49 = .ok (.ireturn, 1) := dk_172 (dk_at dksX3_banishes_2 3 rfl rfl)
abbrev cX3_isBroom : ByteArray := prog_26_method_14_code
def yX3_isBroom : MethodName := ⟨RX3, "isBroom", "(I)Z"⟩
def dkwX3_isBroom_0 : List UInt8 := [27, 3, 42, 180, 0, 9, 16, 8, 46, 4, 100, 184, 0, 69, 172]
abbrev dktX3_isBroom_0 : List UInt8 := dkwX3_isBroom_0 ++ []
theorem dksX3_isBroom_0 : cX3_isBroom.data.toList.drop 0 = dktX3_isBroom_0 := by decide +kernel
theorem dX3_isBroom_0 : decode cX3_isBroom 0 = .ok (.iload_n 1, 1) := dk_27 (dk_at dksX3_isBroom_0 0 rfl rfl)
theorem dX3_isBroom_1 : decode cX3_isBroom 1 = .ok (.iconst 0, 1) := dk_3 (dk_at dksX3_isBroom_0 1 rfl rfl)
theorem dX3_isBroom_2 : decode cX3_isBroom 2 = .ok (.aload_n 0, 1) := dk_42 (dk_at dksX3_isBroom_0 2 rfl rfl)
theorem dX3_isBroom_3 : decode cX3_isBroom 3 = .ok (.getfield 9, 3) := dk_180 0 9 (dk_at dksX3_isBroom_0 3 rfl rfl)
theorem dX3_isBroom_6 : decode cX3_isBroom 6 = .ok (.bipush 8, 2) := dk_16 8 (dk_at dksX3_isBroom_0 6 rfl rfl)
theorem dX3_isBroom_8 : decode cX3_isBroom 8 = .ok (.iaload, 1) := dk_46 (dk_at dksX3_isBroom_0 8 rfl rfl)
theorem dX3_isBroom_9 : decode cX3_isBroom 9 = .ok (.iconst 1, 1) := dk_4 (dk_at dksX3_isBroom_0 9 rfl rfl)
theorem dX3_isBroom_10 : decode cX3_isBroom 10 = .ok (.isub, 1) := dk_100 (dk_at dksX3_isBroom_0 10 rfl rfl)
theorem dX3_isBroom_11 : decode cX3_isBroom 11 = .ok (.invokestatic 69, 3) := dk_184 0 69 (dk_at dksX3_isBroom_0 11 rfl rfl)
theorem dX3_isBroom_14 : decode cX3_isBroom 14 = .ok (.ireturn, 1) := dk_172 (dk_at dksX3_isBroom_0 14 rfl rfl)
abbrev cX3_ofBroom : ByteArray := prog_26_method_15_code
def yX3_ofBroom : MethodName := ⟨RX3, "ofBroom", "(II)I"⟩
def dkwX3_ofBroom_1 : List UInt8 := [46, 172]
abbrev dktX3_ofBroom_1 : List UInt8 := dkwX3_ofBroom_1 ++ []
def dkwX3_ofBroom_0 : List UInt8 := [42, 180, 0, 9, 16, 18, 5, 42, 27, 182, 0, 73, 153, 0, 7, 27, 167, 0, 4, 3, 104, 96, 28, 96]
abbrev dktX3_ofBroom_0 : List UInt8 := dkwX3_ofBroom_0 ++ dktX3_ofBroom_1
theorem dksX3_ofBroom_0 : cX3_ofBroom.data.toList.drop 0 = dktX3_ofBroom_0 := by decide +kernel
theorem dksX3_ofBroom_1 : cX3_ofBroom.data.toList.drop 24 = dktX3_ofBroom_1 := dk_seg dksX3_ofBroom_0 24 rfl rfl
theorem dX3_ofBroom_0 : decode cX3_ofBroom 0 = .ok (.aload_n 0, 1) := dk_42 (dk_at dksX3_ofBroom_0 0 rfl rfl)
theorem dX3_ofBroom_1 : decode cX3_ofBroom 1 = .ok (.getfield 9, 3) := dk_180 0 9 (dk_at dksX3_ofBroom_0 1 rfl rfl)
theorem dX3_ofBroom_4 : decode cX3_ofBroom 4 = .ok (.bipush 18, 2) := dk_16 18 (dk_at dksX3_ofBroom_0 4 rfl rfl)
theorem dX3_ofBroom_6 : decode cX3_ofBroom 6 = .ok (.iconst 2, 1) := dk_5 (dk_at dksX3_ofBroom_0 6 rfl rfl)
theorem dX3_ofBroom_7 : decode cX3_ofBroom 7 = .ok (.aload_n 0, 1) := dk_42 (dk_at dksX3_ofBroom_0 7 rfl rfl)
theorem dX3_ofBroom_8 : decode cX3_ofBroom 8 = .ok (.iload_n 1, 1) := dk_27 (dk_at dksX3_ofBroom_0 8 rfl rfl)
theorem dX3_ofBroom_9 : decode cX3_ofBroom 9 = .ok (.invokevirtual 73, 3) := dk_182 0 73 (dk_at dksX3_ofBroom_0 9 rfl rfl)
theorem dX3_ofBroom_12 : decode cX3_ofBroom 12 = .ok (.ifCond .eq 7, 3) := dk_153 0 7 (dk_at dksX3_ofBroom_0 12 rfl rfl)
theorem dX3_ofBroom_15 : decode cX3_ofBroom 15 = .ok (.iload_n 1, 1) := dk_27 (dk_at dksX3_ofBroom_0 15 rfl rfl)
theorem dX3_ofBroom_16 : decode cX3_ofBroom 16 = .ok (.goto 4, 3) := dk_167 0 4 (dk_at dksX3_ofBroom_0 16 rfl rfl)
theorem dX3_ofBroom_19 : decode cX3_ofBroom 19 = .ok (.iconst 0, 1) := dk_3 (dk_at dksX3_ofBroom_0 19 rfl rfl)
theorem dX3_ofBroom_20 : decode cX3_ofBroom 20 = .ok (.imul, 1) := dk_104 (dk_at dksX3_ofBroom_0 20 rfl rfl)
theorem dX3_ofBroom_21 : decode cX3_ofBroom 21 = .ok (.iadd, 1) := dk_96 (dk_at dksX3_ofBroom_0 21 rfl rfl)
theorem dX3_ofBroom_22 : decode cX3_ofBroom 22 = .ok (.iload_n 2, 1) := dk_28 (dk_at dksX3_ofBroom_0 22 rfl rfl)
theorem dX3_ofBroom_23 : decode cX3_ofBroom 23 = .ok (.iadd, 1) := dk_96 (dk_at dksX3_ofBroom_0 23 rfl rfl)
theorem dX3_ofBroom_24 : decode cX3_ofBroom 24 = .ok (.iaload, 1) := dk_46 (dk_at dksX3_ofBroom_1 0 rfl rfl)
theorem dX3_ofBroom_25 : decode cX3_ofBroom 25 = .ok (.ireturn, 1) := dk_172 (dk_at dksX3_ofBroom_1 1 rfl rfl)
abbrev cX3_inUse : ByteArray := prog_26_method_22_code
def yX3_inUse : MethodName := ⟨RX3, "inUse", "()I"⟩
def dkwX3_inUse_1 : List UInt8 := [96, 60, 132, 2, 1, 167, 255, 231, 27, 172]
abbrev dktX3_inUse_1 : List UInt8 := dkwX3_inUse_1 ++ []
def dkwX3_inUse_0 : List UInt8 := [3, 60, 3, 61, 28, 42, 180, 0, 9, 16, 8, 46, 162, 0, 20, 27, 4, 42, 28, 4, 182, 0, 87, 100]
abbrev dktX3_inUse_0 : List UInt8 := dkwX3_inUse_0 ++ dktX3_inUse_1
theorem dksX3_inUse_0 : cX3_inUse.data.toList.drop 0 = dktX3_inUse_0 := by decide +kernel
theorem dksX3_inUse_1 : cX3_inUse.data.toList.drop 24 = dktX3_inUse_1 := dk_seg dksX3_inUse_0 24 rfl rfl
theorem dX3_inUse_0 : decode cX3_inUse 0 = .ok (.iconst 0, 1) := dk_3 (dk_at dksX3_inUse_0 0 rfl rfl)
theorem dX3_inUse_1 : decode cX3_inUse 1 = .ok (.istore_n 1, 1) := dk_60 (dk_at dksX3_inUse_0 1 rfl rfl)
theorem dX3_inUse_2 : decode cX3_inUse 2 = .ok (.iconst 0, 1) := dk_3 (dk_at dksX3_inUse_0 2 rfl rfl)
theorem dX3_inUse_3 : decode cX3_inUse 3 = .ok (.istore_n 2, 1) := dk_61 (dk_at dksX3_inUse_0 3 rfl rfl)
theorem dX3_inUse_4 : decode cX3_inUse 4 = .ok (.iload_n 2, 1) := dk_28 (dk_at dksX3_inUse_0 4 rfl rfl)
theorem dX3_inUse_5 : decode cX3_inUse 5 = .ok (.aload_n 0, 1) := dk_42 (dk_at dksX3_inUse_0 5 rfl rfl)
theorem dX3_inUse_6 : decode cX3_inUse 6 = .ok (.getfield 9, 3) := dk_180 0 9 (dk_at dksX3_inUse_0 6 rfl rfl)
theorem dX3_inUse_9 : decode cX3_inUse 9 = .ok (.bipush 8, 2) := dk_16 8 (dk_at dksX3_inUse_0 9 rfl rfl)
theorem dX3_inUse_11 : decode cX3_inUse 11 = .ok (.iaload, 1) := dk_46 (dk_at dksX3_inUse_0 11 rfl rfl)
theorem dX3_inUse_12 : decode cX3_inUse 12 = .ok (.if_icmp .ge 20, 3) := dk_162 0 20 (dk_at dksX3_inUse_0 12 rfl rfl)
theorem dX3_inUse_15 : decode cX3_inUse 15 = .ok (.iload_n 1, 1) := dk_27 (dk_at dksX3_inUse_0 15 rfl rfl)
theorem dX3_inUse_16 : decode cX3_inUse 16 = .ok (.iconst 1, 1) := dk_4 (dk_at dksX3_inUse_0 16 rfl rfl)
theorem dX3_inUse_17 : decode cX3_inUse 17 = .ok (.aload_n 0, 1) := dk_42 (dk_at dksX3_inUse_0 17 rfl rfl)
theorem dX3_inUse_18 : decode cX3_inUse 18 = .ok (.iload_n 2, 1) := dk_28 (dk_at dksX3_inUse_0 18 rfl rfl)
theorem dX3_inUse_19 : decode cX3_inUse 19 = .ok (.iconst 1, 1) := dk_4 (dk_at dksX3_inUse_0 19 rfl rfl)
theorem dX3_inUse_20 : decode cX3_inUse 20 = .ok (.invokevirtual 87, 3) := dk_182 0 87 (dk_at dksX3_inUse_0 20 rfl rfl)
theorem dX3_inUse_23 : decode cX3_inUse 23 = .ok (.isub, 1) := dk_100 (dk_at dksX3_inUse_0 23 rfl rfl)
theorem dX3_inUse_24 : decode cX3_inUse 24 = .ok (.iadd, 1) := dk_96 (dk_at dksX3_inUse_1 0 rfl rfl)
theorem dX3_inUse_25 : decode cX3_inUse 25 = .ok (.istore_n 1, 1) := dk_60 (dk_at dksX3_inUse_1 1 rfl rfl)
theorem dX3_inUse_26 : decode cX3_inUse 26 = .ok (.iinc 2 1, 3) := dk_132 2 1 (dk_at dksX3_inUse_1 2 rfl rfl)
theorem dX3_inUse_29 : decode cX3_inUse 29 = .ok (.goto (-25), 3) := dk_167 255 231 (dk_at dksX3_inUse_1 5 rfl rfl)
theorem dX3_inUse_32 : decode cX3_inUse 32 = .ok (.iload_n 1, 1) := dk_27 (dk_at dksX3_inUse_1 8 rfl rfl)
theorem dX3_inUse_33 : decode cX3_inUse 33 = .ok (.ireturn, 1) := dk_172 (dk_at dksX3_inUse_1 9 rfl rfl)
abbrev cX3_recallBroom : ByteArray := prog_26_method_31_code
def yX3_recallBroom : MethodName := ⟨RX3, "recallBroom", "(I)I"⟩
def dkwX3_recallBroom_0 : List UInt8 := [42, 182, 0, 102, 42, 42, 27, 3, 182, 0, 115, 182, 0, 109, 172]
abbrev dktX3_recallBroom_0 : List UInt8 := dkwX3_recallBroom_0 ++ []
theorem dksX3_recallBroom_0 : cX3_recallBroom.data.toList.drop 0 = dktX3_recallBroom_0 := by decide +kernel
theorem dX3_recallBroom_0 : decode cX3_recallBroom 0 = .ok (.aload_n 0, 1) := dk_42 (dk_at dksX3_recallBroom_0 0 rfl rfl)
theorem dX3_recallBroom_1 : decode cX3_recallBroom 1 = .ok (.invokevirtual 102, 3) := dk_182 0 102 (dk_at dksX3_recallBroom_0 1 rfl rfl)
theorem dX3_recallBroom_4 : decode cX3_recallBroom 4 = .ok (.aload_n 0, 1) := dk_42 (dk_at dksX3_recallBroom_0 4 rfl rfl)
theorem dX3_recallBroom_5 : decode cX3_recallBroom 5 = .ok (.aload_n 0, 1) := dk_42 (dk_at dksX3_recallBroom_0 5 rfl rfl)
theorem dX3_recallBroom_6 : decode cX3_recallBroom 6 = .ok (.iload_n 1, 1) := dk_27 (dk_at dksX3_recallBroom_0 6 rfl rfl)
theorem dX3_recallBroom_7 : decode cX3_recallBroom 7 = .ok (.iconst 0, 1) := dk_3 (dk_at dksX3_recallBroom_0 7 rfl rfl)
theorem dX3_recallBroom_8 : decode cX3_recallBroom 8 = .ok (.invokevirtual 115, 3) := dk_182 0 115 (dk_at dksX3_recallBroom_0 8 rfl rfl)
theorem dX3_recallBroom_11 : decode cX3_recallBroom 11 = .ok (.invokevirtual 109, 3) := dk_182 0 109 (dk_at dksX3_recallBroom_0 11 rfl rfl)
theorem dX3_recallBroom_14 : decode cX3_recallBroom 14 = .ok (.ireturn, 1) := dk_172 (dk_at dksX3_recallBroom_0 14 rfl rfl)
abbrev cX3_rest : ByteArray := prog_26_method_33_code
def yX3_rest : MethodName := ⟨RX3, "rest", "(I)I"⟩
def dkwX3_rest_0 : List UInt8 := [42, 182, 0, 102, 42, 42, 27, 4, 182, 0, 118, 182, 0, 109, 172]
abbrev dktX3_rest_0 : List UInt8 := dkwX3_rest_0 ++ []
theorem dksX3_rest_0 : cX3_rest.data.toList.drop 0 = dktX3_rest_0 := by decide +kernel
theorem dX3_rest_0 : decode cX3_rest 0 = .ok (.aload_n 0, 1) := dk_42 (dk_at dksX3_rest_0 0 rfl rfl)
theorem dX3_rest_1 : decode cX3_rest 1 = .ok (.invokevirtual 102, 3) := dk_182 0 102 (dk_at dksX3_rest_0 1 rfl rfl)
theorem dX3_rest_4 : decode cX3_rest 4 = .ok (.aload_n 0, 1) := dk_42 (dk_at dksX3_rest_0 4 rfl rfl)
theorem dX3_rest_5 : decode cX3_rest 5 = .ok (.aload_n 0, 1) := dk_42 (dk_at dksX3_rest_0 5 rfl rfl)
theorem dX3_rest_6 : decode cX3_rest 6 = .ok (.iload_n 1, 1) := dk_27 (dk_at dksX3_rest_0 6 rfl rfl)
theorem dX3_rest_7 : decode cX3_rest 7 = .ok (.iconst 1, 1) := dk_4 (dk_at dksX3_rest_0 7 rfl rfl)
theorem dX3_rest_8 : decode cX3_rest 8 = .ok (.invokevirtual 118, 3) := dk_182 0 118 (dk_at dksX3_rest_0 8 rfl rfl)
theorem dX3_rest_11 : decode cX3_rest 11 = .ok (.invokevirtual 109, 3) := dk_182 0 109 (dk_at dksX3_rest_0 11 rfl rfl)
theorem dX3_rest_14 : decode cX3_rest 14 = .ok (.ireturn, 1) := dk_172 (dk_at dksX3_rest_0 14 rfl rfl)
abbrev cX3_rests : ByteArray := prog_26_method_32_code
def yX3_rests : MethodName := ⟨RX3, "rests", "(II)I"⟩
def dkwX3_rests_3 : List UInt8 := [132, 4, 1, 167, 255, 231, 28, 4, 160, 0, 7, 29, 167, 0, 9, 42, 27, 6, 182, 0, 95, 172]
abbrev dktX3_rests_3 : List UInt8 := dkwX3_rests_3 ++ []
def dkwX3_rests_2 : List UInt8 := [54, 4, 21, 4, 42, 180, 0, 9, 16, 9, 46, 162, 0, 19, 29, 42, 21, 4, 7, 182, 0, 95, 96, 62]
abbrev dktX3_rests_2 : List UInt8 := dkwX3_rests_2 ++ dktX3_rests_3
def dkwX3_rests_1 : List UInt8 := [182, 0, 47, 154, 0, 5, 3, 172, 42, 180, 0, 9, 42, 27, 7, 182, 0, 80, 28, 79, 3, 62, 3]
abbrev dktX3_rests_1 : List UInt8 := dkwX3_rests_1 ++ dktX3_rests_2
def dkwX3_rests_0 : List UInt8 := [42, 42, 27, 182, 0, 77, 42, 27, 7, 182, 0, 95, 28, 159, 0, 7, 4, 167, 0, 4, 3, 4, 4]
abbrev dktX3_rests_0 : List UInt8 := dkwX3_rests_0 ++ dktX3_rests_1
theorem dksX3_rests_0 : cX3_rests.data.toList.drop 0 = dktX3_rests_0 := by decide +kernel
theorem dksX3_rests_1 : cX3_rests.data.toList.drop 23 = dktX3_rests_1 := dk_seg dksX3_rests_0 23 rfl rfl
theorem dksX3_rests_2 : cX3_rests.data.toList.drop 46 = dktX3_rests_2 := dk_seg dksX3_rests_1 23 rfl rfl
theorem dksX3_rests_3 : cX3_rests.data.toList.drop 70 = dktX3_rests_3 := dk_seg dksX3_rests_2 24 rfl rfl
theorem dX3_rests_0 : decode cX3_rests 0 = .ok (.aload_n 0, 1) := dk_42 (dk_at dksX3_rests_0 0 rfl rfl)
theorem dX3_rests_1 : decode cX3_rests 1 = .ok (.aload_n 0, 1) := dk_42 (dk_at dksX3_rests_0 1 rfl rfl)
theorem dX3_rests_2 : decode cX3_rests 2 = .ok (.iload_n 1, 1) := dk_27 (dk_at dksX3_rests_0 2 rfl rfl)
theorem dX3_rests_3 : decode cX3_rests 3 = .ok (.invokevirtual 77, 3) := dk_182 0 77 (dk_at dksX3_rests_0 3 rfl rfl)
theorem dX3_rests_6 : decode cX3_rests 6 = .ok (.aload_n 0, 1) := dk_42 (dk_at dksX3_rests_0 6 rfl rfl)
theorem dX3_rests_7 : decode cX3_rests 7 = .ok (.iload_n 1, 1) := dk_27 (dk_at dksX3_rests_0 7 rfl rfl)
theorem dX3_rests_8 : decode cX3_rests 8 = .ok (.iconst 4, 1) := dk_7 (dk_at dksX3_rests_0 8 rfl rfl)
theorem dX3_rests_9 : decode cX3_rests 9 = .ok (.invokevirtual 95, 3) := dk_182 0 95 (dk_at dksX3_rests_0 9 rfl rfl)
theorem dX3_rests_12 : decode cX3_rests 12 = .ok (.iload_n 2, 1) := dk_28 (dk_at dksX3_rests_0 12 rfl rfl)
theorem dX3_rests_13 : decode cX3_rests 13 = .ok (.if_icmp .eq 7, 3) := dk_159 0 7 (dk_at dksX3_rests_0 13 rfl rfl)
theorem dX3_rests_16 : decode cX3_rests 16 = .ok (.iconst 1, 1) := dk_4 (dk_at dksX3_rests_0 16 rfl rfl)
theorem dX3_rests_17 : decode cX3_rests 17 = .ok (.goto 4, 3) := dk_167 0 4 (dk_at dksX3_rests_0 17 rfl rfl)
theorem dX3_rests_20 : decode cX3_rests 20 = .ok (.iconst 0, 1) := dk_3 (dk_at dksX3_rests_0 20 rfl rfl)
theorem dX3_rests_21 : decode cX3_rests 21 = .ok (.iconst 1, 1) := dk_4 (dk_at dksX3_rests_0 21 rfl rfl)
theorem dX3_rests_22 : decode cX3_rests 22 = .ok (.iconst 1, 1) := dk_4 (dk_at dksX3_rests_0 22 rfl rfl)
theorem dX3_rests_23 : decode cX3_rests 23 = .ok (.invokevirtual 47, 3) := dk_182 0 47 (dk_at dksX3_rests_1 0 rfl rfl)
theorem dX3_rests_26 : decode cX3_rests 26 = .ok (.ifCond .ne 5, 3) := dk_154 0 5 (dk_at dksX3_rests_1 3 rfl rfl)
theorem dX3_rests_29 : decode cX3_rests 29 = .ok (.iconst 0, 1) := dk_3 (dk_at dksX3_rests_1 6 rfl rfl)
theorem dX3_rests_30 : decode cX3_rests 30 = .ok (.ireturn, 1) := dk_172 (dk_at dksX3_rests_1 7 rfl rfl)
theorem dX3_rests_31 : decode cX3_rests 31 = .ok (.aload_n 0, 1) := dk_42 (dk_at dksX3_rests_1 8 rfl rfl)
theorem dX3_rests_32 : decode cX3_rests 32 = .ok (.getfield 9, 3) := dk_180 0 9 (dk_at dksX3_rests_1 9 rfl rfl)
theorem dX3_rests_35 : decode cX3_rests 35 = .ok (.aload_n 0, 1) := dk_42 (dk_at dksX3_rests_1 12 rfl rfl)
theorem dX3_rests_36 : decode cX3_rests 36 = .ok (.iload_n 1, 1) := dk_27 (dk_at dksX3_rests_1 13 rfl rfl)
theorem dX3_rests_37 : decode cX3_rests 37 = .ok (.iconst 4, 1) := dk_7 (dk_at dksX3_rests_1 14 rfl rfl)
theorem dX3_rests_38 : decode cX3_rests 38 = .ok (.invokevirtual 80, 3) := dk_182 0 80 (dk_at dksX3_rests_1 15 rfl rfl)
theorem dX3_rests_41 : decode cX3_rests 41 = .ok (.iload_n 2, 1) := dk_28 (dk_at dksX3_rests_1 18 rfl rfl)
theorem dX3_rests_42 : decode cX3_rests 42 = .ok (.iastore, 1) := dk_79 (dk_at dksX3_rests_1 19 rfl rfl)
theorem dX3_rests_43 : decode cX3_rests 43 = .ok (.iconst 0, 1) := dk_3 (dk_at dksX3_rests_1 20 rfl rfl)
theorem dX3_rests_44 : decode cX3_rests 44 = .ok (.istore_n 3, 1) := dk_62 (dk_at dksX3_rests_1 21 rfl rfl)
theorem dX3_rests_45 : decode cX3_rests 45 = .ok (.iconst 0, 1) := dk_3 (dk_at dksX3_rests_1 22 rfl rfl)
theorem dX3_rests_46 : decode cX3_rests 46 = .ok (.istore 4, 2) := dk_54 4 (dk_at dksX3_rests_2 0 rfl rfl)
theorem dX3_rests_48 : decode cX3_rests 48 = .ok (.iload 4, 2) := dk_21 4 (dk_at dksX3_rests_2 2 rfl rfl)
theorem dX3_rests_50 : decode cX3_rests 50 = .ok (.aload_n 0, 1) := dk_42 (dk_at dksX3_rests_2 4 rfl rfl)
theorem dX3_rests_51 : decode cX3_rests 51 = .ok (.getfield 9, 3) := dk_180 0 9 (dk_at dksX3_rests_2 5 rfl rfl)
theorem dX3_rests_54 : decode cX3_rests 54 = .ok (.bipush 9, 2) := dk_16 9 (dk_at dksX3_rests_2 8 rfl rfl)
theorem dX3_rests_56 : decode cX3_rests 56 = .ok (.iaload, 1) := dk_46 (dk_at dksX3_rests_2 10 rfl rfl)
theorem dX3_rests_57 : decode cX3_rests 57 = .ok (.if_icmp .ge 19, 3) := dk_162 0 19 (dk_at dksX3_rests_2 11 rfl rfl)
theorem dX3_rests_60 : decode cX3_rests 60 = .ok (.iload_n 3, 1) := dk_29 (dk_at dksX3_rests_2 14 rfl rfl)
theorem dX3_rests_61 : decode cX3_rests 61 = .ok (.aload_n 0, 1) := dk_42 (dk_at dksX3_rests_2 15 rfl rfl)
theorem dX3_rests_62 : decode cX3_rests 62 = .ok (.iload 4, 2) := dk_21 4 (dk_at dksX3_rests_2 16 rfl rfl)
theorem dX3_rests_64 : decode cX3_rests 64 = .ok (.iconst 4, 1) := dk_7 (dk_at dksX3_rests_2 18 rfl rfl)
theorem dX3_rests_65 : decode cX3_rests 65 = .ok (.invokevirtual 95, 3) := dk_182 0 95 (dk_at dksX3_rests_2 19 rfl rfl)
theorem dX3_rests_68 : decode cX3_rests 68 = .ok (.iadd, 1) := dk_96 (dk_at dksX3_rests_2 22 rfl rfl)
theorem dX3_rests_69 : decode cX3_rests 69 = .ok (.istore_n 3, 1) := dk_62 (dk_at dksX3_rests_2 23 rfl rfl)
theorem dX3_rests_70 : decode cX3_rests 70 = .ok (.iinc 4 1, 3) := dk_132 4 1 (dk_at dksX3_rests_3 0 rfl rfl)
theorem dX3_rests_73 : decode cX3_rests 73 = .ok (.goto (-25), 3) := dk_167 255 231 (dk_at dksX3_rests_3 3 rfl rfl)
theorem dX3_rests_76 : decode cX3_rests 76 = .ok (.iload_n 2, 1) := dk_28 (dk_at dksX3_rests_3 6 rfl rfl)
theorem dX3_rests_77 : decode cX3_rests 77 = .ok (.iconst 1, 1) := dk_4 (dk_at dksX3_rests_3 7 rfl rfl)
theorem dX3_rests_78 : decode cX3_rests 78 = .ok (.if_icmp .ne 7, 3) := dk_160 0 7 (dk_at dksX3_rests_3 8 rfl rfl)
theorem dX3_rests_81 : decode cX3_rests 81 = .ok (.iload_n 3, 1) := dk_29 (dk_at dksX3_rests_3 11 rfl rfl)
theorem dX3_rests_82 : decode cX3_rests 82 = .ok (.goto 9, 3) := dk_167 0 9 (dk_at dksX3_rests_3 12 rfl rfl)
theorem dX3_rests_85 : decode cX3_rests 85 = .ok (.aload_n 0, 1) := dk_42 (dk_at dksX3_rests_3 15 rfl rfl)
theorem dX3_rests_86 : decode cX3_rests 86 = .ok (.iload_n 1, 1) := dk_27 (dk_at dksX3_rests_3 16 rfl rfl)
theorem dX3_rests_87 : decode cX3_rests 87 = .ok (.iconst 3, 1) := dk_6 (dk_at dksX3_rests_3 17 rfl rfl)
theorem dX3_rests_88 : decode cX3_rests 88 = .ok (.invokevirtual 95, 3) := dk_182 0 95 (dk_at dksX3_rests_3 18 rfl rfl)
theorem dX3_rests_91 : decode cX3_rests 91 = .ok (.ireturn, 1) := dk_172 (dk_at dksX3_rests_3 21 rfl rfl)
abbrev cX3_isGoblin : ByteArray := prog_26_method_16_code
def yX3_isGoblin : MethodName := ⟨RX3, "isGoblin", "(I)Z"⟩
def dkwX3_isGoblin_0 : List UInt8 := [27, 3, 42, 180, 0, 9, 16, 9, 46, 4, 100, 184, 0, 69, 172]
abbrev dktX3_isGoblin_0 : List UInt8 := dkwX3_isGoblin_0 ++ []
theorem dksX3_isGoblin_0 : cX3_isGoblin.data.toList.drop 0 = dktX3_isGoblin_0 := by decide +kernel
theorem dX3_isGoblin_0 : decode cX3_isGoblin 0 = .ok (.iload_n 1, 1) := dk_27 (dk_at dksX3_isGoblin_0 0 rfl rfl)
theorem dX3_isGoblin_1 : decode cX3_isGoblin 1 = .ok (.iconst 0, 1) := dk_3 (dk_at dksX3_isGoblin_0 1 rfl rfl)
theorem dX3_isGoblin_2 : decode cX3_isGoblin 2 = .ok (.aload_n 0, 1) := dk_42 (dk_at dksX3_isGoblin_0 2 rfl rfl)
theorem dX3_isGoblin_3 : decode cX3_isGoblin 3 = .ok (.getfield 9, 3) := dk_180 0 9 (dk_at dksX3_isGoblin_0 3 rfl rfl)
theorem dX3_isGoblin_6 : decode cX3_isGoblin 6 = .ok (.bipush 9, 2) := dk_16 9 (dk_at dksX3_isGoblin_0 6 rfl rfl)
theorem dX3_isGoblin_8 : decode cX3_isGoblin 8 = .ok (.iaload, 1) := dk_46 (dk_at dksX3_isGoblin_0 8 rfl rfl)
theorem dX3_isGoblin_9 : decode cX3_isGoblin 9 = .ok (.iconst 1, 1) := dk_4 (dk_at dksX3_isGoblin_0 9 rfl rfl)
theorem dX3_isGoblin_10 : decode cX3_isGoblin 10 = .ok (.isub, 1) := dk_100 (dk_at dksX3_isGoblin_0 10 rfl rfl)
theorem dX3_isGoblin_11 : decode cX3_isGoblin 11 = .ok (.invokestatic 69, 3) := dk_184 0 69 (dk_at dksX3_isGoblin_0 11 rfl rfl)
theorem dX3_isGoblin_14 : decode cX3_isGoblin 14 = .ok (.ireturn, 1) := dk_172 (dk_at dksX3_isGoblin_0 14 rfl rfl)
abbrev cX3_of : ByteArray := prog_26_method_18_code
def yX3_of : MethodName := ⟨RX3, "of", "(II)I"⟩
def dkwX3_of_0 : List UInt8 := [42, 180, 0, 9, 42, 27, 28, 182, 0, 80, 46, 172]
abbrev dktX3_of_0 : List UInt8 := dkwX3_of_0 ++ []
theorem dksX3_of_0 : cX3_of.data.toList.drop 0 = dktX3_of_0 := by decide +kernel
theorem dX3_of_0 : decode cX3_of 0 = .ok (.aload_n 0, 1) := dk_42 (dk_at dksX3_of_0 0 rfl rfl)
theorem dX3_of_1 : decode cX3_of 1 = .ok (.getfield 9, 3) := dk_180 0 9 (dk_at dksX3_of_0 1 rfl rfl)
theorem dX3_of_4 : decode cX3_of 4 = .ok (.aload_n 0, 1) := dk_42 (dk_at dksX3_of_0 4 rfl rfl)
theorem dX3_of_5 : decode cX3_of 5 = .ok (.iload_n 1, 1) := dk_27 (dk_at dksX3_of_0 5 rfl rfl)
theorem dX3_of_6 : decode cX3_of 6 = .ok (.iload_n 2, 1) := dk_28 (dk_at dksX3_of_0 6 rfl rfl)
theorem dX3_of_7 : decode cX3_of 7 = .ok (.invokevirtual 80, 3) := dk_182 0 80 (dk_at dksX3_of_0 7 rfl rfl)
theorem dX3_of_10 : decode cX3_of 10 = .ok (.iaload, 1) := dk_46 (dk_at dksX3_of_0 10 rfl rfl)
theorem dX3_of_11 : decode cX3_of 11 = .ok (.ireturn, 1) := dk_172 (dk_at dksX3_of_0 11 rfl rfl)
abbrev cX3_place : ByteArray := prog_26_method_17_code
def yX3_place : MethodName := ⟨RX3, "place", "(II)I"⟩
def dkwX3_place_0 : List UInt8 := [16, 26, 8, 42, 27, 182, 0, 77, 153, 0, 7, 27, 167, 0, 4, 3, 104, 96, 28, 96, 172]
abbrev dktX3_place_0 : List UInt8 := dkwX3_place_0 ++ []
theorem dksX3_place_0 : cX3_place.data.toList.drop 0 = dktX3_place_0 := by decide +kernel
theorem dX3_place_0 : decode cX3_place 0 = .ok (.bipush 26, 2) := dk_16 26 (dk_at dksX3_place_0 0 rfl rfl)
theorem dX3_place_2 : decode cX3_place 2 = .ok (.iconst 5, 1) := dk_8 (dk_at dksX3_place_0 2 rfl rfl)
theorem dX3_place_3 : decode cX3_place 3 = .ok (.aload_n 0, 1) := dk_42 (dk_at dksX3_place_0 3 rfl rfl)
theorem dX3_place_4 : decode cX3_place 4 = .ok (.iload_n 1, 1) := dk_27 (dk_at dksX3_place_0 4 rfl rfl)
theorem dX3_place_5 : decode cX3_place 5 = .ok (.invokevirtual 77, 3) := dk_182 0 77 (dk_at dksX3_place_0 5 rfl rfl)
theorem dX3_place_8 : decode cX3_place 8 = .ok (.ifCond .eq 7, 3) := dk_153 0 7 (dk_at dksX3_place_0 8 rfl rfl)
theorem dX3_place_11 : decode cX3_place 11 = .ok (.iload_n 1, 1) := dk_27 (dk_at dksX3_place_0 11 rfl rfl)
theorem dX3_place_12 : decode cX3_place 12 = .ok (.goto 4, 3) := dk_167 0 4 (dk_at dksX3_place_0 12 rfl rfl)
theorem dX3_place_15 : decode cX3_place 15 = .ok (.iconst 0, 1) := dk_3 (dk_at dksX3_place_0 15 rfl rfl)
theorem dX3_place_16 : decode cX3_place 16 = .ok (.imul, 1) := dk_104 (dk_at dksX3_place_0 16 rfl rfl)
theorem dX3_place_17 : decode cX3_place 17 = .ok (.iadd, 1) := dk_96 (dk_at dksX3_place_0 17 rfl rfl)
theorem dX3_place_18 : decode cX3_place 18 = .ok (.iload_n 2, 1) := dk_28 (dk_at dksX3_place_0 18 rfl rfl)
theorem dX3_place_19 : decode cX3_place 19 = .ok (.iadd, 1) := dk_96 (dk_at dksX3_place_0 19 rfl rfl)
theorem dX3_place_20 : decode cX3_place 20 = .ok (.ireturn, 1) := dk_172 (dk_at dksX3_place_0 20 rfl rfl)
abbrev cX3_wake : ByteArray := prog_26_method_34_code
def yX3_wake : MethodName := ⟨RX3, "wake", "(I)I"⟩
def dkwX3_wake_0 : List UInt8 := [42, 182, 0, 102, 42, 42, 27, 3, 182, 0, 118, 182, 0, 109, 172]
abbrev dktX3_wake_0 : List UInt8 := dkwX3_wake_0 ++ []
theorem dksX3_wake_0 : cX3_wake.data.toList.drop 0 = dktX3_wake_0 := by decide +kernel
theorem dX3_wake_0 : decode cX3_wake 0 = .ok (.aload_n 0, 1) := dk_42 (dk_at dksX3_wake_0 0 rfl rfl)
theorem dX3_wake_1 : decode cX3_wake 1 = .ok (.invokevirtual 102, 3) := dk_182 0 102 (dk_at dksX3_wake_0 1 rfl rfl)
theorem dX3_wake_4 : decode cX3_wake 4 = .ok (.aload_n 0, 1) := dk_42 (dk_at dksX3_wake_0 4 rfl rfl)
theorem dX3_wake_5 : decode cX3_wake 5 = .ok (.aload_n 0, 1) := dk_42 (dk_at dksX3_wake_0 5 rfl rfl)
theorem dX3_wake_6 : decode cX3_wake 6 = .ok (.iload_n 1, 1) := dk_27 (dk_at dksX3_wake_0 6 rfl rfl)
theorem dX3_wake_7 : decode cX3_wake 7 = .ok (.iconst 0, 1) := dk_3 (dk_at dksX3_wake_0 7 rfl rfl)
theorem dX3_wake_8 : decode cX3_wake 8 = .ok (.invokevirtual 118, 3) := dk_182 0 118 (dk_at dksX3_wake_0 8 rfl rfl)
theorem dX3_wake_11 : decode cX3_wake 11 = .ok (.invokevirtual 109, 3) := dk_182 0 109 (dk_at dksX3_wake_0 11 rfl rfl)
theorem dX3_wake_14 : decode cX3_wake 14 = .ok (.ireturn, 1) := dk_172 (dk_at dksX3_wake_0 14 rfl rfl)
abbrev cX3_hire : ByteArray := prog_26_method_37_code
def yX3_hire : MethodName := ⟨RX3, "hire", "(IIII)I"⟩
def dkwX3_hire_0 : List UInt8 := [42, 182, 0, 102, 42, 42, 27, 28, 29, 21, 4, 182, 0, 128, 182, 0, 109, 172]
abbrev dktX3_hire_0 : List UInt8 := dkwX3_hire_0 ++ []
theorem dksX3_hire_0 : cX3_hire.data.toList.drop 0 = dktX3_hire_0 := by decide +kernel
theorem dX3_hire_0 : decode cX3_hire 0 = .ok (.aload_n 0, 1) := dk_42 (dk_at dksX3_hire_0 0 rfl rfl)
theorem dX3_hire_1 : decode cX3_hire 1 = .ok (.invokevirtual 102, 3) := dk_182 0 102 (dk_at dksX3_hire_0 1 rfl rfl)
theorem dX3_hire_4 : decode cX3_hire 4 = .ok (.aload_n 0, 1) := dk_42 (dk_at dksX3_hire_0 4 rfl rfl)
theorem dX3_hire_5 : decode cX3_hire 5 = .ok (.aload_n 0, 1) := dk_42 (dk_at dksX3_hire_0 5 rfl rfl)
theorem dX3_hire_6 : decode cX3_hire 6 = .ok (.iload_n 1, 1) := dk_27 (dk_at dksX3_hire_0 6 rfl rfl)
theorem dX3_hire_7 : decode cX3_hire 7 = .ok (.iload_n 2, 1) := dk_28 (dk_at dksX3_hire_0 7 rfl rfl)
theorem dX3_hire_8 : decode cX3_hire 8 = .ok (.iload_n 3, 1) := dk_29 (dk_at dksX3_hire_0 8 rfl rfl)
theorem dX3_hire_9 : decode cX3_hire 9 = .ok (.iload 4, 2) := dk_21 4 (dk_at dksX3_hire_0 9 rfl rfl)
theorem dX3_hire_11 : decode cX3_hire 11 = .ok (.invokevirtual 128, 3) := dk_182 0 128 (dk_at dksX3_hire_0 11 rfl rfl)
theorem dX3_hire_14 : decode cX3_hire 14 = .ok (.invokevirtual 109, 3) := dk_182 0 109 (dk_at dksX3_hire_0 14 rfl rfl)
theorem dX3_hire_17 : decode cX3_hire 17 = .ok (.ireturn, 1) := dk_172 (dk_at dksX3_hire_0 17 rfl rfl)
abbrev cX3_hires : ByteArray := prog_26_method_36_code
def yX3_hires : MethodName := ⟨RX3, "hires", "(IIII)I"⟩
def dkwX3_hires_8 : List UInt8 := [180, 0, 9, 16, 10, 46, 4, 100, 172]
abbrev dktX3_hires_8 : List UInt8 := dkwX3_hires_8 ++ []
def dkwX3_hires_7 : List UInt8 := [180, 0, 9, 16, 11, 92, 46, 4, 96, 79, 42, 180, 0, 9, 16, 10, 92, 46, 4, 96, 79, 42]
abbrev dktX3_hires_7 : List UInt8 := dkwX3_hires_7 ++ dktX3_hires_8
def dkwX3_hires_6 : List UInt8 := [42, 180, 0, 9, 21, 6, 6, 96, 29, 79, 42, 180, 0, 9, 21, 6, 7, 96, 21, 4, 79, 42]
abbrev dktX3_hires_6 : List UInt8 := dkwX3_hires_6 ++ dktX3_hires_7
def dkwX3_hires_5 : List UInt8 := [16, 10, 46, 79, 42, 180, 0, 9, 21, 6, 4, 96, 27, 79, 42, 180, 0, 9, 21, 6, 5, 96, 28, 79]
abbrev dktX3_hires_5 : List UInt8 := dkwX3_hires_5 ++ dktX3_hires_6
def dkwX3_hires_4 : List UInt8 := [42, 180, 0, 9, 16, 11, 46, 104, 96, 54, 6, 42, 180, 0, 9, 21, 6, 3, 96, 42, 180, 0, 9]
abbrev dktX3_hires_4 : List UInt8 := dkwX3_hires_4 ++ dktX3_hires_5
def dkwX3_hires_3 : List UInt8 := [27, 28, 182, 0, 124, 154, 0, 7, 4, 167, 0, 4, 3, 182, 0, 47, 154, 0, 5, 3, 172, 16, 51, 8]
abbrev dktX3_hires_3 : List UInt8 := dkwX3_hires_3 ++ dktX3_hires_4
def dkwX3_hires_2 : List UInt8 := [167, 0, 4, 3, 21, 5, 42, 180, 0, 9, 16, 11, 46, 16, 8, 162, 0, 7, 4, 167, 0, 4, 3, 42]
abbrev dktX3_hires_2 : List UInt8 := dkwX3_hires_2 ++ dktX3_hires_3
def dkwX3_hires_1 : List UInt8 := [167, 0, 4, 3, 54, 5, 42, 42, 27, 182, 0, 77, 153, 0, 14, 28, 184, 0, 121, 153, 0, 7, 4]
abbrev dktX3_hires_1 : List UInt8 := dkwX3_hires_1 ++ dktX3_hires_2
def dkwX3_hires_0 : List UInt8 := [29, 4, 16, 50, 184, 0, 69, 153, 0, 18, 21, 4, 4, 16, 20, 184, 0, 69, 153, 0, 7, 4]
abbrev dktX3_hires_0 : List UInt8 := dkwX3_hires_0 ++ dktX3_hires_1
theorem dksX3_hires_0 : cX3_hires.data.toList.drop 0 = dktX3_hires_0 := by decide +kernel
theorem dksX3_hires_1 : cX3_hires.data.toList.drop 22 = dktX3_hires_1 := dk_seg dksX3_hires_0 22 rfl rfl
theorem dksX3_hires_2 : cX3_hires.data.toList.drop 45 = dktX3_hires_2 := dk_seg dksX3_hires_1 23 rfl rfl
theorem dksX3_hires_3 : cX3_hires.data.toList.drop 69 = dktX3_hires_3 := dk_seg dksX3_hires_2 24 rfl rfl
theorem dksX3_hires_4 : cX3_hires.data.toList.drop 93 = dktX3_hires_4 := dk_seg dksX3_hires_3 24 rfl rfl
theorem dksX3_hires_5 : cX3_hires.data.toList.drop 116 = dktX3_hires_5 := dk_seg dksX3_hires_4 23 rfl rfl
theorem dksX3_hires_6 : cX3_hires.data.toList.drop 140 = dktX3_hires_6 := dk_seg dksX3_hires_5 24 rfl rfl
theorem dksX3_hires_7 : cX3_hires.data.toList.drop 162 = dktX3_hires_7 := dk_seg dksX3_hires_6 22 rfl rfl
theorem dksX3_hires_8 : cX3_hires.data.toList.drop 184 = dktX3_hires_8 := dk_seg dksX3_hires_7 22 rfl rfl
theorem dX3_hires_0 : decode cX3_hires 0 = .ok (.iload_n 3, 1) := dk_29 (dk_at dksX3_hires_0 0 rfl rfl)
theorem dX3_hires_1 : decode cX3_hires 1 = .ok (.iconst 1, 1) := dk_4 (dk_at dksX3_hires_0 1 rfl rfl)
theorem dX3_hires_2 : decode cX3_hires 2 = .ok (.bipush 50, 2) := dk_16 50 (dk_at dksX3_hires_0 2 rfl rfl)
theorem dX3_hires_4 : decode cX3_hires 4 = .ok (.invokestatic 69, 3) := dk_184 0 69 (dk_at dksX3_hires_0 4 rfl rfl)
theorem dX3_hires_7 : decode cX3_hires 7 = .ok (.ifCond .eq 18, 3) := dk_153 0 18 (dk_at dksX3_hires_0 7 rfl rfl)
theorem dX3_hires_10 : decode cX3_hires 10 = .ok (.iload 4, 2) := dk_21 4 (dk_at dksX3_hires_0 10 rfl rfl)
theorem dX3_hires_12 : decode cX3_hires 12 = .ok (.iconst 1, 1) := dk_4 (dk_at dksX3_hires_0 12 rfl rfl)
theorem dX3_hires_13 : decode cX3_hires 13 = .ok (.bipush 20, 2) := dk_16 20 (dk_at dksX3_hires_0 13 rfl rfl)
theorem dX3_hires_15 : decode cX3_hires 15 = .ok (.invokestatic 69, 3) := dk_184 0 69 (dk_at dksX3_hires_0 15 rfl rfl)
theorem dX3_hires_18 : decode cX3_hires 18 = .ok (.ifCond .eq 7, 3) := dk_153 0 7 (dk_at dksX3_hires_0 18 rfl rfl)
theorem dX3_hires_21 : decode cX3_hires 21 = .ok (.iconst 1, 1) := dk_4 (dk_at dksX3_hires_0 21 rfl rfl)
theorem dX3_hires_22 : decode cX3_hires 22 = .ok (.goto 4, 3) := dk_167 0 4 (dk_at dksX3_hires_1 0 rfl rfl)
theorem dX3_hires_25 : decode cX3_hires 25 = .ok (.iconst 0, 1) := dk_3 (dk_at dksX3_hires_1 3 rfl rfl)
theorem dX3_hires_26 : decode cX3_hires 26 = .ok (.istore 5, 2) := dk_54 5 (dk_at dksX3_hires_1 4 rfl rfl)
theorem dX3_hires_28 : decode cX3_hires 28 = .ok (.aload_n 0, 1) := dk_42 (dk_at dksX3_hires_1 6 rfl rfl)
theorem dX3_hires_29 : decode cX3_hires 29 = .ok (.aload_n 0, 1) := dk_42 (dk_at dksX3_hires_1 7 rfl rfl)
theorem dX3_hires_30 : decode cX3_hires 30 = .ok (.iload_n 1, 1) := dk_27 (dk_at dksX3_hires_1 8 rfl rfl)
theorem dX3_hires_31 : decode cX3_hires 31 = .ok (.invokevirtual 77, 3) := dk_182 0 77 (dk_at dksX3_hires_1 9 rfl rfl)
theorem dX3_hires_34 : decode cX3_hires 34 = .ok (.ifCond .eq 14, 3) := dk_153 0 14 (dk_at dksX3_hires_1 12 rfl rfl)
theorem dX3_hires_37 : decode cX3_hires 37 = .ok (.iload_n 2, 1) := dk_28 (dk_at dksX3_hires_1 15 rfl rfl)
theorem dX3_hires_38 : decode cX3_hires 38 = .ok (.invokestatic 121, 3) := dk_184 0 121 (dk_at dksX3_hires_1 16 rfl rfl)
theorem dX3_hires_41 : decode cX3_hires 41 = .ok (.ifCond .eq 7, 3) := dk_153 0 7 (dk_at dksX3_hires_1 19 rfl rfl)
theorem dX3_hires_44 : decode cX3_hires 44 = .ok (.iconst 1, 1) := dk_4 (dk_at dksX3_hires_1 22 rfl rfl)
theorem dX3_hires_45 : decode cX3_hires 45 = .ok (.goto 4, 3) := dk_167 0 4 (dk_at dksX3_hires_2 0 rfl rfl)
theorem dX3_hires_48 : decode cX3_hires 48 = .ok (.iconst 0, 1) := dk_3 (dk_at dksX3_hires_2 3 rfl rfl)
theorem dX3_hires_49 : decode cX3_hires 49 = .ok (.iload 5, 2) := dk_21 5 (dk_at dksX3_hires_2 4 rfl rfl)
theorem dX3_hires_51 : decode cX3_hires 51 = .ok (.aload_n 0, 1) := dk_42 (dk_at dksX3_hires_2 6 rfl rfl)
theorem dX3_hires_52 : decode cX3_hires 52 = .ok (.getfield 9, 3) := dk_180 0 9 (dk_at dksX3_hires_2 7 rfl rfl)
theorem dX3_hires_55 : decode cX3_hires 55 = .ok (.bipush 11, 2) := dk_16 11 (dk_at dksX3_hires_2 10 rfl rfl)
theorem dX3_hires_57 : decode cX3_hires 57 = .ok (.iaload, 1) := dk_46 (dk_at dksX3_hires_2 12 rfl rfl)
theorem dX3_hires_58 : decode cX3_hires 58 = .ok (.bipush 8, 2) := dk_16 8 (dk_at dksX3_hires_2 13 rfl rfl)
theorem dX3_hires_60 : decode cX3_hires 60 = .ok (.if_icmp .ge 7, 3) := dk_162 0 7 (dk_at dksX3_hires_2 15 rfl rfl)
theorem dX3_hires_63 : decode cX3_hires 63 = .ok (.iconst 1, 1) := dk_4 (dk_at dksX3_hires_2 18 rfl rfl)
theorem dX3_hires_64 : decode cX3_hires 64 = .ok (.goto 4, 3) := dk_167 0 4 (dk_at dksX3_hires_2 19 rfl rfl)
theorem dX3_hires_67 : decode cX3_hires 67 = .ok (.iconst 0, 1) := dk_3 (dk_at dksX3_hires_2 22 rfl rfl)
theorem dX3_hires_68 : decode cX3_hires 68 = .ok (.aload_n 0, 1) := dk_42 (dk_at dksX3_hires_2 23 rfl rfl)
theorem dX3_hires_69 : decode cX3_hires 69 = .ok (.iload_n 1, 1) := dk_27 (dk_at dksX3_hires_3 0 rfl rfl)
theorem dX3_hires_70 : decode cX3_hires 70 = .ok (.iload_n 2, 1) := dk_28 (dk_at dksX3_hires_3 1 rfl rfl)
theorem dX3_hires_71 : decode cX3_hires 71 = .ok (.invokevirtual 124, 3) := dk_182 0 124 (dk_at dksX3_hires_3 2 rfl rfl)
theorem dX3_hires_74 : decode cX3_hires 74 = .ok (.ifCond .ne 7, 3) := dk_154 0 7 (dk_at dksX3_hires_3 5 rfl rfl)
theorem dX3_hires_77 : decode cX3_hires 77 = .ok (.iconst 1, 1) := dk_4 (dk_at dksX3_hires_3 8 rfl rfl)
theorem dX3_hires_78 : decode cX3_hires 78 = .ok (.goto 4, 3) := dk_167 0 4 (dk_at dksX3_hires_3 9 rfl rfl)
theorem dX3_hires_81 : decode cX3_hires 81 = .ok (.iconst 0, 1) := dk_3 (dk_at dksX3_hires_3 12 rfl rfl)
theorem dX3_hires_82 : decode cX3_hires 82 = .ok (.invokevirtual 47, 3) := dk_182 0 47 (dk_at dksX3_hires_3 13 rfl rfl)
theorem dX3_hires_85 : decode cX3_hires 85 = .ok (.ifCond .ne 5, 3) := dk_154 0 5 (dk_at dksX3_hires_3 16 rfl rfl)
theorem dX3_hires_88 : decode cX3_hires 88 = .ok (.iconst 0, 1) := dk_3 (dk_at dksX3_hires_3 19 rfl rfl)
theorem dX3_hires_89 : decode cX3_hires 89 = .ok (.ireturn, 1) := dk_172 (dk_at dksX3_hires_3 20 rfl rfl)
theorem dX3_hires_90 : decode cX3_hires 90 = .ok (.bipush 51, 2) := dk_16 51 (dk_at dksX3_hires_3 21 rfl rfl)
theorem dX3_hires_92 : decode cX3_hires 92 = .ok (.iconst 5, 1) := dk_8 (dk_at dksX3_hires_3 23 rfl rfl)
theorem dX3_hires_93 : decode cX3_hires 93 = .ok (.aload_n 0, 1) := dk_42 (dk_at dksX3_hires_4 0 rfl rfl)
theorem dX3_hires_94 : decode cX3_hires 94 = .ok (.getfield 9, 3) := dk_180 0 9 (dk_at dksX3_hires_4 1 rfl rfl)
theorem dX3_hires_97 : decode cX3_hires 97 = .ok (.bipush 11, 2) := dk_16 11 (dk_at dksX3_hires_4 4 rfl rfl)
theorem dX3_hires_99 : decode cX3_hires 99 = .ok (.iaload, 1) := dk_46 (dk_at dksX3_hires_4 6 rfl rfl)
theorem dX3_hires_100 : decode cX3_hires 100 = .ok (.imul, 1) := dk_104 (dk_at dksX3_hires_4 7 rfl rfl)
theorem dX3_hires_101 : decode cX3_hires 101 = .ok (.iadd, 1) := dk_96 (dk_at dksX3_hires_4 8 rfl rfl)
theorem dX3_hires_102 : decode cX3_hires 102 = .ok (.istore 6, 2) := dk_54 6 (dk_at dksX3_hires_4 9 rfl rfl)
theorem dX3_hires_104 : decode cX3_hires 104 = .ok (.aload_n 0, 1) := dk_42 (dk_at dksX3_hires_4 11 rfl rfl)
theorem dX3_hires_105 : decode cX3_hires 105 = .ok (.getfield 9, 3) := dk_180 0 9 (dk_at dksX3_hires_4 12 rfl rfl)
theorem dX3_hires_108 : decode cX3_hires 108 = .ok (.iload 6, 2) := dk_21 6 (dk_at dksX3_hires_4 15 rfl rfl)
theorem dX3_hires_110 : decode cX3_hires 110 = .ok (.iconst 0, 1) := dk_3 (dk_at dksX3_hires_4 17 rfl rfl)
theorem dX3_hires_111 : decode cX3_hires 111 = .ok (.iadd, 1) := dk_96 (dk_at dksX3_hires_4 18 rfl rfl)
theorem dX3_hires_112 : decode cX3_hires 112 = .ok (.aload_n 0, 1) := dk_42 (dk_at dksX3_hires_4 19 rfl rfl)
theorem dX3_hires_113 : decode cX3_hires 113 = .ok (.getfield 9, 3) := dk_180 0 9 (dk_at dksX3_hires_4 20 rfl rfl)
theorem dX3_hires_116 : decode cX3_hires 116 = .ok (.bipush 10, 2) := dk_16 10 (dk_at dksX3_hires_5 0 rfl rfl)
theorem dX3_hires_118 : decode cX3_hires 118 = .ok (.iaload, 1) := dk_46 (dk_at dksX3_hires_5 2 rfl rfl)
theorem dX3_hires_119 : decode cX3_hires 119 = .ok (.iastore, 1) := dk_79 (dk_at dksX3_hires_5 3 rfl rfl)
theorem dX3_hires_120 : decode cX3_hires 120 = .ok (.aload_n 0, 1) := dk_42 (dk_at dksX3_hires_5 4 rfl rfl)
theorem dX3_hires_121 : decode cX3_hires 121 = .ok (.getfield 9, 3) := dk_180 0 9 (dk_at dksX3_hires_5 5 rfl rfl)
theorem dX3_hires_124 : decode cX3_hires 124 = .ok (.iload 6, 2) := dk_21 6 (dk_at dksX3_hires_5 8 rfl rfl)
theorem dX3_hires_126 : decode cX3_hires 126 = .ok (.iconst 1, 1) := dk_4 (dk_at dksX3_hires_5 10 rfl rfl)
theorem dX3_hires_127 : decode cX3_hires 127 = .ok (.iadd, 1) := dk_96 (dk_at dksX3_hires_5 11 rfl rfl)
theorem dX3_hires_128 : decode cX3_hires 128 = .ok (.iload_n 1, 1) := dk_27 (dk_at dksX3_hires_5 12 rfl rfl)
theorem dX3_hires_129 : decode cX3_hires 129 = .ok (.iastore, 1) := dk_79 (dk_at dksX3_hires_5 13 rfl rfl)
theorem dX3_hires_130 : decode cX3_hires 130 = .ok (.aload_n 0, 1) := dk_42 (dk_at dksX3_hires_5 14 rfl rfl)
theorem dX3_hires_131 : decode cX3_hires 131 = .ok (.getfield 9, 3) := dk_180 0 9 (dk_at dksX3_hires_5 15 rfl rfl)
theorem dX3_hires_134 : decode cX3_hires 134 = .ok (.iload 6, 2) := dk_21 6 (dk_at dksX3_hires_5 18 rfl rfl)
theorem dX3_hires_136 : decode cX3_hires 136 = .ok (.iconst 2, 1) := dk_5 (dk_at dksX3_hires_5 20 rfl rfl)
theorem dX3_hires_137 : decode cX3_hires 137 = .ok (.iadd, 1) := dk_96 (dk_at dksX3_hires_5 21 rfl rfl)
theorem dX3_hires_138 : decode cX3_hires 138 = .ok (.iload_n 2, 1) := dk_28 (dk_at dksX3_hires_5 22 rfl rfl)
theorem dX3_hires_139 : decode cX3_hires 139 = .ok (.iastore, 1) := dk_79 (dk_at dksX3_hires_5 23 rfl rfl)
theorem dX3_hires_140 : decode cX3_hires 140 = .ok (.aload_n 0, 1) := dk_42 (dk_at dksX3_hires_6 0 rfl rfl)
theorem dX3_hires_141 : decode cX3_hires 141 = .ok (.getfield 9, 3) := dk_180 0 9 (dk_at dksX3_hires_6 1 rfl rfl)
theorem dX3_hires_144 : decode cX3_hires 144 = .ok (.iload 6, 2) := dk_21 6 (dk_at dksX3_hires_6 4 rfl rfl)
theorem dX3_hires_146 : decode cX3_hires 146 = .ok (.iconst 3, 1) := dk_6 (dk_at dksX3_hires_6 6 rfl rfl)
theorem dX3_hires_147 : decode cX3_hires 147 = .ok (.iadd, 1) := dk_96 (dk_at dksX3_hires_6 7 rfl rfl)
theorem dX3_hires_148 : decode cX3_hires 148 = .ok (.iload_n 3, 1) := dk_29 (dk_at dksX3_hires_6 8 rfl rfl)
theorem dX3_hires_149 : decode cX3_hires 149 = .ok (.iastore, 1) := dk_79 (dk_at dksX3_hires_6 9 rfl rfl)
theorem dX3_hires_150 : decode cX3_hires 150 = .ok (.aload_n 0, 1) := dk_42 (dk_at dksX3_hires_6 10 rfl rfl)
theorem dX3_hires_151 : decode cX3_hires 151 = .ok (.getfield 9, 3) := dk_180 0 9 (dk_at dksX3_hires_6 11 rfl rfl)
theorem dX3_hires_154 : decode cX3_hires 154 = .ok (.iload 6, 2) := dk_21 6 (dk_at dksX3_hires_6 14 rfl rfl)
theorem dX3_hires_156 : decode cX3_hires 156 = .ok (.iconst 4, 1) := dk_7 (dk_at dksX3_hires_6 16 rfl rfl)
theorem dX3_hires_157 : decode cX3_hires 157 = .ok (.iadd, 1) := dk_96 (dk_at dksX3_hires_6 17 rfl rfl)
theorem dX3_hires_158 : decode cX3_hires 158 = .ok (.iload 4, 2) := dk_21 4 (dk_at dksX3_hires_6 18 rfl rfl)
theorem dX3_hires_160 : decode cX3_hires 160 = .ok (.iastore, 1) := dk_79 (dk_at dksX3_hires_6 20 rfl rfl)
theorem dX3_hires_161 : decode cX3_hires 161 = .ok (.aload_n 0, 1) := dk_42 (dk_at dksX3_hires_6 21 rfl rfl)
theorem dX3_hires_162 : decode cX3_hires 162 = .ok (.getfield 9, 3) := dk_180 0 9 (dk_at dksX3_hires_7 0 rfl rfl)
theorem dX3_hires_165 : decode cX3_hires 165 = .ok (.bipush 11, 2) := dk_16 11 (dk_at dksX3_hires_7 3 rfl rfl)
theorem dX3_hires_167 : decode cX3_hires 167 = .ok (.dup2, 1) := dk_92 (dk_at dksX3_hires_7 5 rfl rfl)
theorem dX3_hires_168 : decode cX3_hires 168 = .ok (.iaload, 1) := dk_46 (dk_at dksX3_hires_7 6 rfl rfl)
theorem dX3_hires_169 : decode cX3_hires 169 = .ok (.iconst 1, 1) := dk_4 (dk_at dksX3_hires_7 7 rfl rfl)
theorem dX3_hires_170 : decode cX3_hires 170 = .ok (.iadd, 1) := dk_96 (dk_at dksX3_hires_7 8 rfl rfl)
theorem dX3_hires_171 : decode cX3_hires 171 = .ok (.iastore, 1) := dk_79 (dk_at dksX3_hires_7 9 rfl rfl)
theorem dX3_hires_172 : decode cX3_hires 172 = .ok (.aload_n 0, 1) := dk_42 (dk_at dksX3_hires_7 10 rfl rfl)
theorem dX3_hires_173 : decode cX3_hires 173 = .ok (.getfield 9, 3) := dk_180 0 9 (dk_at dksX3_hires_7 11 rfl rfl)
theorem dX3_hires_176 : decode cX3_hires 176 = .ok (.bipush 10, 2) := dk_16 10 (dk_at dksX3_hires_7 14 rfl rfl)
theorem dX3_hires_178 : decode cX3_hires 178 = .ok (.dup2, 1) := dk_92 (dk_at dksX3_hires_7 16 rfl rfl)
theorem dX3_hires_179 : decode cX3_hires 179 = .ok (.iaload, 1) := dk_46 (dk_at dksX3_hires_7 17 rfl rfl)
theorem dX3_hires_180 : decode cX3_hires 180 = .ok (.iconst 1, 1) := dk_4 (dk_at dksX3_hires_7 18 rfl rfl)
theorem dX3_hires_181 : decode cX3_hires 181 = .ok (.iadd, 1) := dk_96 (dk_at dksX3_hires_7 19 rfl rfl)
theorem dX3_hires_182 : decode cX3_hires 182 = .ok (.iastore, 1) := dk_79 (dk_at dksX3_hires_7 20 rfl rfl)
theorem dX3_hires_183 : decode cX3_hires 183 = .ok (.aload_n 0, 1) := dk_42 (dk_at dksX3_hires_7 21 rfl rfl)
theorem dX3_hires_184 : decode cX3_hires 184 = .ok (.getfield 9, 3) := dk_180 0 9 (dk_at dksX3_hires_8 0 rfl rfl)
theorem dX3_hires_187 : decode cX3_hires 187 = .ok (.bipush 10, 2) := dk_16 10 (dk_at dksX3_hires_8 3 rfl rfl)
theorem dX3_hires_189 : decode cX3_hires 189 = .ok (.iaload, 1) := dk_46 (dk_at dksX3_hires_8 5 rfl rfl)
theorem dX3_hires_190 : decode cX3_hires 190 = .ok (.iconst 1, 1) := dk_4 (dk_at dksX3_hires_8 6 rfl rfl)
theorem dX3_hires_191 : decode cX3_hires 191 = .ok (.isub, 1) := dk_100 (dk_at dksX3_hires_8 7 rfl rfl)
theorem dX3_hires_192 : decode cX3_hires 192 = .ok (.ireturn, 1) := dk_172 (dk_at dksX3_hires_8 8 rfl rfl)
abbrev cX3_isRoom : ByteArray := prog_26_method_13_code
def yX3_isRoom : MethodName := ⟨RX3, "isRoom", "(I)Z"⟩
def dkwX3_isRoom_0 : List UInt8 := [26, 3, 8, 184, 0, 69, 172]
abbrev dktX3_isRoom_0 : List UInt8 := dkwX3_isRoom_0 ++ []
theorem dksX3_isRoom_0 : cX3_isRoom.data.toList.drop 0 = dktX3_isRoom_0 := by decide +kernel
theorem dX3_isRoom_0 : decode cX3_isRoom 0 = .ok (.iload_n 0, 1) := dk_26 (dk_at dksX3_isRoom_0 0 rfl rfl)
theorem dX3_isRoom_1 : decode cX3_isRoom 1 = .ok (.iconst 0, 1) := dk_3 (dk_at dksX3_isRoom_0 1 rfl rfl)
theorem dX3_isRoom_2 : decode cX3_isRoom 2 = .ok (.iconst 5, 1) := dk_8 (dk_at dksX3_isRoom_0 2 rfl rfl)
theorem dX3_isRoom_3 : decode cX3_isRoom 3 = .ok (.invokestatic 69, 3) := dk_184 0 69 (dk_at dksX3_isRoom_0 3 rfl rfl)
theorem dX3_isRoom_6 : decode cX3_isRoom 6 = .ok (.ireturn, 1) := dk_172 (dk_at dksX3_isRoom_0 6 rfl rfl)
abbrev cX3_hasFor : ByteArray := prog_26_method_35_code
def yX3_hasFor : MethodName := ⟨RX3, "hasFor", "(II)Z"⟩
def dkwX3_hasFor_2 : List UInt8 := [62, 132, 4, 1, 167, 255, 209, 29, 172]
abbrev dktX3_hasFor_2 : List UInt8 := dkwX3_hasFor_2 ++ []
def dkwX3_hasFor_1 : List UInt8 := [4, 182, 0, 84, 27, 160, 0, 18, 42, 21, 4, 5, 182, 0, 84, 28, 160, 0, 7, 4, 167, 0, 4, 3]
abbrev dktX3_hasFor_1 : List UInt8 := dkwX3_hasFor_1 ++ dktX3_hasFor_2
def dkwX3_hasFor_0 : List UInt8 := [3, 62, 3, 54, 4, 21, 4, 42, 180, 0, 9, 16, 11, 46, 162, 0, 41, 29, 154, 0, 25, 42, 21, 4]
abbrev dktX3_hasFor_0 : List UInt8 := dkwX3_hasFor_0 ++ dktX3_hasFor_1
theorem dksX3_hasFor_0 : cX3_hasFor.data.toList.drop 0 = dktX3_hasFor_0 := by decide +kernel
theorem dksX3_hasFor_1 : cX3_hasFor.data.toList.drop 24 = dktX3_hasFor_1 := dk_seg dksX3_hasFor_0 24 rfl rfl
theorem dksX3_hasFor_2 : cX3_hasFor.data.toList.drop 48 = dktX3_hasFor_2 := dk_seg dksX3_hasFor_1 24 rfl rfl
theorem dX3_hasFor_0 : decode cX3_hasFor 0 = .ok (.iconst 0, 1) := dk_3 (dk_at dksX3_hasFor_0 0 rfl rfl)
theorem dX3_hasFor_1 : decode cX3_hasFor 1 = .ok (.istore_n 3, 1) := dk_62 (dk_at dksX3_hasFor_0 1 rfl rfl)
theorem dX3_hasFor_2 : decode cX3_hasFor 2 = .ok (.iconst 0, 1) := dk_3 (dk_at dksX3_hasFor_0 2 rfl rfl)
theorem dX3_hasFor_3 : decode cX3_hasFor 3 = .ok (.istore 4, 2) := dk_54 4 (dk_at dksX3_hasFor_0 3 rfl rfl)
theorem dX3_hasFor_5 : decode cX3_hasFor 5 = .ok (.iload 4, 2) := dk_21 4 (dk_at dksX3_hasFor_0 5 rfl rfl)
theorem dX3_hasFor_7 : decode cX3_hasFor 7 = .ok (.aload_n 0, 1) := dk_42 (dk_at dksX3_hasFor_0 7 rfl rfl)
theorem dX3_hasFor_8 : decode cX3_hasFor 8 = .ok (.getfield 9, 3) := dk_180 0 9 (dk_at dksX3_hasFor_0 8 rfl rfl)
theorem dX3_hasFor_11 : decode cX3_hasFor 11 = .ok (.bipush 11, 2) := dk_16 11 (dk_at dksX3_hasFor_0 11 rfl rfl)
theorem dX3_hasFor_13 : decode cX3_hasFor 13 = .ok (.iaload, 1) := dk_46 (dk_at dksX3_hasFor_0 13 rfl rfl)
theorem dX3_hasFor_14 : decode cX3_hasFor 14 = .ok (.if_icmp .ge 41, 3) := dk_162 0 41 (dk_at dksX3_hasFor_0 14 rfl rfl)
theorem dX3_hasFor_17 : decode cX3_hasFor 17 = .ok (.iload_n 3, 1) := dk_29 (dk_at dksX3_hasFor_0 17 rfl rfl)
theorem dX3_hasFor_18 : decode cX3_hasFor 18 = .ok (.ifCond .ne 25, 3) := dk_154 0 25 (dk_at dksX3_hasFor_0 18 rfl rfl)
theorem dX3_hasFor_21 : decode cX3_hasFor 21 = .ok (.aload_n 0, 1) := dk_42 (dk_at dksX3_hasFor_0 21 rfl rfl)
theorem dX3_hasFor_22 : decode cX3_hasFor 22 = .ok (.iload 4, 2) := dk_21 4 (dk_at dksX3_hasFor_0 22 rfl rfl)
theorem dX3_hasFor_24 : decode cX3_hasFor 24 = .ok (.iconst 1, 1) := dk_4 (dk_at dksX3_hasFor_1 0 rfl rfl)
theorem dX3_hasFor_25 : decode cX3_hasFor 25 = .ok (.invokevirtual 84, 3) := dk_182 0 84 (dk_at dksX3_hasFor_1 1 rfl rfl)
theorem dX3_hasFor_28 : decode cX3_hasFor 28 = .ok (.iload_n 1, 1) := dk_27 (dk_at dksX3_hasFor_1 4 rfl rfl)
theorem dX3_hasFor_29 : decode cX3_hasFor 29 = .ok (.if_icmp .ne 18, 3) := dk_160 0 18 (dk_at dksX3_hasFor_1 5 rfl rfl)
theorem dX3_hasFor_32 : decode cX3_hasFor 32 = .ok (.aload_n 0, 1) := dk_42 (dk_at dksX3_hasFor_1 8 rfl rfl)
theorem dX3_hasFor_33 : decode cX3_hasFor 33 = .ok (.iload 4, 2) := dk_21 4 (dk_at dksX3_hasFor_1 9 rfl rfl)
theorem dX3_hasFor_35 : decode cX3_hasFor 35 = .ok (.iconst 2, 1) := dk_5 (dk_at dksX3_hasFor_1 11 rfl rfl)
theorem dX3_hasFor_36 : decode cX3_hasFor 36 = .ok (.invokevirtual 84, 3) := dk_182 0 84 (dk_at dksX3_hasFor_1 12 rfl rfl)
theorem dX3_hasFor_39 : decode cX3_hasFor 39 = .ok (.iload_n 2, 1) := dk_28 (dk_at dksX3_hasFor_1 15 rfl rfl)
theorem dX3_hasFor_40 : decode cX3_hasFor 40 = .ok (.if_icmp .ne 7, 3) := dk_160 0 7 (dk_at dksX3_hasFor_1 16 rfl rfl)
theorem dX3_hasFor_43 : decode cX3_hasFor 43 = .ok (.iconst 1, 1) := dk_4 (dk_at dksX3_hasFor_1 19 rfl rfl)
theorem dX3_hasFor_44 : decode cX3_hasFor 44 = .ok (.goto 4, 3) := dk_167 0 4 (dk_at dksX3_hasFor_1 20 rfl rfl)
theorem dX3_hasFor_47 : decode cX3_hasFor 47 = .ok (.iconst 0, 1) := dk_3 (dk_at dksX3_hasFor_1 23 rfl rfl)
theorem dX3_hasFor_48 : decode cX3_hasFor 48 = .ok (.istore_n 3, 1) := dk_62 (dk_at dksX3_hasFor_2 0 rfl rfl)
theorem dX3_hasFor_49 : decode cX3_hasFor 49 = .ok (.iinc 4 1, 3) := dk_132 4 1 (dk_at dksX3_hasFor_2 1 rfl rfl)
theorem dX3_hasFor_52 : decode cX3_hasFor 52 = .ok (.goto (-47), 3) := dk_167 255 209 (dk_at dksX3_hasFor_2 4 rfl rfl)
theorem dX3_hasFor_55 : decode cX3_hasFor 55 = .ok (.iload_n 3, 1) := dk_29 (dk_at dksX3_hasFor_2 7 rfl rfl)
theorem dX3_hasFor_56 : decode cX3_hasFor 56 = .ok (.ireturn, 1) := dk_172 (dk_at dksX3_hasFor_2 8 rfl rfl)
abbrev cX3_ofContract : ByteArray := prog_26_method_20_code
def yX3_ofContract : MethodName := ⟨RX3, "ofContract", "(II)I"⟩
def dkwX3_ofContract_0 : List UInt8 := [42, 180, 0, 9, 16, 51, 8, 27, 104, 96, 28, 96, 46, 172]
abbrev dktX3_ofContract_0 : List UInt8 := dkwX3_ofContract_0 ++ []
theorem dksX3_ofContract_0 : cX3_ofContract.data.toList.drop 0 = dktX3_ofContract_0 := by decide +kernel
theorem dX3_ofContract_0 : decode cX3_ofContract 0 = .ok (.aload_n 0, 1) := dk_42 (dk_at dksX3_ofContract_0 0 rfl rfl)
theorem dX3_ofContract_1 : decode cX3_ofContract 1 = .ok (.getfield 9, 3) := dk_180 0 9 (dk_at dksX3_ofContract_0 1 rfl rfl)
theorem dX3_ofContract_4 : decode cX3_ofContract 4 = .ok (.bipush 51, 2) := dk_16 51 (dk_at dksX3_ofContract_0 4 rfl rfl)
theorem dX3_ofContract_6 : decode cX3_ofContract 6 = .ok (.iconst 5, 1) := dk_8 (dk_at dksX3_ofContract_0 6 rfl rfl)
theorem dX3_ofContract_7 : decode cX3_ofContract 7 = .ok (.iload_n 1, 1) := dk_27 (dk_at dksX3_ofContract_0 7 rfl rfl)
theorem dX3_ofContract_8 : decode cX3_ofContract 8 = .ok (.imul, 1) := dk_104 (dk_at dksX3_ofContract_0 8 rfl rfl)
theorem dX3_ofContract_9 : decode cX3_ofContract 9 = .ok (.iadd, 1) := dk_96 (dk_at dksX3_ofContract_0 9 rfl rfl)
theorem dX3_ofContract_10 : decode cX3_ofContract 10 = .ok (.iload_n 2, 1) := dk_28 (dk_at dksX3_ofContract_0 10 rfl rfl)
theorem dX3_ofContract_11 : decode cX3_ofContract 11 = .ok (.iadd, 1) := dk_96 (dk_at dksX3_ofContract_0 11 rfl rfl)
theorem dX3_ofContract_12 : decode cX3_ofContract 12 = .ok (.iaload, 1) := dk_46 (dk_at dksX3_ofContract_0 12 rfl rfl)
theorem dX3_ofContract_13 : decode cX3_ofContract 13 = .ok (.ireturn, 1) := dk_172 (dk_at dksX3_ofContract_0 13 rfl rfl)
abbrev cX3_cancelContract : ByteArray := prog_26_method_39_code
def yX3_cancelContract : MethodName := ⟨RX3, "cancelContract", "(I)I"⟩
def dkwX3_cancelContract_0 : List UInt8 := [42, 182, 0, 102, 42, 42, 27, 182, 0, 142, 182, 0, 109, 172]
abbrev dktX3_cancelContract_0 : List UInt8 := dkwX3_cancelContract_0 ++ []
theorem dksX3_cancelContract_0 : cX3_cancelContract.data.toList.drop 0 = dktX3_cancelContract_0 := by decide +kernel
theorem dX3_cancelContract_0 : decode cX3_cancelContract 0 = .ok (.aload_n 0, 1) := dk_42 (dk_at dksX3_cancelContract_0 0 rfl rfl)
theorem dX3_cancelContract_1 : decode cX3_cancelContract 1 = .ok (.invokevirtual 102, 3) := dk_182 0 102 (dk_at dksX3_cancelContract_0 1 rfl rfl)
theorem dX3_cancelContract_4 : decode cX3_cancelContract 4 = .ok (.aload_n 0, 1) := dk_42 (dk_at dksX3_cancelContract_0 4 rfl rfl)
theorem dX3_cancelContract_5 : decode cX3_cancelContract 5 = .ok (.aload_n 0, 1) := dk_42 (dk_at dksX3_cancelContract_0 5 rfl rfl)
theorem dX3_cancelContract_6 : decode cX3_cancelContract 6 = .ok (.iload_n 1, 1) := dk_27 (dk_at dksX3_cancelContract_0 6 rfl rfl)
theorem dX3_cancelContract_7 : decode cX3_cancelContract 7 = .ok (.invokevirtual 142, 3) := dk_182 0 142 (dk_at dksX3_cancelContract_0 7 rfl rfl)
theorem dX3_cancelContract_10 : decode cX3_cancelContract 10 = .ok (.invokevirtual 109, 3) := dk_182 0 109 (dk_at dksX3_cancelContract_0 10 rfl rfl)
theorem dX3_cancelContract_13 : decode cX3_cancelContract 13 = .ok (.ireturn, 1) := dk_172 (dk_at dksX3_cancelContract_0 13 rfl rfl)
abbrev cX3_cancels : ByteArray := prog_26_method_38_code
def yX3_cancels : MethodName := ⟨RX3, "cancels", "(I)I"⟩
def dkwX3_cancels_3 : List UInt8 := [96, 79, 42, 28, 182, 0, 138, 29, 172]
abbrev dktX3_cancels_3 : List UInt8 := dkwX3_cancels_3 ++ []
def dkwX3_cancels_2 : List UInt8 := [4, 92, 46, 29, 100, 79, 42, 180, 0, 9, 42, 42, 28, 4, 182, 0, 84, 4, 182, 0, 80, 92, 46, 29]
abbrev dktX3_cancels_2 : List UInt8 := dkwX3_cancels_2 ++ dktX3_cancels_3
def dkwX3_cancels_1 : List UInt8 := [172, 42, 28, 6, 182, 0, 84, 16, 10, 108, 42, 180, 0, 9, 4, 46, 184, 0, 135, 62, 42, 180, 0, 9]
abbrev dktX3_cancels_1 : List UInt8 := dkwX3_cancels_1 ++ dktX3_cancels_2
def dkwX3_cancels_0 : List UInt8 := [42, 27, 182, 0, 132, 61, 42, 28, 2, 159, 0, 7, 4, 167, 0, 4, 3, 182, 0, 61, 154, 0, 5, 3]
abbrev dktX3_cancels_0 : List UInt8 := dkwX3_cancels_0 ++ dktX3_cancels_1
theorem dksX3_cancels_0 : cX3_cancels.data.toList.drop 0 = dktX3_cancels_0 := by decide +kernel
theorem dksX3_cancels_1 : cX3_cancels.data.toList.drop 24 = dktX3_cancels_1 := dk_seg dksX3_cancels_0 24 rfl rfl
theorem dksX3_cancels_2 : cX3_cancels.data.toList.drop 48 = dktX3_cancels_2 := dk_seg dksX3_cancels_1 24 rfl rfl
theorem dksX3_cancels_3 : cX3_cancels.data.toList.drop 72 = dktX3_cancels_3 := dk_seg dksX3_cancels_2 24 rfl rfl
theorem dX3_cancels_0 : decode cX3_cancels 0 = .ok (.aload_n 0, 1) := dk_42 (dk_at dksX3_cancels_0 0 rfl rfl)
theorem dX3_cancels_1 : decode cX3_cancels 1 = .ok (.iload_n 1, 1) := dk_27 (dk_at dksX3_cancels_0 1 rfl rfl)
theorem dX3_cancels_2 : decode cX3_cancels 2 = .ok (.invokevirtual 132, 3) := dk_182 0 132 (dk_at dksX3_cancels_0 2 rfl rfl)
theorem dX3_cancels_5 : decode cX3_cancels 5 = .ok (.istore_n 2, 1) := dk_61 (dk_at dksX3_cancels_0 5 rfl rfl)
theorem dX3_cancels_6 : decode cX3_cancels 6 = .ok (.aload_n 0, 1) := dk_42 (dk_at dksX3_cancels_0 6 rfl rfl)
theorem dX3_cancels_7 : decode cX3_cancels 7 = .ok (.iload_n 2, 1) := dk_28 (dk_at dksX3_cancels_0 7 rfl rfl)
theorem dX3_cancels_8 : decode cX3_cancels 8 = .ok (.iconst (-1), 1) := dk_2 (dk_at dksX3_cancels_0 8 rfl rfl)
theorem dX3_cancels_9 : decode cX3_cancels 9 = .ok (.if_icmp .eq 7, 3) := dk_159 0 7 (dk_at dksX3_cancels_0 9 rfl rfl)
theorem dX3_cancels_12 : decode cX3_cancels 12 = .ok (.iconst 1, 1) := dk_4 (dk_at dksX3_cancels_0 12 rfl rfl)
theorem dX3_cancels_13 : decode cX3_cancels 13 = .ok (.goto 4, 3) := dk_167 0 4 (dk_at dksX3_cancels_0 13 rfl rfl)
theorem dX3_cancels_16 : decode cX3_cancels 16 = .ok (.iconst 0, 1) := dk_3 (dk_at dksX3_cancels_0 16 rfl rfl)
theorem dX3_cancels_17 : decode cX3_cancels 17 = .ok (.invokevirtual 61, 3) := dk_182 0 61 (dk_at dksX3_cancels_0 17 rfl rfl)
theorem dX3_cancels_20 : decode cX3_cancels 20 = .ok (.ifCond .ne 5, 3) := dk_154 0 5 (dk_at dksX3_cancels_0 20 rfl rfl)
theorem dX3_cancels_23 : decode cX3_cancels 23 = .ok (.iconst 0, 1) := dk_3 (dk_at dksX3_cancels_0 23 rfl rfl)
theorem dX3_cancels_24 : decode cX3_cancels 24 = .ok (.ireturn, 1) := dk_172 (dk_at dksX3_cancels_1 0 rfl rfl)
theorem dX3_cancels_25 : decode cX3_cancels 25 = .ok (.aload_n 0, 1) := dk_42 (dk_at dksX3_cancels_1 1 rfl rfl)
theorem dX3_cancels_26 : decode cX3_cancels 26 = .ok (.iload_n 2, 1) := dk_28 (dk_at dksX3_cancels_1 2 rfl rfl)
theorem dX3_cancels_27 : decode cX3_cancels 27 = .ok (.iconst 3, 1) := dk_6 (dk_at dksX3_cancels_1 3 rfl rfl)
theorem dX3_cancels_28 : decode cX3_cancels 28 = .ok (.invokevirtual 84, 3) := dk_182 0 84 (dk_at dksX3_cancels_1 4 rfl rfl)
theorem dX3_cancels_31 : decode cX3_cancels 31 = .ok (.bipush 10, 2) := dk_16 10 (dk_at dksX3_cancels_1 7 rfl rfl)
theorem dX3_cancels_33 : decode cX3_cancels 33 = .ok (.idiv, 1) := dk_108 (dk_at dksX3_cancels_1 9 rfl rfl)
theorem dX3_cancels_34 : decode cX3_cancels 34 = .ok (.aload_n 0, 1) := dk_42 (dk_at dksX3_cancels_1 10 rfl rfl)
theorem dX3_cancels_35 : decode cX3_cancels 35 = .ok (.getfield 9, 3) := dk_180 0 9 (dk_at dksX3_cancels_1 11 rfl rfl)
theorem dX3_cancels_38 : decode cX3_cancels 38 = .ok (.iconst 1, 1) := dk_4 (dk_at dksX3_cancels_1 14 rfl rfl)
theorem dX3_cancels_39 : decode cX3_cancels 39 = .ok (.iaload, 1) := dk_46 (dk_at dksX3_cancels_1 15 rfl rfl)
theorem dX3_cancels_40 : decode cX3_cancels 40 = .ok (.invokestatic 135, 3) := dk_184 0 135 (dk_at dksX3_cancels_1 16 rfl rfl)
theorem dX3_cancels_43 : decode cX3_cancels 43 = .ok (.istore_n 3, 1) := dk_62 (dk_at dksX3_cancels_1 19 rfl rfl)
theorem dX3_cancels_44 : decode cX3_cancels 44 = .ok (.aload_n 0, 1) := dk_42 (dk_at dksX3_cancels_1 20 rfl rfl)
theorem dX3_cancels_45 : decode cX3_cancels 45 = .ok (.getfield 9, 3) := dk_180 0 9 (dk_at dksX3_cancels_1 21 rfl rfl)
theorem dX3_cancels_48 : decode cX3_cancels 48 = .ok (.iconst 1, 1) := dk_4 (dk_at dksX3_cancels_2 0 rfl rfl)
theorem dX3_cancels_49 : decode cX3_cancels 49 = .ok (.dup2, 1) := dk_92 (dk_at dksX3_cancels_2 1 rfl rfl)
theorem dX3_cancels_50 : decode cX3_cancels 50 = .ok (.iaload, 1) := dk_46 (dk_at dksX3_cancels_2 2 rfl rfl)
theorem dX3_cancels_51 : decode cX3_cancels 51 = .ok (.iload_n 3, 1) := dk_29 (dk_at dksX3_cancels_2 3 rfl rfl)
theorem dX3_cancels_52 : decode cX3_cancels 52 = .ok (.isub, 1) := dk_100 (dk_at dksX3_cancels_2 4 rfl rfl)
theorem dX3_cancels_53 : decode cX3_cancels 53 = .ok (.iastore, 1) := dk_79 (dk_at dksX3_cancels_2 5 rfl rfl)
theorem dX3_cancels_54 : decode cX3_cancels 54 = .ok (.aload_n 0, 1) := dk_42 (dk_at dksX3_cancels_2 6 rfl rfl)
theorem dX3_cancels_55 : decode cX3_cancels 55 = .ok (.getfield 9, 3) := dk_180 0 9 (dk_at dksX3_cancels_2 7 rfl rfl)
theorem dX3_cancels_58 : decode cX3_cancels 58 = .ok (.aload_n 0, 1) := dk_42 (dk_at dksX3_cancels_2 10 rfl rfl)
theorem dX3_cancels_59 : decode cX3_cancels 59 = .ok (.aload_n 0, 1) := dk_42 (dk_at dksX3_cancels_2 11 rfl rfl)
theorem dX3_cancels_60 : decode cX3_cancels 60 = .ok (.iload_n 2, 1) := dk_28 (dk_at dksX3_cancels_2 12 rfl rfl)
theorem dX3_cancels_61 : decode cX3_cancels 61 = .ok (.iconst 1, 1) := dk_4 (dk_at dksX3_cancels_2 13 rfl rfl)
theorem dX3_cancels_62 : decode cX3_cancels 62 = .ok (.invokevirtual 84, 3) := dk_182 0 84 (dk_at dksX3_cancels_2 14 rfl rfl)
theorem dX3_cancels_65 : decode cX3_cancels 65 = .ok (.iconst 1, 1) := dk_4 (dk_at dksX3_cancels_2 17 rfl rfl)
theorem dX3_cancels_66 : decode cX3_cancels 66 = .ok (.invokevirtual 80, 3) := dk_182 0 80 (dk_at dksX3_cancels_2 18 rfl rfl)
theorem dX3_cancels_69 : decode cX3_cancels 69 = .ok (.dup2, 1) := dk_92 (dk_at dksX3_cancels_2 21 rfl rfl)
theorem dX3_cancels_70 : decode cX3_cancels 70 = .ok (.iaload, 1) := dk_46 (dk_at dksX3_cancels_2 22 rfl rfl)
theorem dX3_cancels_71 : decode cX3_cancels 71 = .ok (.iload_n 3, 1) := dk_29 (dk_at dksX3_cancels_2 23 rfl rfl)
theorem dX3_cancels_72 : decode cX3_cancels 72 = .ok (.iadd, 1) := dk_96 (dk_at dksX3_cancels_3 0 rfl rfl)
theorem dX3_cancels_73 : decode cX3_cancels 73 = .ok (.iastore, 1) := dk_79 (dk_at dksX3_cancels_3 1 rfl rfl)
theorem dX3_cancels_74 : decode cX3_cancels 74 = .ok (.aload_n 0, 1) := dk_42 (dk_at dksX3_cancels_3 2 rfl rfl)
theorem dX3_cancels_75 : decode cX3_cancels 75 = .ok (.iload_n 2, 1) := dk_28 (dk_at dksX3_cancels_3 3 rfl rfl)
theorem dX3_cancels_76 : decode cX3_cancels 76 = .ok (.invokevirtual 138, 3) := dk_182 0 138 (dk_at dksX3_cancels_3 4 rfl rfl)
theorem dX3_cancels_79 : decode cX3_cancels 79 = .ok (.iload_n 3, 1) := dk_29 (dk_at dksX3_cancels_3 7 rfl rfl)
theorem dX3_cancels_80 : decode cX3_cancels 80 = .ok (.ireturn, 1) := dk_172 (dk_at dksX3_cancels_3 8 rfl rfl)
abbrev cX3_find : ByteArray := prog_26_method_19_code
def yX3_find : MethodName := ⟨RX3, "find", "(I)I"⟩
def dkwX3_find_1 : List UInt8 := [160, 0, 7, 29, 167, 0, 4, 28, 61, 132, 3, 1, 167, 255, 226, 28, 172]
abbrev dktX3_find_1 : List UInt8 := dkwX3_find_1 ++ []
def dkwX3_find_0 : List UInt8 := [2, 61, 3, 62, 29, 42, 180, 0, 9, 16, 11, 46, 162, 0, 25, 42, 29, 3, 182, 0, 84, 27]
abbrev dktX3_find_0 : List UInt8 := dkwX3_find_0 ++ dktX3_find_1
theorem dksX3_find_0 : cX3_find.data.toList.drop 0 = dktX3_find_0 := by decide +kernel
theorem dksX3_find_1 : cX3_find.data.toList.drop 22 = dktX3_find_1 := dk_seg dksX3_find_0 22 rfl rfl
theorem dX3_find_0 : decode cX3_find 0 = .ok (.iconst (-1), 1) := dk_2 (dk_at dksX3_find_0 0 rfl rfl)
theorem dX3_find_1 : decode cX3_find 1 = .ok (.istore_n 2, 1) := dk_61 (dk_at dksX3_find_0 1 rfl rfl)
theorem dX3_find_2 : decode cX3_find 2 = .ok (.iconst 0, 1) := dk_3 (dk_at dksX3_find_0 2 rfl rfl)
theorem dX3_find_3 : decode cX3_find 3 = .ok (.istore_n 3, 1) := dk_62 (dk_at dksX3_find_0 3 rfl rfl)
theorem dX3_find_4 : decode cX3_find 4 = .ok (.iload_n 3, 1) := dk_29 (dk_at dksX3_find_0 4 rfl rfl)
theorem dX3_find_5 : decode cX3_find 5 = .ok (.aload_n 0, 1) := dk_42 (dk_at dksX3_find_0 5 rfl rfl)
theorem dX3_find_6 : decode cX3_find 6 = .ok (.getfield 9, 3) := dk_180 0 9 (dk_at dksX3_find_0 6 rfl rfl)
theorem dX3_find_9 : decode cX3_find 9 = .ok (.bipush 11, 2) := dk_16 11 (dk_at dksX3_find_0 9 rfl rfl)
theorem dX3_find_11 : decode cX3_find 11 = .ok (.iaload, 1) := dk_46 (dk_at dksX3_find_0 11 rfl rfl)
theorem dX3_find_12 : decode cX3_find 12 = .ok (.if_icmp .ge 25, 3) := dk_162 0 25 (dk_at dksX3_find_0 12 rfl rfl)
theorem dX3_find_15 : decode cX3_find 15 = .ok (.aload_n 0, 1) := dk_42 (dk_at dksX3_find_0 15 rfl rfl)
theorem dX3_find_16 : decode cX3_find 16 = .ok (.iload_n 3, 1) := dk_29 (dk_at dksX3_find_0 16 rfl rfl)
theorem dX3_find_17 : decode cX3_find 17 = .ok (.iconst 0, 1) := dk_3 (dk_at dksX3_find_0 17 rfl rfl)
theorem dX3_find_18 : decode cX3_find 18 = .ok (.invokevirtual 84, 3) := dk_182 0 84 (dk_at dksX3_find_0 18 rfl rfl)
theorem dX3_find_21 : decode cX3_find 21 = .ok (.iload_n 1, 1) := dk_27 (dk_at dksX3_find_0 21 rfl rfl)
theorem dX3_find_22 : decode cX3_find 22 = .ok (.if_icmp .ne 7, 3) := dk_160 0 7 (dk_at dksX3_find_1 0 rfl rfl)
theorem dX3_find_25 : decode cX3_find 25 = .ok (.iload_n 3, 1) := dk_29 (dk_at dksX3_find_1 3 rfl rfl)
theorem dX3_find_26 : decode cX3_find 26 = .ok (.goto 4, 3) := dk_167 0 4 (dk_at dksX3_find_1 4 rfl rfl)
theorem dX3_find_29 : decode cX3_find 29 = .ok (.iload_n 2, 1) := dk_28 (dk_at dksX3_find_1 7 rfl rfl)
theorem dX3_find_30 : decode cX3_find 30 = .ok (.istore_n 2, 1) := dk_61 (dk_at dksX3_find_1 8 rfl rfl)
theorem dX3_find_31 : decode cX3_find 31 = .ok (.iinc 3 1, 3) := dk_132 3 1 (dk_at dksX3_find_1 9 rfl rfl)
theorem dX3_find_34 : decode cX3_find 34 = .ok (.goto (-30), 3) := dk_167 255 226 (dk_at dksX3_find_1 12 rfl rfl)
theorem dX3_find_37 : decode cX3_find 37 = .ok (.iload_n 2, 1) := dk_28 (dk_at dksX3_find_1 15 rfl rfl)
theorem dX3_find_38 : decode cX3_find 38 = .ok (.ireturn, 1) := dk_172 (dk_at dksX3_find_1 16 rfl rfl)
abbrev cX3_drops : ByteArray := prog_26_method_21_code
def yX3_drops : MethodName := ⟨RX3, "drops", "(I)V"⟩
def dkwX3_drops_1 : List UInt8 := [96, 46, 79, 132, 2, 1, 167, 255, 233, 42, 180, 0, 9, 16, 11, 92, 46, 4, 100, 79, 177]
abbrev dktX3_drops_1 : List UInt8 := dkwX3_drops_1 ++ []
def dkwX3_drops_0 : List UInt8 := [16, 51, 8, 27, 104, 96, 61, 28, 16, 86, 162, 0, 23, 42, 180, 0, 9, 28, 42, 180, 0, 9, 28, 8]
abbrev dktX3_drops_0 : List UInt8 := dkwX3_drops_0 ++ dktX3_drops_1
theorem dksX3_drops_0 : cX3_drops.data.toList.drop 0 = dktX3_drops_0 := by decide +kernel
theorem dksX3_drops_1 : cX3_drops.data.toList.drop 24 = dktX3_drops_1 := dk_seg dksX3_drops_0 24 rfl rfl
theorem dX3_drops_0 : decode cX3_drops 0 = .ok (.bipush 51, 2) := dk_16 51 (dk_at dksX3_drops_0 0 rfl rfl)
theorem dX3_drops_2 : decode cX3_drops 2 = .ok (.iconst 5, 1) := dk_8 (dk_at dksX3_drops_0 2 rfl rfl)
theorem dX3_drops_3 : decode cX3_drops 3 = .ok (.iload_n 1, 1) := dk_27 (dk_at dksX3_drops_0 3 rfl rfl)
theorem dX3_drops_4 : decode cX3_drops 4 = .ok (.imul, 1) := dk_104 (dk_at dksX3_drops_0 4 rfl rfl)
theorem dX3_drops_5 : decode cX3_drops 5 = .ok (.iadd, 1) := dk_96 (dk_at dksX3_drops_0 5 rfl rfl)
theorem dX3_drops_6 : decode cX3_drops 6 = .ok (.istore_n 2, 1) := dk_61 (dk_at dksX3_drops_0 6 rfl rfl)
theorem dX3_drops_7 : decode cX3_drops 7 = .ok (.iload_n 2, 1) := dk_28 (dk_at dksX3_drops_0 7 rfl rfl)
theorem dX3_drops_8 : decode cX3_drops 8 = .ok (.bipush 86, 2) := dk_16 86 (dk_at dksX3_drops_0 8 rfl rfl)
theorem dX3_drops_10 : decode cX3_drops 10 = .ok (.if_icmp .ge 23, 3) := dk_162 0 23 (dk_at dksX3_drops_0 10 rfl rfl)
theorem dX3_drops_13 : decode cX3_drops 13 = .ok (.aload_n 0, 1) := dk_42 (dk_at dksX3_drops_0 13 rfl rfl)
theorem dX3_drops_14 : decode cX3_drops 14 = .ok (.getfield 9, 3) := dk_180 0 9 (dk_at dksX3_drops_0 14 rfl rfl)
theorem dX3_drops_17 : decode cX3_drops 17 = .ok (.iload_n 2, 1) := dk_28 (dk_at dksX3_drops_0 17 rfl rfl)
theorem dX3_drops_18 : decode cX3_drops 18 = .ok (.aload_n 0, 1) := dk_42 (dk_at dksX3_drops_0 18 rfl rfl)
theorem dX3_drops_19 : decode cX3_drops 19 = .ok (.getfield 9, 3) := dk_180 0 9 (dk_at dksX3_drops_0 19 rfl rfl)
theorem dX3_drops_22 : decode cX3_drops 22 = .ok (.iload_n 2, 1) := dk_28 (dk_at dksX3_drops_0 22 rfl rfl)
theorem dX3_drops_23 : decode cX3_drops 23 = .ok (.iconst 5, 1) := dk_8 (dk_at dksX3_drops_0 23 rfl rfl)
theorem dX3_drops_24 : decode cX3_drops 24 = .ok (.iadd, 1) := dk_96 (dk_at dksX3_drops_1 0 rfl rfl)
theorem dX3_drops_25 : decode cX3_drops 25 = .ok (.iaload, 1) := dk_46 (dk_at dksX3_drops_1 1 rfl rfl)
theorem dX3_drops_26 : decode cX3_drops 26 = .ok (.iastore, 1) := dk_79 (dk_at dksX3_drops_1 2 rfl rfl)
theorem dX3_drops_27 : decode cX3_drops 27 = .ok (.iinc 2 1, 3) := dk_132 2 1 (dk_at dksX3_drops_1 3 rfl rfl)
theorem dX3_drops_30 : decode cX3_drops 30 = .ok (.goto (-23), 3) := dk_167 255 233 (dk_at dksX3_drops_1 6 rfl rfl)
theorem dX3_drops_33 : decode cX3_drops 33 = .ok (.aload_n 0, 1) := dk_42 (dk_at dksX3_drops_1 9 rfl rfl)
theorem dX3_drops_34 : decode cX3_drops 34 = .ok (.getfield 9, 3) := dk_180 0 9 (dk_at dksX3_drops_1 10 rfl rfl)
theorem dX3_drops_37 : decode cX3_drops 37 = .ok (.bipush 11, 2) := dk_16 11 (dk_at dksX3_drops_1 13 rfl rfl)
theorem dX3_drops_39 : decode cX3_drops 39 = .ok (.dup2, 1) := dk_92 (dk_at dksX3_drops_1 15 rfl rfl)
theorem dX3_drops_40 : decode cX3_drops 40 = .ok (.iaload, 1) := dk_46 (dk_at dksX3_drops_1 16 rfl rfl)
theorem dX3_drops_41 : decode cX3_drops 41 = .ok (.iconst 1, 1) := dk_4 (dk_at dksX3_drops_1 17 rfl rfl)
theorem dX3_drops_42 : decode cX3_drops 42 = .ok (.isub, 1) := dk_100 (dk_at dksX3_drops_1 18 rfl rfl)
theorem dX3_drops_43 : decode cX3_drops 43 = .ok (.iastore, 1) := dk_79 (dk_at dksX3_drops_1 19 rfl rfl)
theorem dX3_drops_44 : decode cX3_drops 44 = .ok (.return_, 1) := dk_177 (dk_at dksX3_drops_1 20 rfl rfl)
abbrev cX3_lend : ByteArray := prog_26_method_41_code
def yX3_lend : MethodName := ⟨RX3, "lend", "(II)I"⟩
def dkwX3_lend_0 : List UInt8 := [42, 182, 0, 102, 42, 42, 27, 28, 182, 0, 145, 182, 0, 109, 172]
abbrev dktX3_lend_0 : List UInt8 := dkwX3_lend_0 ++ []
theorem dksX3_lend_0 : cX3_lend.data.toList.drop 0 = dktX3_lend_0 := by decide +kernel
theorem dX3_lend_0 : decode cX3_lend 0 = .ok (.aload_n 0, 1) := dk_42 (dk_at dksX3_lend_0 0 rfl rfl)
theorem dX3_lend_1 : decode cX3_lend 1 = .ok (.invokevirtual 102, 3) := dk_182 0 102 (dk_at dksX3_lend_0 1 rfl rfl)
theorem dX3_lend_4 : decode cX3_lend 4 = .ok (.aload_n 0, 1) := dk_42 (dk_at dksX3_lend_0 4 rfl rfl)
theorem dX3_lend_5 : decode cX3_lend 5 = .ok (.aload_n 0, 1) := dk_42 (dk_at dksX3_lend_0 5 rfl rfl)
theorem dX3_lend_6 : decode cX3_lend 6 = .ok (.iload_n 1, 1) := dk_27 (dk_at dksX3_lend_0 6 rfl rfl)
theorem dX3_lend_7 : decode cX3_lend 7 = .ok (.iload_n 2, 1) := dk_28 (dk_at dksX3_lend_0 7 rfl rfl)
theorem dX3_lend_8 : decode cX3_lend 8 = .ok (.invokevirtual 145, 3) := dk_182 0 145 (dk_at dksX3_lend_0 8 rfl rfl)
theorem dX3_lend_11 : decode cX3_lend 11 = .ok (.invokevirtual 109, 3) := dk_182 0 109 (dk_at dksX3_lend_0 11 rfl rfl)
theorem dX3_lend_14 : decode cX3_lend 14 = .ok (.ireturn, 1) := dk_172 (dk_at dksX3_lend_0 14 rfl rfl)
abbrev cX3_lends : ByteArray := prog_26_method_40_code
def yX3_lends : MethodName := ⟨RX3, "lends", "(II)I"⟩
def dkwX3_lends_4 : List UInt8 := [182, 0, 80, 92, 46, 28, 96, 79, 42, 27, 5, 182, 0, 95, 172]
abbrev dktX3_lends_4 : List UInt8 := dkwX3_lends_4 ++ []
def dkwX3_lends_3 : List UInt8 := [79, 42, 180, 0, 9, 42, 27, 4, 182, 0, 80, 92, 46, 28, 96, 79, 42, 180, 0, 9, 42, 27, 5]
abbrev dktX3_lends_3 : List UInt8 := dkwX3_lends_3 ++ dktX3_lends_4
def dkwX3_lends_2 : List UInt8 := [182, 0, 77, 29, 21, 4, 4, 182, 0, 47, 154, 0, 5, 3, 172, 42, 180, 0, 9, 4, 92, 46, 28, 100]
abbrev dktX3_lends_2 : List UInt8 := dkwX3_lends_2 ++ dktX3_lends_3
def dkwX3_lends_1 : List UInt8 := [5, 182, 0, 95, 28, 96, 17, 0, 200, 163, 0, 7, 4, 167, 0, 4, 3, 54, 4, 42, 42, 27]
abbrev dktX3_lends_1 : List UInt8 := dkwX3_lends_1 ++ dktX3_lends_2
def dkwX3_lends_0 : List UInt8 := [28, 4, 16, 99, 184, 0, 69, 62, 29, 153, 0, 31, 28, 42, 180, 0, 9, 4, 46, 163, 0, 21, 42, 27]
abbrev dktX3_lends_0 : List UInt8 := dkwX3_lends_0 ++ dktX3_lends_1
theorem dksX3_lends_0 : cX3_lends.data.toList.drop 0 = dktX3_lends_0 := by decide +kernel
theorem dksX3_lends_1 : cX3_lends.data.toList.drop 24 = dktX3_lends_1 := dk_seg dksX3_lends_0 24 rfl rfl
theorem dksX3_lends_2 : cX3_lends.data.toList.drop 46 = dktX3_lends_2 := dk_seg dksX3_lends_1 22 rfl rfl
theorem dksX3_lends_3 : cX3_lends.data.toList.drop 70 = dktX3_lends_3 := dk_seg dksX3_lends_2 24 rfl rfl
theorem dksX3_lends_4 : cX3_lends.data.toList.drop 93 = dktX3_lends_4 := dk_seg dksX3_lends_3 23 rfl rfl
theorem dX3_lends_0 : decode cX3_lends 0 = .ok (.iload_n 2, 1) := dk_28 (dk_at dksX3_lends_0 0 rfl rfl)
theorem dX3_lends_1 : decode cX3_lends 1 = .ok (.iconst 1, 1) := dk_4 (dk_at dksX3_lends_0 1 rfl rfl)
theorem dX3_lends_2 : decode cX3_lends 2 = .ok (.bipush 99, 2) := dk_16 99 (dk_at dksX3_lends_0 2 rfl rfl)
theorem dX3_lends_4 : decode cX3_lends 4 = .ok (.invokestatic 69, 3) := dk_184 0 69 (dk_at dksX3_lends_0 4 rfl rfl)
theorem dX3_lends_7 : decode cX3_lends 7 = .ok (.istore_n 3, 1) := dk_62 (dk_at dksX3_lends_0 7 rfl rfl)
theorem dX3_lends_8 : decode cX3_lends 8 = .ok (.iload_n 3, 1) := dk_29 (dk_at dksX3_lends_0 8 rfl rfl)
theorem dX3_lends_9 : decode cX3_lends 9 = .ok (.ifCond .eq 31, 3) := dk_153 0 31 (dk_at dksX3_lends_0 9 rfl rfl)
theorem dX3_lends_12 : decode cX3_lends 12 = .ok (.iload_n 2, 1) := dk_28 (dk_at dksX3_lends_0 12 rfl rfl)
theorem dX3_lends_13 : decode cX3_lends 13 = .ok (.aload_n 0, 1) := dk_42 (dk_at dksX3_lends_0 13 rfl rfl)
theorem dX3_lends_14 : decode cX3_lends 14 = .ok (.getfield 9, 3) := dk_180 0 9 (dk_at dksX3_lends_0 14 rfl rfl)
theorem dX3_lends_17 : decode cX3_lends 17 = .ok (.iconst 1, 1) := dk_4 (dk_at dksX3_lends_0 17 rfl rfl)
theorem dX3_lends_18 : decode cX3_lends 18 = .ok (.iaload, 1) := dk_46 (dk_at dksX3_lends_0 18 rfl rfl)
theorem dX3_lends_19 : decode cX3_lends 19 = .ok (.if_icmp .gt 21, 3) := dk_163 0 21 (dk_at dksX3_lends_0 19 rfl rfl)
theorem dX3_lends_22 : decode cX3_lends 22 = .ok (.aload_n 0, 1) := dk_42 (dk_at dksX3_lends_0 22 rfl rfl)
theorem dX3_lends_23 : decode cX3_lends 23 = .ok (.iload_n 1, 1) := dk_27 (dk_at dksX3_lends_0 23 rfl rfl)
theorem dX3_lends_24 : decode cX3_lends 24 = .ok (.iconst 2, 1) := dk_5 (dk_at dksX3_lends_1 0 rfl rfl)
theorem dX3_lends_25 : decode cX3_lends 25 = .ok (.invokevirtual 95, 3) := dk_182 0 95 (dk_at dksX3_lends_1 1 rfl rfl)
theorem dX3_lends_28 : decode cX3_lends 28 = .ok (.iload_n 2, 1) := dk_28 (dk_at dksX3_lends_1 4 rfl rfl)
theorem dX3_lends_29 : decode cX3_lends 29 = .ok (.iadd, 1) := dk_96 (dk_at dksX3_lends_1 5 rfl rfl)
theorem dX3_lends_30 : decode cX3_lends 30 = .ok (.sipush 200, 3) := dk_17 0 200 (dk_at dksX3_lends_1 6 rfl rfl)
theorem dX3_lends_33 : decode cX3_lends 33 = .ok (.if_icmp .gt 7, 3) := dk_163 0 7 (dk_at dksX3_lends_1 9 rfl rfl)
theorem dX3_lends_36 : decode cX3_lends 36 = .ok (.iconst 1, 1) := dk_4 (dk_at dksX3_lends_1 12 rfl rfl)
theorem dX3_lends_37 : decode cX3_lends 37 = .ok (.goto 4, 3) := dk_167 0 4 (dk_at dksX3_lends_1 13 rfl rfl)
theorem dX3_lends_40 : decode cX3_lends 40 = .ok (.iconst 0, 1) := dk_3 (dk_at dksX3_lends_1 16 rfl rfl)
theorem dX3_lends_41 : decode cX3_lends 41 = .ok (.istore 4, 2) := dk_54 4 (dk_at dksX3_lends_1 17 rfl rfl)
theorem dX3_lends_43 : decode cX3_lends 43 = .ok (.aload_n 0, 1) := dk_42 (dk_at dksX3_lends_1 19 rfl rfl)
theorem dX3_lends_44 : decode cX3_lends 44 = .ok (.aload_n 0, 1) := dk_42 (dk_at dksX3_lends_1 20 rfl rfl)
theorem dX3_lends_45 : decode cX3_lends 45 = .ok (.iload_n 1, 1) := dk_27 (dk_at dksX3_lends_1 21 rfl rfl)
theorem dX3_lends_46 : decode cX3_lends 46 = .ok (.invokevirtual 77, 3) := dk_182 0 77 (dk_at dksX3_lends_2 0 rfl rfl)
theorem dX3_lends_49 : decode cX3_lends 49 = .ok (.iload_n 3, 1) := dk_29 (dk_at dksX3_lends_2 3 rfl rfl)
theorem dX3_lends_50 : decode cX3_lends 50 = .ok (.iload 4, 2) := dk_21 4 (dk_at dksX3_lends_2 4 rfl rfl)
theorem dX3_lends_52 : decode cX3_lends 52 = .ok (.iconst 1, 1) := dk_4 (dk_at dksX3_lends_2 6 rfl rfl)
theorem dX3_lends_53 : decode cX3_lends 53 = .ok (.invokevirtual 47, 3) := dk_182 0 47 (dk_at dksX3_lends_2 7 rfl rfl)
theorem dX3_lends_56 : decode cX3_lends 56 = .ok (.ifCond .ne 5, 3) := dk_154 0 5 (dk_at dksX3_lends_2 10 rfl rfl)
theorem dX3_lends_59 : decode cX3_lends 59 = .ok (.iconst 0, 1) := dk_3 (dk_at dksX3_lends_2 13 rfl rfl)
theorem dX3_lends_60 : decode cX3_lends 60 = .ok (.ireturn, 1) := dk_172 (dk_at dksX3_lends_2 14 rfl rfl)
theorem dX3_lends_61 : decode cX3_lends 61 = .ok (.aload_n 0, 1) := dk_42 (dk_at dksX3_lends_2 15 rfl rfl)
theorem dX3_lends_62 : decode cX3_lends 62 = .ok (.getfield 9, 3) := dk_180 0 9 (dk_at dksX3_lends_2 16 rfl rfl)
theorem dX3_lends_65 : decode cX3_lends 65 = .ok (.iconst 1, 1) := dk_4 (dk_at dksX3_lends_2 19 rfl rfl)
theorem dX3_lends_66 : decode cX3_lends 66 = .ok (.dup2, 1) := dk_92 (dk_at dksX3_lends_2 20 rfl rfl)
theorem dX3_lends_67 : decode cX3_lends 67 = .ok (.iaload, 1) := dk_46 (dk_at dksX3_lends_2 21 rfl rfl)
theorem dX3_lends_68 : decode cX3_lends 68 = .ok (.iload_n 2, 1) := dk_28 (dk_at dksX3_lends_2 22 rfl rfl)
theorem dX3_lends_69 : decode cX3_lends 69 = .ok (.isub, 1) := dk_100 (dk_at dksX3_lends_2 23 rfl rfl)
theorem dX3_lends_70 : decode cX3_lends 70 = .ok (.iastore, 1) := dk_79 (dk_at dksX3_lends_3 0 rfl rfl)
theorem dX3_lends_71 : decode cX3_lends 71 = .ok (.aload_n 0, 1) := dk_42 (dk_at dksX3_lends_3 1 rfl rfl)
theorem dX3_lends_72 : decode cX3_lends 72 = .ok (.getfield 9, 3) := dk_180 0 9 (dk_at dksX3_lends_3 2 rfl rfl)
theorem dX3_lends_75 : decode cX3_lends 75 = .ok (.aload_n 0, 1) := dk_42 (dk_at dksX3_lends_3 5 rfl rfl)
theorem dX3_lends_76 : decode cX3_lends 76 = .ok (.iload_n 1, 1) := dk_27 (dk_at dksX3_lends_3 6 rfl rfl)
theorem dX3_lends_77 : decode cX3_lends 77 = .ok (.iconst 1, 1) := dk_4 (dk_at dksX3_lends_3 7 rfl rfl)
theorem dX3_lends_78 : decode cX3_lends 78 = .ok (.invokevirtual 80, 3) := dk_182 0 80 (dk_at dksX3_lends_3 8 rfl rfl)
theorem dX3_lends_81 : decode cX3_lends 81 = .ok (.dup2, 1) := dk_92 (dk_at dksX3_lends_3 11 rfl rfl)
theorem dX3_lends_82 : decode cX3_lends 82 = .ok (.iaload, 1) := dk_46 (dk_at dksX3_lends_3 12 rfl rfl)
theorem dX3_lends_83 : decode cX3_lends 83 = .ok (.iload_n 2, 1) := dk_28 (dk_at dksX3_lends_3 13 rfl rfl)
theorem dX3_lends_84 : decode cX3_lends 84 = .ok (.iadd, 1) := dk_96 (dk_at dksX3_lends_3 14 rfl rfl)
theorem dX3_lends_85 : decode cX3_lends 85 = .ok (.iastore, 1) := dk_79 (dk_at dksX3_lends_3 15 rfl rfl)
theorem dX3_lends_86 : decode cX3_lends 86 = .ok (.aload_n 0, 1) := dk_42 (dk_at dksX3_lends_3 16 rfl rfl)
theorem dX3_lends_87 : decode cX3_lends 87 = .ok (.getfield 9, 3) := dk_180 0 9 (dk_at dksX3_lends_3 17 rfl rfl)
theorem dX3_lends_90 : decode cX3_lends 90 = .ok (.aload_n 0, 1) := dk_42 (dk_at dksX3_lends_3 20 rfl rfl)
theorem dX3_lends_91 : decode cX3_lends 91 = .ok (.iload_n 1, 1) := dk_27 (dk_at dksX3_lends_3 21 rfl rfl)
theorem dX3_lends_92 : decode cX3_lends 92 = .ok (.iconst 2, 1) := dk_5 (dk_at dksX3_lends_3 22 rfl rfl)
theorem dX3_lends_93 : decode cX3_lends 93 = .ok (.invokevirtual 80, 3) := dk_182 0 80 (dk_at dksX3_lends_4 0 rfl rfl)
theorem dX3_lends_96 : decode cX3_lends 96 = .ok (.dup2, 1) := dk_92 (dk_at dksX3_lends_4 3 rfl rfl)
theorem dX3_lends_97 : decode cX3_lends 97 = .ok (.iaload, 1) := dk_46 (dk_at dksX3_lends_4 4 rfl rfl)
theorem dX3_lends_98 : decode cX3_lends 98 = .ok (.iload_n 2, 1) := dk_28 (dk_at dksX3_lends_4 5 rfl rfl)
theorem dX3_lends_99 : decode cX3_lends 99 = .ok (.iadd, 1) := dk_96 (dk_at dksX3_lends_4 6 rfl rfl)
theorem dX3_lends_100 : decode cX3_lends 100 = .ok (.iastore, 1) := dk_79 (dk_at dksX3_lends_4 7 rfl rfl)
theorem dX3_lends_101 : decode cX3_lends 101 = .ok (.aload_n 0, 1) := dk_42 (dk_at dksX3_lends_4 8 rfl rfl)
theorem dX3_lends_102 : decode cX3_lends 102 = .ok (.iload_n 1, 1) := dk_27 (dk_at dksX3_lends_4 9 rfl rfl)
theorem dX3_lends_103 : decode cX3_lends 103 = .ok (.iconst 2, 1) := dk_5 (dk_at dksX3_lends_4 10 rfl rfl)
theorem dX3_lends_104 : decode cX3_lends 104 = .ok (.invokevirtual 95, 3) := dk_182 0 95 (dk_at dksX3_lends_4 11 rfl rfl)
theorem dX3_lends_107 : decode cX3_lends 107 = .ok (.ireturn, 1) := dk_172 (dk_at dksX3_lends_4 14 rfl rfl)
abbrev cX3_fund : ByteArray := prog_26_method_43_code
def yX3_fund : MethodName := ⟨RX3, "fund", "(I)I"⟩
def dkwX3_fund_0 : List UInt8 := [42, 182, 0, 102, 42, 42, 27, 182, 0, 148, 182, 0, 109, 172]
abbrev dktX3_fund_0 : List UInt8 := dkwX3_fund_0 ++ []
theorem dksX3_fund_0 : cX3_fund.data.toList.drop 0 = dktX3_fund_0 := by decide +kernel
theorem dX3_fund_0 : decode cX3_fund 0 = .ok (.aload_n 0, 1) := dk_42 (dk_at dksX3_fund_0 0 rfl rfl)
theorem dX3_fund_1 : decode cX3_fund 1 = .ok (.invokevirtual 102, 3) := dk_182 0 102 (dk_at dksX3_fund_0 1 rfl rfl)
theorem dX3_fund_4 : decode cX3_fund 4 = .ok (.aload_n 0, 1) := dk_42 (dk_at dksX3_fund_0 4 rfl rfl)
theorem dX3_fund_5 : decode cX3_fund 5 = .ok (.aload_n 0, 1) := dk_42 (dk_at dksX3_fund_0 5 rfl rfl)
theorem dX3_fund_6 : decode cX3_fund 6 = .ok (.iload_n 1, 1) := dk_27 (dk_at dksX3_fund_0 6 rfl rfl)
theorem dX3_fund_7 : decode cX3_fund 7 = .ok (.invokevirtual 148, 3) := dk_182 0 148 (dk_at dksX3_fund_0 7 rfl rfl)
theorem dX3_fund_10 : decode cX3_fund 10 = .ok (.invokevirtual 109, 3) := dk_182 0 109 (dk_at dksX3_fund_0 10 rfl rfl)
theorem dX3_fund_13 : decode cX3_fund 13 = .ok (.ireturn, 1) := dk_172 (dk_at dksX3_fund_0 13 rfl rfl)
abbrev cX3_funds : ByteArray := prog_26_method_42_code
def yX3_funds : MethodName := ⟨RX3, "funds", "(I)I"⟩
def dkwX3_funds_1 : List UInt8 := [27, 96, 79, 42, 180, 0, 9, 5, 92, 46, 27, 96, 79, 42, 180, 0, 9, 4, 46, 172]
abbrev dktX3_funds_1 : List UInt8 := dkwX3_funds_1 ++ []
def dkwX3_funds_0 : List UInt8 := [42, 27, 4, 17, 3, 231, 184, 0, 69, 182, 0, 61, 154, 0, 5, 3, 172, 42, 180, 0, 9, 4, 92, 46]
abbrev dktX3_funds_0 : List UInt8 := dkwX3_funds_0 ++ dktX3_funds_1
theorem dksX3_funds_0 : cX3_funds.data.toList.drop 0 = dktX3_funds_0 := by decide +kernel
theorem dksX3_funds_1 : cX3_funds.data.toList.drop 24 = dktX3_funds_1 := dk_seg dksX3_funds_0 24 rfl rfl
theorem dX3_funds_0 : decode cX3_funds 0 = .ok (.aload_n 0, 1) := dk_42 (dk_at dksX3_funds_0 0 rfl rfl)
theorem dX3_funds_1 : decode cX3_funds 1 = .ok (.iload_n 1, 1) := dk_27 (dk_at dksX3_funds_0 1 rfl rfl)
theorem dX3_funds_2 : decode cX3_funds 2 = .ok (.iconst 1, 1) := dk_4 (dk_at dksX3_funds_0 2 rfl rfl)
theorem dX3_funds_3 : decode cX3_funds 3 = .ok (.sipush 999, 3) := dk_17 3 231 (dk_at dksX3_funds_0 3 rfl rfl)
theorem dX3_funds_6 : decode cX3_funds 6 = .ok (.invokestatic 69, 3) := dk_184 0 69 (dk_at dksX3_funds_0 6 rfl rfl)
theorem dX3_funds_9 : decode cX3_funds 9 = .ok (.invokevirtual 61, 3) := dk_182 0 61 (dk_at dksX3_funds_0 9 rfl rfl)
theorem dX3_funds_12 : decode cX3_funds 12 = .ok (.ifCond .ne 5, 3) := dk_154 0 5 (dk_at dksX3_funds_0 12 rfl rfl)
theorem dX3_funds_15 : decode cX3_funds 15 = .ok (.iconst 0, 1) := dk_3 (dk_at dksX3_funds_0 15 rfl rfl)
theorem dX3_funds_16 : decode cX3_funds 16 = .ok (.ireturn, 1) := dk_172 (dk_at dksX3_funds_0 16 rfl rfl)
theorem dX3_funds_17 : decode cX3_funds 17 = .ok (.aload_n 0, 1) := dk_42 (dk_at dksX3_funds_0 17 rfl rfl)
theorem dX3_funds_18 : decode cX3_funds 18 = .ok (.getfield 9, 3) := dk_180 0 9 (dk_at dksX3_funds_0 18 rfl rfl)
theorem dX3_funds_21 : decode cX3_funds 21 = .ok (.iconst 1, 1) := dk_4 (dk_at dksX3_funds_0 21 rfl rfl)
theorem dX3_funds_22 : decode cX3_funds 22 = .ok (.dup2, 1) := dk_92 (dk_at dksX3_funds_0 22 rfl rfl)
theorem dX3_funds_23 : decode cX3_funds 23 = .ok (.iaload, 1) := dk_46 (dk_at dksX3_funds_0 23 rfl rfl)
theorem dX3_funds_24 : decode cX3_funds 24 = .ok (.iload_n 1, 1) := dk_27 (dk_at dksX3_funds_1 0 rfl rfl)
theorem dX3_funds_25 : decode cX3_funds 25 = .ok (.iadd, 1) := dk_96 (dk_at dksX3_funds_1 1 rfl rfl)
theorem dX3_funds_26 : decode cX3_funds 26 = .ok (.iastore, 1) := dk_79 (dk_at dksX3_funds_1 2 rfl rfl)
theorem dX3_funds_27 : decode cX3_funds 27 = .ok (.aload_n 0, 1) := dk_42 (dk_at dksX3_funds_1 3 rfl rfl)
theorem dX3_funds_28 : decode cX3_funds 28 = .ok (.getfield 9, 3) := dk_180 0 9 (dk_at dksX3_funds_1 4 rfl rfl)
theorem dX3_funds_31 : decode cX3_funds 31 = .ok (.iconst 2, 1) := dk_5 (dk_at dksX3_funds_1 7 rfl rfl)
theorem dX3_funds_32 : decode cX3_funds 32 = .ok (.dup2, 1) := dk_92 (dk_at dksX3_funds_1 8 rfl rfl)
theorem dX3_funds_33 : decode cX3_funds 33 = .ok (.iaload, 1) := dk_46 (dk_at dksX3_funds_1 9 rfl rfl)
theorem dX3_funds_34 : decode cX3_funds 34 = .ok (.iload_n 1, 1) := dk_27 (dk_at dksX3_funds_1 10 rfl rfl)
theorem dX3_funds_35 : decode cX3_funds 35 = .ok (.iadd, 1) := dk_96 (dk_at dksX3_funds_1 11 rfl rfl)
theorem dX3_funds_36 : decode cX3_funds 36 = .ok (.iastore, 1) := dk_79 (dk_at dksX3_funds_1 12 rfl rfl)
theorem dX3_funds_37 : decode cX3_funds 37 = .ok (.aload_n 0, 1) := dk_42 (dk_at dksX3_funds_1 13 rfl rfl)
theorem dX3_funds_38 : decode cX3_funds 38 = .ok (.getfield 9, 3) := dk_180 0 9 (dk_at dksX3_funds_1 14 rfl rfl)
theorem dX3_funds_41 : decode cX3_funds 41 = .ok (.iconst 1, 1) := dk_4 (dk_at dksX3_funds_1 17 rfl rfl)
theorem dX3_funds_42 : decode cX3_funds 42 = .ok (.iaload, 1) := dk_46 (dk_at dksX3_funds_1 18 rfl rfl)
theorem dX3_funds_43 : decode cX3_funds 43 = .ok (.ireturn, 1) := dk_172 (dk_at dksX3_funds_1 19 rfl rfl)
abbrev cX3_spend : ByteArray := prog_26_method_45_code
def yX3_spend : MethodName := ⟨RX3, "spend", "(I)I"⟩
def dkwX3_spend_0 : List UInt8 := [42, 182, 0, 102, 42, 42, 27, 182, 0, 151, 182, 0, 109, 172]
abbrev dktX3_spend_0 : List UInt8 := dkwX3_spend_0 ++ []
theorem dksX3_spend_0 : cX3_spend.data.toList.drop 0 = dktX3_spend_0 := by decide +kernel
theorem dX3_spend_0 : decode cX3_spend 0 = .ok (.aload_n 0, 1) := dk_42 (dk_at dksX3_spend_0 0 rfl rfl)
theorem dX3_spend_1 : decode cX3_spend 1 = .ok (.invokevirtual 102, 3) := dk_182 0 102 (dk_at dksX3_spend_0 1 rfl rfl)
theorem dX3_spend_4 : decode cX3_spend 4 = .ok (.aload_n 0, 1) := dk_42 (dk_at dksX3_spend_0 4 rfl rfl)
theorem dX3_spend_5 : decode cX3_spend 5 = .ok (.aload_n 0, 1) := dk_42 (dk_at dksX3_spend_0 5 rfl rfl)
theorem dX3_spend_6 : decode cX3_spend 6 = .ok (.iload_n 1, 1) := dk_27 (dk_at dksX3_spend_0 6 rfl rfl)
theorem dX3_spend_7 : decode cX3_spend 7 = .ok (.invokevirtual 151, 3) := dk_182 0 151 (dk_at dksX3_spend_0 7 rfl rfl)
theorem dX3_spend_10 : decode cX3_spend 10 = .ok (.invokevirtual 109, 3) := dk_182 0 109 (dk_at dksX3_spend_0 10 rfl rfl)
theorem dX3_spend_13 : decode cX3_spend 13 = .ok (.ireturn, 1) := dk_172 (dk_at dksX3_spend_0 13 rfl rfl)
abbrev cX3_spends : ByteArray := prog_26_method_44_code
def yX3_spends : MethodName := ⟨RX3, "spends", "(I)I"⟩
def dkwX3_spends_2 : List UInt8 := [6, 92, 46, 27, 96, 79, 42, 180, 0, 9, 4, 46, 172]
abbrev dktX3_spends_2 : List UInt8 := dkwX3_spends_2 ++ []
def dkwX3_spends_1 : List UInt8 := [4, 4, 182, 0, 47, 154, 0, 5, 3, 172, 42, 180, 0, 9, 4, 92, 46, 27, 100, 79, 42, 180, 0, 9]
abbrev dktX3_spends_1 : List UInt8 := dkwX3_spends_1 ++ dktX3_spends_2
def dkwX3_spends_0 : List UInt8 := [42, 27, 4, 17, 3, 231, 184, 0, 69, 27, 42, 180, 0, 9, 4, 46, 163, 0, 7, 4, 167, 0, 4, 3]
abbrev dktX3_spends_0 : List UInt8 := dkwX3_spends_0 ++ dktX3_spends_1
theorem dksX3_spends_0 : cX3_spends.data.toList.drop 0 = dktX3_spends_0 := by decide +kernel
theorem dksX3_spends_1 : cX3_spends.data.toList.drop 24 = dktX3_spends_1 := dk_seg dksX3_spends_0 24 rfl rfl
theorem dksX3_spends_2 : cX3_spends.data.toList.drop 48 = dktX3_spends_2 := dk_seg dksX3_spends_1 24 rfl rfl
theorem dX3_spends_0 : decode cX3_spends 0 = .ok (.aload_n 0, 1) := dk_42 (dk_at dksX3_spends_0 0 rfl rfl)
theorem dX3_spends_1 : decode cX3_spends 1 = .ok (.iload_n 1, 1) := dk_27 (dk_at dksX3_spends_0 1 rfl rfl)
theorem dX3_spends_2 : decode cX3_spends 2 = .ok (.iconst 1, 1) := dk_4 (dk_at dksX3_spends_0 2 rfl rfl)
theorem dX3_spends_3 : decode cX3_spends 3 = .ok (.sipush 999, 3) := dk_17 3 231 (dk_at dksX3_spends_0 3 rfl rfl)
theorem dX3_spends_6 : decode cX3_spends 6 = .ok (.invokestatic 69, 3) := dk_184 0 69 (dk_at dksX3_spends_0 6 rfl rfl)
theorem dX3_spends_9 : decode cX3_spends 9 = .ok (.iload_n 1, 1) := dk_27 (dk_at dksX3_spends_0 9 rfl rfl)
theorem dX3_spends_10 : decode cX3_spends 10 = .ok (.aload_n 0, 1) := dk_42 (dk_at dksX3_spends_0 10 rfl rfl)
theorem dX3_spends_11 : decode cX3_spends 11 = .ok (.getfield 9, 3) := dk_180 0 9 (dk_at dksX3_spends_0 11 rfl rfl)
theorem dX3_spends_14 : decode cX3_spends 14 = .ok (.iconst 1, 1) := dk_4 (dk_at dksX3_spends_0 14 rfl rfl)
theorem dX3_spends_15 : decode cX3_spends 15 = .ok (.iaload, 1) := dk_46 (dk_at dksX3_spends_0 15 rfl rfl)
theorem dX3_spends_16 : decode cX3_spends 16 = .ok (.if_icmp .gt 7, 3) := dk_163 0 7 (dk_at dksX3_spends_0 16 rfl rfl)
theorem dX3_spends_19 : decode cX3_spends 19 = .ok (.iconst 1, 1) := dk_4 (dk_at dksX3_spends_0 19 rfl rfl)
theorem dX3_spends_20 : decode cX3_spends 20 = .ok (.goto 4, 3) := dk_167 0 4 (dk_at dksX3_spends_0 20 rfl rfl)
theorem dX3_spends_23 : decode cX3_spends 23 = .ok (.iconst 0, 1) := dk_3 (dk_at dksX3_spends_0 23 rfl rfl)
theorem dX3_spends_24 : decode cX3_spends 24 = .ok (.iconst 1, 1) := dk_4 (dk_at dksX3_spends_1 0 rfl rfl)
theorem dX3_spends_25 : decode cX3_spends 25 = .ok (.iconst 1, 1) := dk_4 (dk_at dksX3_spends_1 1 rfl rfl)
theorem dX3_spends_26 : decode cX3_spends 26 = .ok (.invokevirtual 47, 3) := dk_182 0 47 (dk_at dksX3_spends_1 2 rfl rfl)
theorem dX3_spends_29 : decode cX3_spends 29 = .ok (.ifCond .ne 5, 3) := dk_154 0 5 (dk_at dksX3_spends_1 5 rfl rfl)
theorem dX3_spends_32 : decode cX3_spends 32 = .ok (.iconst 0, 1) := dk_3 (dk_at dksX3_spends_1 8 rfl rfl)
theorem dX3_spends_33 : decode cX3_spends 33 = .ok (.ireturn, 1) := dk_172 (dk_at dksX3_spends_1 9 rfl rfl)
theorem dX3_spends_34 : decode cX3_spends 34 = .ok (.aload_n 0, 1) := dk_42 (dk_at dksX3_spends_1 10 rfl rfl)
theorem dX3_spends_35 : decode cX3_spends 35 = .ok (.getfield 9, 3) := dk_180 0 9 (dk_at dksX3_spends_1 11 rfl rfl)
theorem dX3_spends_38 : decode cX3_spends 38 = .ok (.iconst 1, 1) := dk_4 (dk_at dksX3_spends_1 14 rfl rfl)
theorem dX3_spends_39 : decode cX3_spends 39 = .ok (.dup2, 1) := dk_92 (dk_at dksX3_spends_1 15 rfl rfl)
theorem dX3_spends_40 : decode cX3_spends 40 = .ok (.iaload, 1) := dk_46 (dk_at dksX3_spends_1 16 rfl rfl)
theorem dX3_spends_41 : decode cX3_spends 41 = .ok (.iload_n 1, 1) := dk_27 (dk_at dksX3_spends_1 17 rfl rfl)
theorem dX3_spends_42 : decode cX3_spends 42 = .ok (.isub, 1) := dk_100 (dk_at dksX3_spends_1 18 rfl rfl)
theorem dX3_spends_43 : decode cX3_spends 43 = .ok (.iastore, 1) := dk_79 (dk_at dksX3_spends_1 19 rfl rfl)
theorem dX3_spends_44 : decode cX3_spends 44 = .ok (.aload_n 0, 1) := dk_42 (dk_at dksX3_spends_1 20 rfl rfl)
theorem dX3_spends_45 : decode cX3_spends 45 = .ok (.getfield 9, 3) := dk_180 0 9 (dk_at dksX3_spends_1 21 rfl rfl)
theorem dX3_spends_48 : decode cX3_spends 48 = .ok (.iconst 3, 1) := dk_6 (dk_at dksX3_spends_2 0 rfl rfl)
theorem dX3_spends_49 : decode cX3_spends 49 = .ok (.dup2, 1) := dk_92 (dk_at dksX3_spends_2 1 rfl rfl)
theorem dX3_spends_50 : decode cX3_spends 50 = .ok (.iaload, 1) := dk_46 (dk_at dksX3_spends_2 2 rfl rfl)
theorem dX3_spends_51 : decode cX3_spends 51 = .ok (.iload_n 1, 1) := dk_27 (dk_at dksX3_spends_2 3 rfl rfl)
theorem dX3_spends_52 : decode cX3_spends 52 = .ok (.iadd, 1) := dk_96 (dk_at dksX3_spends_2 4 rfl rfl)
theorem dX3_spends_53 : decode cX3_spends 53 = .ok (.iastore, 1) := dk_79 (dk_at dksX3_spends_2 5 rfl rfl)
theorem dX3_spends_54 : decode cX3_spends 54 = .ok (.aload_n 0, 1) := dk_42 (dk_at dksX3_spends_2 6 rfl rfl)
theorem dX3_spends_55 : decode cX3_spends 55 = .ok (.getfield 9, 3) := dk_180 0 9 (dk_at dksX3_spends_2 7 rfl rfl)
theorem dX3_spends_58 : decode cX3_spends 58 = .ok (.iconst 1, 1) := dk_4 (dk_at dksX3_spends_2 10 rfl rfl)
theorem dX3_spends_59 : decode cX3_spends 59 = .ok (.iaload, 1) := dk_46 (dk_at dksX3_spends_2 11 rfl rfl)
theorem dX3_spends_60 : decode cX3_spends 60 = .ok (.ireturn, 1) := dk_172 (dk_at dksX3_spends_2 12 rfl rfl)
abbrev cX3_passNights : ByteArray := prog_26_method_51_code
def yX3_passNights : MethodName := ⟨RX3, "passNights", "(I)I"⟩
def dkwX3_passNights_0 : List UInt8 := [42, 182, 0, 102, 42, 42, 27, 182, 0, 172, 182, 0, 109, 172]
abbrev dktX3_passNights_0 : List UInt8 := dkwX3_passNights_0 ++ []
theorem dksX3_passNights_0 : cX3_passNights.data.toList.drop 0 = dktX3_passNights_0 := by decide +kernel
theorem dX3_passNights_0 : decode cX3_passNights 0 = .ok (.aload_n 0, 1) := dk_42 (dk_at dksX3_passNights_0 0 rfl rfl)
theorem dX3_passNights_1 : decode cX3_passNights 1 = .ok (.invokevirtual 102, 3) := dk_182 0 102 (dk_at dksX3_passNights_0 1 rfl rfl)
theorem dX3_passNights_4 : decode cX3_passNights 4 = .ok (.aload_n 0, 1) := dk_42 (dk_at dksX3_passNights_0 4 rfl rfl)
theorem dX3_passNights_5 : decode cX3_passNights 5 = .ok (.aload_n 0, 1) := dk_42 (dk_at dksX3_passNights_0 5 rfl rfl)
theorem dX3_passNights_6 : decode cX3_passNights 6 = .ok (.iload_n 1, 1) := dk_27 (dk_at dksX3_passNights_0 6 rfl rfl)
theorem dX3_passNights_7 : decode cX3_passNights 7 = .ok (.invokevirtual 172, 3) := dk_182 0 172 (dk_at dksX3_passNights_0 7 rfl rfl)
theorem dX3_passNights_10 : decode cX3_passNights 10 = .ok (.invokevirtual 109, 3) := dk_182 0 109 (dk_at dksX3_passNights_0 10 rfl rfl)
theorem dX3_passNights_13 : decode cX3_passNights 13 = .ok (.ireturn, 1) := dk_172 (dk_at dksX3_passNights_0 13 rfl rfl)
abbrev cX3_waits : ByteArray := prog_26_method_50_code
def yX3_waits : MethodName := ⟨RX3, "waits", "(I)I"⟩
def dkwX3_waits_1 : List UInt8 := [162, 0, 16, 28, 42, 182, 0, 169, 96, 61, 132, 3, 1, 167, 255, 241, 28, 172]
abbrev dktX3_waits_1 : List UInt8 := dkwX3_waits_1 ++ []
def dkwX3_waits_0 : List UInt8 := [42, 27, 4, 16, 60, 184, 0, 69, 182, 0, 61, 154, 0, 5, 3, 172, 3, 61, 3, 62, 29, 27]
abbrev dktX3_waits_0 : List UInt8 := dkwX3_waits_0 ++ dktX3_waits_1
theorem dksX3_waits_0 : cX3_waits.data.toList.drop 0 = dktX3_waits_0 := by decide +kernel
theorem dksX3_waits_1 : cX3_waits.data.toList.drop 22 = dktX3_waits_1 := dk_seg dksX3_waits_0 22 rfl rfl
theorem dX3_waits_0 : decode cX3_waits 0 = .ok (.aload_n 0, 1) := dk_42 (dk_at dksX3_waits_0 0 rfl rfl)
theorem dX3_waits_1 : decode cX3_waits 1 = .ok (.iload_n 1, 1) := dk_27 (dk_at dksX3_waits_0 1 rfl rfl)
theorem dX3_waits_2 : decode cX3_waits 2 = .ok (.iconst 1, 1) := dk_4 (dk_at dksX3_waits_0 2 rfl rfl)
theorem dX3_waits_3 : decode cX3_waits 3 = .ok (.bipush 60, 2) := dk_16 60 (dk_at dksX3_waits_0 3 rfl rfl)
theorem dX3_waits_5 : decode cX3_waits 5 = .ok (.invokestatic 69, 3) := dk_184 0 69 (dk_at dksX3_waits_0 5 rfl rfl)
theorem dX3_waits_8 : decode cX3_waits 8 = .ok (.invokevirtual 61, 3) := dk_182 0 61 (dk_at dksX3_waits_0 8 rfl rfl)
theorem dX3_waits_11 : decode cX3_waits 11 = .ok (.ifCond .ne 5, 3) := dk_154 0 5 (dk_at dksX3_waits_0 11 rfl rfl)
theorem dX3_waits_14 : decode cX3_waits 14 = .ok (.iconst 0, 1) := dk_3 (dk_at dksX3_waits_0 14 rfl rfl)
theorem dX3_waits_15 : decode cX3_waits 15 = .ok (.ireturn, 1) := dk_172 (dk_at dksX3_waits_0 15 rfl rfl)
theorem dX3_waits_16 : decode cX3_waits 16 = .ok (.iconst 0, 1) := dk_3 (dk_at dksX3_waits_0 16 rfl rfl)
theorem dX3_waits_17 : decode cX3_waits 17 = .ok (.istore_n 2, 1) := dk_61 (dk_at dksX3_waits_0 17 rfl rfl)
theorem dX3_waits_18 : decode cX3_waits 18 = .ok (.iconst 0, 1) := dk_3 (dk_at dksX3_waits_0 18 rfl rfl)
theorem dX3_waits_19 : decode cX3_waits 19 = .ok (.istore_n 3, 1) := dk_62 (dk_at dksX3_waits_0 19 rfl rfl)
theorem dX3_waits_20 : decode cX3_waits 20 = .ok (.iload_n 3, 1) := dk_29 (dk_at dksX3_waits_0 20 rfl rfl)
theorem dX3_waits_21 : decode cX3_waits 21 = .ok (.iload_n 1, 1) := dk_27 (dk_at dksX3_waits_0 21 rfl rfl)
theorem dX3_waits_22 : decode cX3_waits 22 = .ok (.if_icmp .ge 16, 3) := dk_162 0 16 (dk_at dksX3_waits_1 0 rfl rfl)
theorem dX3_waits_25 : decode cX3_waits 25 = .ok (.iload_n 2, 1) := dk_28 (dk_at dksX3_waits_1 3 rfl rfl)
theorem dX3_waits_26 : decode cX3_waits 26 = .ok (.aload_n 0, 1) := dk_42 (dk_at dksX3_waits_1 4 rfl rfl)
theorem dX3_waits_27 : decode cX3_waits 27 = .ok (.invokevirtual 169, 3) := dk_182 0 169 (dk_at dksX3_waits_1 5 rfl rfl)
theorem dX3_waits_30 : decode cX3_waits 30 = .ok (.iadd, 1) := dk_96 (dk_at dksX3_waits_1 8 rfl rfl)
theorem dX3_waits_31 : decode cX3_waits 31 = .ok (.istore_n 2, 1) := dk_61 (dk_at dksX3_waits_1 9 rfl rfl)
theorem dX3_waits_32 : decode cX3_waits 32 = .ok (.iinc 3 1, 3) := dk_132 3 1 (dk_at dksX3_waits_1 10 rfl rfl)
theorem dX3_waits_35 : decode cX3_waits 35 = .ok (.goto (-15), 3) := dk_167 255 241 (dk_at dksX3_waits_1 13 rfl rfl)
theorem dX3_waits_38 : decode cX3_waits 38 = .ok (.iload_n 2, 1) := dk_28 (dk_at dksX3_waits_1 16 rfl rfl)
theorem dX3_waits_39 : decode cX3_waits 39 = .ok (.ireturn, 1) := dk_172 (dk_at dksX3_waits_1 17 rfl rfl)
abbrev cX3_passes : ByteArray := prog_26_method_49_code
def yX3_passes : MethodName := ⟨RX3, "passes", "()I"⟩
def dkwX3_passes_10 : List UInt8 := [180, 0, 9, 7, 92, 46, 27, 96, 79, 27, 172]
abbrev dktX3_passes_10 : List UInt8 := dkwX3_passes_10 ++ []
def dkwX3_passes_9 : List UInt8 := [21, 4, 96, 79, 42, 180, 0, 9, 16, 7, 92, 46, 21, 4, 96, 79, 132, 2, 1, 167, 255, 156, 42]
abbrev dktX3_passes_9 : List UInt8 := dkwX3_passes_9 ++ dktX3_passes_10
def dkwX3_passes_8 : List UInt8 := [4, 96, 184, 0, 135, 167, 0, 4, 3, 54, 4, 42, 180, 0, 9, 42, 28, 5, 182, 0, 80, 92, 46]
abbrev dktX3_passes_8 : List UInt8 := dkwX3_passes_8 ++ dktX3_passes_9
def dkwX3_passes_7 : List UInt8 := [180, 0, 9, 3, 46, 16, 7, 112, 154, 0, 24, 29, 158, 0, 20, 17, 3, 231, 29, 100, 29, 16, 10, 108]
abbrev dktX3_passes_7 : List UInt8 := dkwX3_passes_7 ++ dktX3_passes_8
def dkwX3_passes_6 : List UInt8 := [42, 28, 6, 182, 0, 95, 6, 161, 0, 8, 42, 28, 182, 0, 166, 42, 28, 5, 182, 0, 95, 62, 42]
abbrev dktX3_passes_6 : List UInt8 := dkwX3_passes_6 ++ dktX3_passes_7
def dkwX3_passes_5 : List UInt8 := [182, 0, 163, 96, 60, 132, 2, 1, 167, 255, 183, 3, 61, 28, 42, 180, 0, 9, 16, 9, 46, 162, 0, 95]
abbrev dktX3_passes_5 : List UInt8 := dkwX3_passes_5 ++ dktX3_passes_6
def dkwX3_passes_4 : List UInt8 := [42, 28, 6, 182, 0, 95, 4, 96, 167, 0, 4, 3, 79, 27, 29, 153, 0, 7, 3, 167, 0, 8, 42, 28]
abbrev dktX3_passes_4 : List UInt8 := dkwX3_passes_4 ++ dktX3_passes_5
def dkwX3_passes_3 : List UInt8 := [4, 160, 0, 7, 4, 167, 0, 4, 3, 62, 42, 180, 0, 9, 42, 28, 6, 182, 0, 80, 29, 153, 0, 14]
abbrev dktX3_passes_3 : List UInt8 := dkwX3_passes_3 ++ dktX3_passes_4
def dkwX3_passes_2 : List UInt8 := [167, 255, 222, 3, 60, 3, 61, 28, 42, 180, 0, 9, 16, 9, 46, 162, 0, 68, 42, 28, 7, 182, 0, 95]
abbrev dktX3_passes_2 : List UInt8 := dkwX3_passes_2 ++ dktX3_passes_3
def dkwX3_passes_1 : List UInt8 := [27, 96, 16, 99, 42, 180, 0, 9, 16, 12, 27, 96, 46, 6, 96, 184, 0, 135, 79, 132, 1, 1]
abbrev dktX3_passes_1 : List UInt8 := dkwX3_passes_1 ++ dktX3_passes_2
def dkwX3_passes_0 : List UInt8 := [42, 180, 0, 9, 3, 92, 46, 4, 96, 79, 3, 60, 27, 16, 6, 162, 0, 34, 42, 180, 0, 9, 16, 12]
abbrev dktX3_passes_0 : List UInt8 := dkwX3_passes_0 ++ dktX3_passes_1
theorem dksX3_passes_0 : cX3_passes.data.toList.drop 0 = dktX3_passes_0 := by decide +kernel
theorem dksX3_passes_1 : cX3_passes.data.toList.drop 24 = dktX3_passes_1 := dk_seg dksX3_passes_0 24 rfl rfl
theorem dksX3_passes_2 : cX3_passes.data.toList.drop 46 = dktX3_passes_2 := dk_seg dksX3_passes_1 22 rfl rfl
theorem dksX3_passes_3 : cX3_passes.data.toList.drop 70 = dktX3_passes_3 := dk_seg dksX3_passes_2 24 rfl rfl
theorem dksX3_passes_4 : cX3_passes.data.toList.drop 94 = dktX3_passes_4 := dk_seg dksX3_passes_3 24 rfl rfl
theorem dksX3_passes_5 : cX3_passes.data.toList.drop 118 = dktX3_passes_5 := dk_seg dksX3_passes_4 24 rfl rfl
theorem dksX3_passes_6 : cX3_passes.data.toList.drop 142 = dktX3_passes_6 := dk_seg dksX3_passes_5 24 rfl rfl
theorem dksX3_passes_7 : cX3_passes.data.toList.drop 165 = dktX3_passes_7 := dk_seg dksX3_passes_6 23 rfl rfl
theorem dksX3_passes_8 : cX3_passes.data.toList.drop 189 = dktX3_passes_8 := dk_seg dksX3_passes_7 24 rfl rfl
theorem dksX3_passes_9 : cX3_passes.data.toList.drop 212 = dktX3_passes_9 := dk_seg dksX3_passes_8 23 rfl rfl
theorem dksX3_passes_10 : cX3_passes.data.toList.drop 235 = dktX3_passes_10 := dk_seg dksX3_passes_9 23 rfl rfl
theorem dX3_passes_0 : decode cX3_passes 0 = .ok (.aload_n 0, 1) := dk_42 (dk_at dksX3_passes_0 0 rfl rfl)
theorem dX3_passes_1 : decode cX3_passes 1 = .ok (.getfield 9, 3) := dk_180 0 9 (dk_at dksX3_passes_0 1 rfl rfl)
theorem dX3_passes_4 : decode cX3_passes 4 = .ok (.iconst 0, 1) := dk_3 (dk_at dksX3_passes_0 4 rfl rfl)
theorem dX3_passes_5 : decode cX3_passes 5 = .ok (.dup2, 1) := dk_92 (dk_at dksX3_passes_0 5 rfl rfl)
theorem dX3_passes_6 : decode cX3_passes 6 = .ok (.iaload, 1) := dk_46 (dk_at dksX3_passes_0 6 rfl rfl)
theorem dX3_passes_7 : decode cX3_passes 7 = .ok (.iconst 1, 1) := dk_4 (dk_at dksX3_passes_0 7 rfl rfl)
theorem dX3_passes_8 : decode cX3_passes 8 = .ok (.iadd, 1) := dk_96 (dk_at dksX3_passes_0 8 rfl rfl)
theorem dX3_passes_9 : decode cX3_passes 9 = .ok (.iastore, 1) := dk_79 (dk_at dksX3_passes_0 9 rfl rfl)
theorem dX3_passes_10 : decode cX3_passes 10 = .ok (.iconst 0, 1) := dk_3 (dk_at dksX3_passes_0 10 rfl rfl)
theorem dX3_passes_11 : decode cX3_passes 11 = .ok (.istore_n 1, 1) := dk_60 (dk_at dksX3_passes_0 11 rfl rfl)
theorem dX3_passes_12 : decode cX3_passes 12 = .ok (.iload_n 1, 1) := dk_27 (dk_at dksX3_passes_0 12 rfl rfl)
theorem dX3_passes_13 : decode cX3_passes 13 = .ok (.bipush 6, 2) := dk_16 6 (dk_at dksX3_passes_0 13 rfl rfl)
theorem dX3_passes_15 : decode cX3_passes 15 = .ok (.if_icmp .ge 34, 3) := dk_162 0 34 (dk_at dksX3_passes_0 15 rfl rfl)
theorem dX3_passes_18 : decode cX3_passes 18 = .ok (.aload_n 0, 1) := dk_42 (dk_at dksX3_passes_0 18 rfl rfl)
theorem dX3_passes_19 : decode cX3_passes 19 = .ok (.getfield 9, 3) := dk_180 0 9 (dk_at dksX3_passes_0 19 rfl rfl)
theorem dX3_passes_22 : decode cX3_passes 22 = .ok (.bipush 12, 2) := dk_16 12 (dk_at dksX3_passes_0 22 rfl rfl)
theorem dX3_passes_24 : decode cX3_passes 24 = .ok (.iload_n 1, 1) := dk_27 (dk_at dksX3_passes_1 0 rfl rfl)
theorem dX3_passes_25 : decode cX3_passes 25 = .ok (.iadd, 1) := dk_96 (dk_at dksX3_passes_1 1 rfl rfl)
theorem dX3_passes_26 : decode cX3_passes 26 = .ok (.bipush 99, 2) := dk_16 99 (dk_at dksX3_passes_1 2 rfl rfl)
theorem dX3_passes_28 : decode cX3_passes 28 = .ok (.aload_n 0, 1) := dk_42 (dk_at dksX3_passes_1 4 rfl rfl)
theorem dX3_passes_29 : decode cX3_passes 29 = .ok (.getfield 9, 3) := dk_180 0 9 (dk_at dksX3_passes_1 5 rfl rfl)
theorem dX3_passes_32 : decode cX3_passes 32 = .ok (.bipush 12, 2) := dk_16 12 (dk_at dksX3_passes_1 8 rfl rfl)
theorem dX3_passes_34 : decode cX3_passes 34 = .ok (.iload_n 1, 1) := dk_27 (dk_at dksX3_passes_1 10 rfl rfl)
theorem dX3_passes_35 : decode cX3_passes 35 = .ok (.iadd, 1) := dk_96 (dk_at dksX3_passes_1 11 rfl rfl)
theorem dX3_passes_36 : decode cX3_passes 36 = .ok (.iaload, 1) := dk_46 (dk_at dksX3_passes_1 12 rfl rfl)
theorem dX3_passes_37 : decode cX3_passes 37 = .ok (.iconst 3, 1) := dk_6 (dk_at dksX3_passes_1 13 rfl rfl)
theorem dX3_passes_38 : decode cX3_passes 38 = .ok (.iadd, 1) := dk_96 (dk_at dksX3_passes_1 14 rfl rfl)
theorem dX3_passes_39 : decode cX3_passes 39 = .ok (.invokestatic 135, 3) := dk_184 0 135 (dk_at dksX3_passes_1 15 rfl rfl)
theorem dX3_passes_42 : decode cX3_passes 42 = .ok (.iastore, 1) := dk_79 (dk_at dksX3_passes_1 18 rfl rfl)
theorem dX3_passes_43 : decode cX3_passes 43 = .ok (.iinc 1 1, 3) := dk_132 1 1 (dk_at dksX3_passes_1 19 rfl rfl)
theorem dX3_passes_46 : decode cX3_passes 46 = .ok (.goto (-34), 3) := dk_167 255 222 (dk_at dksX3_passes_2 0 rfl rfl)
theorem dX3_passes_49 : decode cX3_passes 49 = .ok (.iconst 0, 1) := dk_3 (dk_at dksX3_passes_2 3 rfl rfl)
theorem dX3_passes_50 : decode cX3_passes 50 = .ok (.istore_n 1, 1) := dk_60 (dk_at dksX3_passes_2 4 rfl rfl)
theorem dX3_passes_51 : decode cX3_passes 51 = .ok (.iconst 0, 1) := dk_3 (dk_at dksX3_passes_2 5 rfl rfl)
theorem dX3_passes_52 : decode cX3_passes 52 = .ok (.istore_n 2, 1) := dk_61 (dk_at dksX3_passes_2 6 rfl rfl)
theorem dX3_passes_53 : decode cX3_passes 53 = .ok (.iload_n 2, 1) := dk_28 (dk_at dksX3_passes_2 7 rfl rfl)
theorem dX3_passes_54 : decode cX3_passes 54 = .ok (.aload_n 0, 1) := dk_42 (dk_at dksX3_passes_2 8 rfl rfl)
theorem dX3_passes_55 : decode cX3_passes 55 = .ok (.getfield 9, 3) := dk_180 0 9 (dk_at dksX3_passes_2 9 rfl rfl)
theorem dX3_passes_58 : decode cX3_passes 58 = .ok (.bipush 9, 2) := dk_16 9 (dk_at dksX3_passes_2 12 rfl rfl)
theorem dX3_passes_60 : decode cX3_passes 60 = .ok (.iaload, 1) := dk_46 (dk_at dksX3_passes_2 14 rfl rfl)
theorem dX3_passes_61 : decode cX3_passes 61 = .ok (.if_icmp .ge 68, 3) := dk_162 0 68 (dk_at dksX3_passes_2 15 rfl rfl)
theorem dX3_passes_64 : decode cX3_passes 64 = .ok (.aload_n 0, 1) := dk_42 (dk_at dksX3_passes_2 18 rfl rfl)
theorem dX3_passes_65 : decode cX3_passes 65 = .ok (.iload_n 2, 1) := dk_28 (dk_at dksX3_passes_2 19 rfl rfl)
theorem dX3_passes_66 : decode cX3_passes 66 = .ok (.iconst 4, 1) := dk_7 (dk_at dksX3_passes_2 20 rfl rfl)
theorem dX3_passes_67 : decode cX3_passes 67 = .ok (.invokevirtual 95, 3) := dk_182 0 95 (dk_at dksX3_passes_2 21 rfl rfl)
theorem dX3_passes_70 : decode cX3_passes 70 = .ok (.iconst 1, 1) := dk_4 (dk_at dksX3_passes_3 0 rfl rfl)
theorem dX3_passes_71 : decode cX3_passes 71 = .ok (.if_icmp .ne 7, 3) := dk_160 0 7 (dk_at dksX3_passes_3 1 rfl rfl)
theorem dX3_passes_74 : decode cX3_passes 74 = .ok (.iconst 1, 1) := dk_4 (dk_at dksX3_passes_3 4 rfl rfl)
theorem dX3_passes_75 : decode cX3_passes 75 = .ok (.goto 4, 3) := dk_167 0 4 (dk_at dksX3_passes_3 5 rfl rfl)
theorem dX3_passes_78 : decode cX3_passes 78 = .ok (.iconst 0, 1) := dk_3 (dk_at dksX3_passes_3 8 rfl rfl)
theorem dX3_passes_79 : decode cX3_passes 79 = .ok (.istore_n 3, 1) := dk_62 (dk_at dksX3_passes_3 9 rfl rfl)
theorem dX3_passes_80 : decode cX3_passes 80 = .ok (.aload_n 0, 1) := dk_42 (dk_at dksX3_passes_3 10 rfl rfl)
theorem dX3_passes_81 : decode cX3_passes 81 = .ok (.getfield 9, 3) := dk_180 0 9 (dk_at dksX3_passes_3 11 rfl rfl)
theorem dX3_passes_84 : decode cX3_passes 84 = .ok (.aload_n 0, 1) := dk_42 (dk_at dksX3_passes_3 14 rfl rfl)
theorem dX3_passes_85 : decode cX3_passes 85 = .ok (.iload_n 2, 1) := dk_28 (dk_at dksX3_passes_3 15 rfl rfl)
theorem dX3_passes_86 : decode cX3_passes 86 = .ok (.iconst 3, 1) := dk_6 (dk_at dksX3_passes_3 16 rfl rfl)
theorem dX3_passes_87 : decode cX3_passes 87 = .ok (.invokevirtual 80, 3) := dk_182 0 80 (dk_at dksX3_passes_3 17 rfl rfl)
theorem dX3_passes_90 : decode cX3_passes 90 = .ok (.iload_n 3, 1) := dk_29 (dk_at dksX3_passes_3 20 rfl rfl)
theorem dX3_passes_91 : decode cX3_passes 91 = .ok (.ifCond .eq 14, 3) := dk_153 0 14 (dk_at dksX3_passes_3 21 rfl rfl)
theorem dX3_passes_94 : decode cX3_passes 94 = .ok (.aload_n 0, 1) := dk_42 (dk_at dksX3_passes_4 0 rfl rfl)
theorem dX3_passes_95 : decode cX3_passes 95 = .ok (.iload_n 2, 1) := dk_28 (dk_at dksX3_passes_4 1 rfl rfl)
theorem dX3_passes_96 : decode cX3_passes 96 = .ok (.iconst 3, 1) := dk_6 (dk_at dksX3_passes_4 2 rfl rfl)
theorem dX3_passes_97 : decode cX3_passes 97 = .ok (.invokevirtual 95, 3) := dk_182 0 95 (dk_at dksX3_passes_4 3 rfl rfl)
theorem dX3_passes_100 : decode cX3_passes 100 = .ok (.iconst 1, 1) := dk_4 (dk_at dksX3_passes_4 6 rfl rfl)
theorem dX3_passes_101 : decode cX3_passes 101 = .ok (.iadd, 1) := dk_96 (dk_at dksX3_passes_4 7 rfl rfl)
theorem dX3_passes_102 : decode cX3_passes 102 = .ok (.goto 4, 3) := dk_167 0 4 (dk_at dksX3_passes_4 8 rfl rfl)
theorem dX3_passes_105 : decode cX3_passes 105 = .ok (.iconst 0, 1) := dk_3 (dk_at dksX3_passes_4 11 rfl rfl)
theorem dX3_passes_106 : decode cX3_passes 106 = .ok (.iastore, 1) := dk_79 (dk_at dksX3_passes_4 12 rfl rfl)
theorem dX3_passes_107 : decode cX3_passes 107 = .ok (.iload_n 1, 1) := dk_27 (dk_at dksX3_passes_4 13 rfl rfl)
theorem dX3_passes_108 : decode cX3_passes 108 = .ok (.iload_n 3, 1) := dk_29 (dk_at dksX3_passes_4 14 rfl rfl)
theorem dX3_passes_109 : decode cX3_passes 109 = .ok (.ifCond .eq 7, 3) := dk_153 0 7 (dk_at dksX3_passes_4 15 rfl rfl)
theorem dX3_passes_112 : decode cX3_passes 112 = .ok (.iconst 0, 1) := dk_3 (dk_at dksX3_passes_4 18 rfl rfl)
theorem dX3_passes_113 : decode cX3_passes 113 = .ok (.goto 8, 3) := dk_167 0 8 (dk_at dksX3_passes_4 19 rfl rfl)
theorem dX3_passes_116 : decode cX3_passes 116 = .ok (.aload_n 0, 1) := dk_42 (dk_at dksX3_passes_4 22 rfl rfl)
theorem dX3_passes_117 : decode cX3_passes 117 = .ok (.iload_n 2, 1) := dk_28 (dk_at dksX3_passes_4 23 rfl rfl)
theorem dX3_passes_118 : decode cX3_passes 118 = .ok (.invokevirtual 163, 3) := dk_182 0 163 (dk_at dksX3_passes_5 0 rfl rfl)
theorem dX3_passes_121 : decode cX3_passes 121 = .ok (.iadd, 1) := dk_96 (dk_at dksX3_passes_5 3 rfl rfl)
theorem dX3_passes_122 : decode cX3_passes 122 = .ok (.istore_n 1, 1) := dk_60 (dk_at dksX3_passes_5 4 rfl rfl)
theorem dX3_passes_123 : decode cX3_passes 123 = .ok (.iinc 2 1, 3) := dk_132 2 1 (dk_at dksX3_passes_5 5 rfl rfl)
theorem dX3_passes_126 : decode cX3_passes 126 = .ok (.goto (-73), 3) := dk_167 255 183 (dk_at dksX3_passes_5 8 rfl rfl)
theorem dX3_passes_129 : decode cX3_passes 129 = .ok (.iconst 0, 1) := dk_3 (dk_at dksX3_passes_5 11 rfl rfl)
theorem dX3_passes_130 : decode cX3_passes 130 = .ok (.istore_n 2, 1) := dk_61 (dk_at dksX3_passes_5 12 rfl rfl)
theorem dX3_passes_131 : decode cX3_passes 131 = .ok (.iload_n 2, 1) := dk_28 (dk_at dksX3_passes_5 13 rfl rfl)
theorem dX3_passes_132 : decode cX3_passes 132 = .ok (.aload_n 0, 1) := dk_42 (dk_at dksX3_passes_5 14 rfl rfl)
theorem dX3_passes_133 : decode cX3_passes 133 = .ok (.getfield 9, 3) := dk_180 0 9 (dk_at dksX3_passes_5 15 rfl rfl)
theorem dX3_passes_136 : decode cX3_passes 136 = .ok (.bipush 9, 2) := dk_16 9 (dk_at dksX3_passes_5 18 rfl rfl)
theorem dX3_passes_138 : decode cX3_passes 138 = .ok (.iaload, 1) := dk_46 (dk_at dksX3_passes_5 20 rfl rfl)
theorem dX3_passes_139 : decode cX3_passes 139 = .ok (.if_icmp .ge 95, 3) := dk_162 0 95 (dk_at dksX3_passes_5 21 rfl rfl)
theorem dX3_passes_142 : decode cX3_passes 142 = .ok (.aload_n 0, 1) := dk_42 (dk_at dksX3_passes_6 0 rfl rfl)
theorem dX3_passes_143 : decode cX3_passes 143 = .ok (.iload_n 2, 1) := dk_28 (dk_at dksX3_passes_6 1 rfl rfl)
theorem dX3_passes_144 : decode cX3_passes 144 = .ok (.iconst 3, 1) := dk_6 (dk_at dksX3_passes_6 2 rfl rfl)
theorem dX3_passes_145 : decode cX3_passes 145 = .ok (.invokevirtual 95, 3) := dk_182 0 95 (dk_at dksX3_passes_6 3 rfl rfl)
theorem dX3_passes_148 : decode cX3_passes 148 = .ok (.iconst 3, 1) := dk_6 (dk_at dksX3_passes_6 6 rfl rfl)
theorem dX3_passes_149 : decode cX3_passes 149 = .ok (.if_icmp .lt 8, 3) := dk_161 0 8 (dk_at dksX3_passes_6 7 rfl rfl)
theorem dX3_passes_152 : decode cX3_passes 152 = .ok (.aload_n 0, 1) := dk_42 (dk_at dksX3_passes_6 10 rfl rfl)
theorem dX3_passes_153 : decode cX3_passes 153 = .ok (.iload_n 2, 1) := dk_28 (dk_at dksX3_passes_6 11 rfl rfl)
theorem dX3_passes_154 : decode cX3_passes 154 = .ok (.invokevirtual 166, 3) := dk_182 0 166 (dk_at dksX3_passes_6 12 rfl rfl)
theorem dX3_passes_157 : decode cX3_passes 157 = .ok (.aload_n 0, 1) := dk_42 (dk_at dksX3_passes_6 15 rfl rfl)
theorem dX3_passes_158 : decode cX3_passes 158 = .ok (.iload_n 2, 1) := dk_28 (dk_at dksX3_passes_6 16 rfl rfl)
theorem dX3_passes_159 : decode cX3_passes 159 = .ok (.iconst 2, 1) := dk_5 (dk_at dksX3_passes_6 17 rfl rfl)
theorem dX3_passes_160 : decode cX3_passes 160 = .ok (.invokevirtual 95, 3) := dk_182 0 95 (dk_at dksX3_passes_6 18 rfl rfl)
theorem dX3_passes_163 : decode cX3_passes 163 = .ok (.istore_n 3, 1) := dk_62 (dk_at dksX3_passes_6 21 rfl rfl)
theorem dX3_passes_164 : decode cX3_passes 164 = .ok (.aload_n 0, 1) := dk_42 (dk_at dksX3_passes_6 22 rfl rfl)
theorem dX3_passes_165 : decode cX3_passes 165 = .ok (.getfield 9, 3) := dk_180 0 9 (dk_at dksX3_passes_7 0 rfl rfl)
theorem dX3_passes_168 : decode cX3_passes 168 = .ok (.iconst 0, 1) := dk_3 (dk_at dksX3_passes_7 3 rfl rfl)
theorem dX3_passes_169 : decode cX3_passes 169 = .ok (.iaload, 1) := dk_46 (dk_at dksX3_passes_7 4 rfl rfl)
theorem dX3_passes_170 : decode cX3_passes 170 = .ok (.bipush 7, 2) := dk_16 7 (dk_at dksX3_passes_7 5 rfl rfl)
theorem dX3_passes_172 : decode cX3_passes 172 = .ok (.irem, 1) := dk_112 (dk_at dksX3_passes_7 7 rfl rfl)
theorem dX3_passes_173 : decode cX3_passes 173 = .ok (.ifCond .ne 24, 3) := dk_154 0 24 (dk_at dksX3_passes_7 8 rfl rfl)
theorem dX3_passes_176 : decode cX3_passes 176 = .ok (.iload_n 3, 1) := dk_29 (dk_at dksX3_passes_7 11 rfl rfl)
theorem dX3_passes_177 : decode cX3_passes 177 = .ok (.ifCond .le 20, 3) := dk_158 0 20 (dk_at dksX3_passes_7 12 rfl rfl)
theorem dX3_passes_180 : decode cX3_passes 180 = .ok (.sipush 999, 3) := dk_17 3 231 (dk_at dksX3_passes_7 15 rfl rfl)
theorem dX3_passes_183 : decode cX3_passes 183 = .ok (.iload_n 3, 1) := dk_29 (dk_at dksX3_passes_7 18 rfl rfl)
theorem dX3_passes_184 : decode cX3_passes 184 = .ok (.isub, 1) := dk_100 (dk_at dksX3_passes_7 19 rfl rfl)
theorem dX3_passes_185 : decode cX3_passes 185 = .ok (.iload_n 3, 1) := dk_29 (dk_at dksX3_passes_7 20 rfl rfl)
theorem dX3_passes_186 : decode cX3_passes 186 = .ok (.bipush 10, 2) := dk_16 10 (dk_at dksX3_passes_7 21 rfl rfl)
theorem dX3_passes_188 : decode cX3_passes 188 = .ok (.idiv, 1) := dk_108 (dk_at dksX3_passes_7 23 rfl rfl)
theorem dX3_passes_189 : decode cX3_passes 189 = .ok (.iconst 1, 1) := dk_4 (dk_at dksX3_passes_8 0 rfl rfl)
theorem dX3_passes_190 : decode cX3_passes 190 = .ok (.iadd, 1) := dk_96 (dk_at dksX3_passes_8 1 rfl rfl)
theorem dX3_passes_191 : decode cX3_passes 191 = .ok (.invokestatic 135, 3) := dk_184 0 135 (dk_at dksX3_passes_8 2 rfl rfl)
theorem dX3_passes_194 : decode cX3_passes 194 = .ok (.goto 4, 3) := dk_167 0 4 (dk_at dksX3_passes_8 5 rfl rfl)
theorem dX3_passes_197 : decode cX3_passes 197 = .ok (.iconst 0, 1) := dk_3 (dk_at dksX3_passes_8 8 rfl rfl)
theorem dX3_passes_198 : decode cX3_passes 198 = .ok (.istore 4, 2) := dk_54 4 (dk_at dksX3_passes_8 9 rfl rfl)
theorem dX3_passes_200 : decode cX3_passes 200 = .ok (.aload_n 0, 1) := dk_42 (dk_at dksX3_passes_8 11 rfl rfl)
theorem dX3_passes_201 : decode cX3_passes 201 = .ok (.getfield 9, 3) := dk_180 0 9 (dk_at dksX3_passes_8 12 rfl rfl)
theorem dX3_passes_204 : decode cX3_passes 204 = .ok (.aload_n 0, 1) := dk_42 (dk_at dksX3_passes_8 15 rfl rfl)
theorem dX3_passes_205 : decode cX3_passes 205 = .ok (.iload_n 2, 1) := dk_28 (dk_at dksX3_passes_8 16 rfl rfl)
theorem dX3_passes_206 : decode cX3_passes 206 = .ok (.iconst 2, 1) := dk_5 (dk_at dksX3_passes_8 17 rfl rfl)
theorem dX3_passes_207 : decode cX3_passes 207 = .ok (.invokevirtual 80, 3) := dk_182 0 80 (dk_at dksX3_passes_8 18 rfl rfl)
theorem dX3_passes_210 : decode cX3_passes 210 = .ok (.dup2, 1) := dk_92 (dk_at dksX3_passes_8 21 rfl rfl)
theorem dX3_passes_211 : decode cX3_passes 211 = .ok (.iaload, 1) := dk_46 (dk_at dksX3_passes_8 22 rfl rfl)
theorem dX3_passes_212 : decode cX3_passes 212 = .ok (.iload 4, 2) := dk_21 4 (dk_at dksX3_passes_9 0 rfl rfl)
theorem dX3_passes_214 : decode cX3_passes 214 = .ok (.iadd, 1) := dk_96 (dk_at dksX3_passes_9 2 rfl rfl)
theorem dX3_passes_215 : decode cX3_passes 215 = .ok (.iastore, 1) := dk_79 (dk_at dksX3_passes_9 3 rfl rfl)
theorem dX3_passes_216 : decode cX3_passes 216 = .ok (.aload_n 0, 1) := dk_42 (dk_at dksX3_passes_9 4 rfl rfl)
theorem dX3_passes_217 : decode cX3_passes 217 = .ok (.getfield 9, 3) := dk_180 0 9 (dk_at dksX3_passes_9 5 rfl rfl)
theorem dX3_passes_220 : decode cX3_passes 220 = .ok (.bipush 7, 2) := dk_16 7 (dk_at dksX3_passes_9 8 rfl rfl)
theorem dX3_passes_222 : decode cX3_passes 222 = .ok (.dup2, 1) := dk_92 (dk_at dksX3_passes_9 10 rfl rfl)
theorem dX3_passes_223 : decode cX3_passes 223 = .ok (.iaload, 1) := dk_46 (dk_at dksX3_passes_9 11 rfl rfl)
theorem dX3_passes_224 : decode cX3_passes 224 = .ok (.iload 4, 2) := dk_21 4 (dk_at dksX3_passes_9 12 rfl rfl)
theorem dX3_passes_226 : decode cX3_passes 226 = .ok (.iadd, 1) := dk_96 (dk_at dksX3_passes_9 14 rfl rfl)
theorem dX3_passes_227 : decode cX3_passes 227 = .ok (.iastore, 1) := dk_79 (dk_at dksX3_passes_9 15 rfl rfl)
theorem dX3_passes_228 : decode cX3_passes 228 = .ok (.iinc 2 1, 3) := dk_132 2 1 (dk_at dksX3_passes_9 16 rfl rfl)
theorem dX3_passes_231 : decode cX3_passes 231 = .ok (.goto (-100), 3) := dk_167 255 156 (dk_at dksX3_passes_9 19 rfl rfl)
theorem dX3_passes_234 : decode cX3_passes 234 = .ok (.aload_n 0, 1) := dk_42 (dk_at dksX3_passes_9 22 rfl rfl)
theorem dX3_passes_235 : decode cX3_passes 235 = .ok (.getfield 9, 3) := dk_180 0 9 (dk_at dksX3_passes_10 0 rfl rfl)
theorem dX3_passes_238 : decode cX3_passes 238 = .ok (.iconst 4, 1) := dk_7 (dk_at dksX3_passes_10 3 rfl rfl)
theorem dX3_passes_239 : decode cX3_passes 239 = .ok (.dup2, 1) := dk_92 (dk_at dksX3_passes_10 4 rfl rfl)
theorem dX3_passes_240 : decode cX3_passes 240 = .ok (.iaload, 1) := dk_46 (dk_at dksX3_passes_10 5 rfl rfl)
theorem dX3_passes_241 : decode cX3_passes 241 = .ok (.iload_n 1, 1) := dk_27 (dk_at dksX3_passes_10 6 rfl rfl)
theorem dX3_passes_242 : decode cX3_passes 242 = .ok (.iadd, 1) := dk_96 (dk_at dksX3_passes_10 7 rfl rfl)
theorem dX3_passes_243 : decode cX3_passes 243 = .ok (.iastore, 1) := dk_79 (dk_at dksX3_passes_10 8 rfl rfl)
theorem dX3_passes_244 : decode cX3_passes 244 = .ok (.iload_n 1, 1) := dk_27 (dk_at dksX3_passes_10 9 rfl rfl)
theorem dX3_passes_245 : decode cX3_passes 245 = .ok (.ireturn, 1) := dk_172 (dk_at dksX3_passes_10 10 rfl rfl)
abbrev cX3_works : ByteArray := prog_26_method_47_code
def yX3_works : MethodName := ⟨RX3, "works", "(I)I"⟩
def dkwX3_works_5 : List UInt8 := [167, 255, 159, 21, 4, 172, 21, 4, 172]
abbrev dktX3_works_5 : List UInt8 := dkwX3_works_5 ++ []
def dkwX3_works_4 : List UInt8 := [21, 6, 46, 29, 100, 184, 0, 90, 79, 42, 21, 5, 182, 0, 160, 42, 21, 5, 182, 0, 138, 132, 4, 1]
abbrev dktX3_works_4 : List UInt8 := dkwX3_works_4 ++ dktX3_works_5
def dkwX3_works_3 : List UInt8 := [16, 12, 42, 21, 5, 5, 182, 0, 84, 96, 54, 6, 42, 180, 0, 9, 21, 6, 3, 42, 180, 0, 9]
abbrev dktX3_works_3 : List UInt8 := dkwX3_works_3 ++ dktX3_works_4
def dkwX3_works_2 : List UInt8 := [167, 255, 230, 42, 21, 5, 7, 182, 0, 84, 28, 163, 0, 63, 28, 42, 21, 5, 7, 182, 0, 84, 100, 61]
abbrev dktX3_works_2 : List UInt8 := dkwX3_works_2 ++ dktX3_works_3
def dkwX3_works_1 : List UInt8 := [180, 0, 9, 16, 11, 46, 162, 0, 94, 42, 21, 5, 4, 182, 0, 84, 27, 159, 0, 9, 132, 5, 1]
abbrev dktX3_works_1 : List UInt8 := dkwX3_works_1 ++ dktX3_works_2
def dkwX3_works_0 : List UInt8 := [42, 27, 182, 0, 154, 61, 16, 10, 42, 182, 0, 157, 96, 62, 3, 54, 4, 3, 54, 5, 21, 5, 42]
abbrev dktX3_works_0 : List UInt8 := dkwX3_works_0 ++ dktX3_works_1
theorem dksX3_works_0 : cX3_works.data.toList.drop 0 = dktX3_works_0 := by decide +kernel
theorem dksX3_works_1 : cX3_works.data.toList.drop 23 = dktX3_works_1 := dk_seg dksX3_works_0 23 rfl rfl
theorem dksX3_works_2 : cX3_works.data.toList.drop 46 = dktX3_works_2 := dk_seg dksX3_works_1 23 rfl rfl
theorem dksX3_works_3 : cX3_works.data.toList.drop 70 = dktX3_works_3 := dk_seg dksX3_works_2 24 rfl rfl
theorem dksX3_works_4 : cX3_works.data.toList.drop 93 = dktX3_works_4 := dk_seg dksX3_works_3 23 rfl rfl
theorem dksX3_works_5 : cX3_works.data.toList.drop 117 = dktX3_works_5 := dk_seg dksX3_works_4 24 rfl rfl
theorem dX3_works_0 : decode cX3_works 0 = .ok (.aload_n 0, 1) := dk_42 (dk_at dksX3_works_0 0 rfl rfl)
theorem dX3_works_1 : decode cX3_works 1 = .ok (.iload_n 1, 1) := dk_27 (dk_at dksX3_works_0 1 rfl rfl)
theorem dX3_works_2 : decode cX3_works 2 = .ok (.invokevirtual 154, 3) := dk_182 0 154 (dk_at dksX3_works_0 2 rfl rfl)
theorem dX3_works_5 : decode cX3_works 5 = .ok (.istore_n 2, 1) := dk_61 (dk_at dksX3_works_0 5 rfl rfl)
theorem dX3_works_6 : decode cX3_works 6 = .ok (.bipush 10, 2) := dk_16 10 (dk_at dksX3_works_0 6 rfl rfl)
theorem dX3_works_8 : decode cX3_works 8 = .ok (.aload_n 0, 1) := dk_42 (dk_at dksX3_works_0 8 rfl rfl)
theorem dX3_works_9 : decode cX3_works 9 = .ok (.invokevirtual 157, 3) := dk_182 0 157 (dk_at dksX3_works_0 9 rfl rfl)
theorem dX3_works_12 : decode cX3_works 12 = .ok (.iadd, 1) := dk_96 (dk_at dksX3_works_0 12 rfl rfl)
theorem dX3_works_13 : decode cX3_works 13 = .ok (.istore_n 3, 1) := dk_62 (dk_at dksX3_works_0 13 rfl rfl)
theorem dX3_works_14 : decode cX3_works 14 = .ok (.iconst 0, 1) := dk_3 (dk_at dksX3_works_0 14 rfl rfl)
theorem dX3_works_15 : decode cX3_works 15 = .ok (.istore 4, 2) := dk_54 4 (dk_at dksX3_works_0 15 rfl rfl)
theorem dX3_works_17 : decode cX3_works 17 = .ok (.iconst 0, 1) := dk_3 (dk_at dksX3_works_0 17 rfl rfl)
theorem dX3_works_18 : decode cX3_works 18 = .ok (.istore 5, 2) := dk_54 5 (dk_at dksX3_works_0 18 rfl rfl)
theorem dX3_works_20 : decode cX3_works 20 = .ok (.iload 5, 2) := dk_21 5 (dk_at dksX3_works_0 20 rfl rfl)
theorem dX3_works_22 : decode cX3_works 22 = .ok (.aload_n 0, 1) := dk_42 (dk_at dksX3_works_0 22 rfl rfl)
theorem dX3_works_23 : decode cX3_works 23 = .ok (.getfield 9, 3) := dk_180 0 9 (dk_at dksX3_works_1 0 rfl rfl)
theorem dX3_works_26 : decode cX3_works 26 = .ok (.bipush 11, 2) := dk_16 11 (dk_at dksX3_works_1 3 rfl rfl)
theorem dX3_works_28 : decode cX3_works 28 = .ok (.iaload, 1) := dk_46 (dk_at dksX3_works_1 5 rfl rfl)
theorem dX3_works_29 : decode cX3_works 29 = .ok (.if_icmp .ge 94, 3) := dk_162 0 94 (dk_at dksX3_works_1 6 rfl rfl)
theorem dX3_works_32 : decode cX3_works 32 = .ok (.aload_n 0, 1) := dk_42 (dk_at dksX3_works_1 9 rfl rfl)
theorem dX3_works_33 : decode cX3_works 33 = .ok (.iload 5, 2) := dk_21 5 (dk_at dksX3_works_1 10 rfl rfl)
theorem dX3_works_35 : decode cX3_works 35 = .ok (.iconst 1, 1) := dk_4 (dk_at dksX3_works_1 12 rfl rfl)
theorem dX3_works_36 : decode cX3_works 36 = .ok (.invokevirtual 84, 3) := dk_182 0 84 (dk_at dksX3_works_1 13 rfl rfl)
theorem dX3_works_39 : decode cX3_works 39 = .ok (.iload_n 1, 1) := dk_27 (dk_at dksX3_works_1 16 rfl rfl)
theorem dX3_works_40 : decode cX3_works 40 = .ok (.if_icmp .eq 9, 3) := dk_159 0 9 (dk_at dksX3_works_1 17 rfl rfl)
theorem dX3_works_43 : decode cX3_works 43 = .ok (.iinc 5 1, 3) := dk_132 5 1 (dk_at dksX3_works_1 20 rfl rfl)
theorem dX3_works_46 : decode cX3_works 46 = .ok (.goto (-26), 3) := dk_167 255 230 (dk_at dksX3_works_2 0 rfl rfl)
theorem dX3_works_49 : decode cX3_works 49 = .ok (.aload_n 0, 1) := dk_42 (dk_at dksX3_works_2 3 rfl rfl)
theorem dX3_works_50 : decode cX3_works 50 = .ok (.iload 5, 2) := dk_21 5 (dk_at dksX3_works_2 4 rfl rfl)
theorem dX3_works_52 : decode cX3_works 52 = .ok (.iconst 4, 1) := dk_7 (dk_at dksX3_works_2 6 rfl rfl)
theorem dX3_works_53 : decode cX3_works 53 = .ok (.invokevirtual 84, 3) := dk_182 0 84 (dk_at dksX3_works_2 7 rfl rfl)
theorem dX3_works_56 : decode cX3_works 56 = .ok (.iload_n 2, 1) := dk_28 (dk_at dksX3_works_2 10 rfl rfl)
theorem dX3_works_57 : decode cX3_works 57 = .ok (.if_icmp .gt 63, 3) := dk_163 0 63 (dk_at dksX3_works_2 11 rfl rfl)
theorem dX3_works_60 : decode cX3_works 60 = .ok (.iload_n 2, 1) := dk_28 (dk_at dksX3_works_2 14 rfl rfl)
theorem dX3_works_61 : decode cX3_works 61 = .ok (.aload_n 0, 1) := dk_42 (dk_at dksX3_works_2 15 rfl rfl)
theorem dX3_works_62 : decode cX3_works 62 = .ok (.iload 5, 2) := dk_21 5 (dk_at dksX3_works_2 16 rfl rfl)
theorem dX3_works_64 : decode cX3_works 64 = .ok (.iconst 4, 1) := dk_7 (dk_at dksX3_works_2 18 rfl rfl)
theorem dX3_works_65 : decode cX3_works 65 = .ok (.invokevirtual 84, 3) := dk_182 0 84 (dk_at dksX3_works_2 19 rfl rfl)
theorem dX3_works_68 : decode cX3_works 68 = .ok (.isub, 1) := dk_100 (dk_at dksX3_works_2 22 rfl rfl)
theorem dX3_works_69 : decode cX3_works 69 = .ok (.istore_n 2, 1) := dk_61 (dk_at dksX3_works_2 23 rfl rfl)
theorem dX3_works_70 : decode cX3_works 70 = .ok (.bipush 12, 2) := dk_16 12 (dk_at dksX3_works_3 0 rfl rfl)
theorem dX3_works_72 : decode cX3_works 72 = .ok (.aload_n 0, 1) := dk_42 (dk_at dksX3_works_3 2 rfl rfl)
theorem dX3_works_73 : decode cX3_works 73 = .ok (.iload 5, 2) := dk_21 5 (dk_at dksX3_works_3 3 rfl rfl)
theorem dX3_works_75 : decode cX3_works 75 = .ok (.iconst 2, 1) := dk_5 (dk_at dksX3_works_3 5 rfl rfl)
theorem dX3_works_76 : decode cX3_works 76 = .ok (.invokevirtual 84, 3) := dk_182 0 84 (dk_at dksX3_works_3 6 rfl rfl)
theorem dX3_works_79 : decode cX3_works 79 = .ok (.iadd, 1) := dk_96 (dk_at dksX3_works_3 9 rfl rfl)
theorem dX3_works_80 : decode cX3_works 80 = .ok (.istore 6, 2) := dk_54 6 (dk_at dksX3_works_3 10 rfl rfl)
theorem dX3_works_82 : decode cX3_works 82 = .ok (.aload_n 0, 1) := dk_42 (dk_at dksX3_works_3 12 rfl rfl)
theorem dX3_works_83 : decode cX3_works 83 = .ok (.getfield 9, 3) := dk_180 0 9 (dk_at dksX3_works_3 13 rfl rfl)
theorem dX3_works_86 : decode cX3_works 86 = .ok (.iload 6, 2) := dk_21 6 (dk_at dksX3_works_3 16 rfl rfl)
theorem dX3_works_88 : decode cX3_works 88 = .ok (.iconst 0, 1) := dk_3 (dk_at dksX3_works_3 18 rfl rfl)
theorem dX3_works_89 : decode cX3_works 89 = .ok (.aload_n 0, 1) := dk_42 (dk_at dksX3_works_3 19 rfl rfl)
theorem dX3_works_90 : decode cX3_works 90 = .ok (.getfield 9, 3) := dk_180 0 9 (dk_at dksX3_works_3 20 rfl rfl)
theorem dX3_works_93 : decode cX3_works 93 = .ok (.iload 6, 2) := dk_21 6 (dk_at dksX3_works_4 0 rfl rfl)
theorem dX3_works_95 : decode cX3_works 95 = .ok (.iaload, 1) := dk_46 (dk_at dksX3_works_4 2 rfl rfl)
theorem dX3_works_96 : decode cX3_works 96 = .ok (.iload_n 3, 1) := dk_29 (dk_at dksX3_works_4 3 rfl rfl)
theorem dX3_works_97 : decode cX3_works 97 = .ok (.isub, 1) := dk_100 (dk_at dksX3_works_4 4 rfl rfl)
theorem dX3_works_98 : decode cX3_works 98 = .ok (.invokestatic 90, 3) := dk_184 0 90 (dk_at dksX3_works_4 5 rfl rfl)
theorem dX3_works_101 : decode cX3_works 101 = .ok (.iastore, 1) := dk_79 (dk_at dksX3_works_4 8 rfl rfl)
theorem dX3_works_102 : decode cX3_works 102 = .ok (.aload_n 0, 1) := dk_42 (dk_at dksX3_works_4 9 rfl rfl)
theorem dX3_works_103 : decode cX3_works 103 = .ok (.iload 5, 2) := dk_21 5 (dk_at dksX3_works_4 10 rfl rfl)
theorem dX3_works_105 : decode cX3_works 105 = .ok (.invokevirtual 160, 3) := dk_182 0 160 (dk_at dksX3_works_4 12 rfl rfl)
theorem dX3_works_108 : decode cX3_works 108 = .ok (.aload_n 0, 1) := dk_42 (dk_at dksX3_works_4 15 rfl rfl)
theorem dX3_works_109 : decode cX3_works 109 = .ok (.iload 5, 2) := dk_21 5 (dk_at dksX3_works_4 16 rfl rfl)
theorem dX3_works_111 : decode cX3_works 111 = .ok (.invokevirtual 138, 3) := dk_182 0 138 (dk_at dksX3_works_4 18 rfl rfl)
theorem dX3_works_114 : decode cX3_works 114 = .ok (.iinc 4 1, 3) := dk_132 4 1 (dk_at dksX3_works_4 21 rfl rfl)
theorem dX3_works_117 : decode cX3_works 117 = .ok (.goto (-97), 3) := dk_167 255 159 (dk_at dksX3_works_5 0 rfl rfl)
theorem dX3_works_120 : decode cX3_works 120 = .ok (.iload 4, 2) := dk_21 4 (dk_at dksX3_works_5 3 rfl rfl)
theorem dX3_works_122 : decode cX3_works 122 = .ok (.ireturn, 1) := dk_172 (dk_at dksX3_works_5 5 rfl rfl)
theorem dX3_works_123 : decode cX3_works 123 = .ok (.iload 4, 2) := dk_21 4 (dk_at dksX3_works_5 6 rfl rfl)
theorem dX3_works_125 : decode cX3_works 125 = .ok (.ireturn, 1) := dk_172 (dk_at dksX3_works_5 8 rfl rfl)
abbrev cX3_energyOf : ByteArray := prog_26_method_24_code
def yX3_energyOf : MethodName := ⟨RX3, "energyOf", "(I)I"⟩
def dkwX3_energyOf_0 : List UInt8 := [42, 27, 3, 182, 0, 95, 42, 182, 0, 98, 4, 96, 104, 172]
abbrev dktX3_energyOf_0 : List UInt8 := dkwX3_energyOf_0 ++ []
theorem dksX3_energyOf_0 : cX3_energyOf.data.toList.drop 0 = dktX3_energyOf_0 := by decide +kernel
theorem dX3_energyOf_0 : decode cX3_energyOf 0 = .ok (.aload_n 0, 1) := dk_42 (dk_at dksX3_energyOf_0 0 rfl rfl)
theorem dX3_energyOf_1 : decode cX3_energyOf 1 = .ok (.iload_n 1, 1) := dk_27 (dk_at dksX3_energyOf_0 1 rfl rfl)
theorem dX3_energyOf_2 : decode cX3_energyOf 2 = .ok (.iconst 0, 1) := dk_3 (dk_at dksX3_energyOf_0 2 rfl rfl)
theorem dX3_energyOf_3 : decode cX3_energyOf 3 = .ok (.invokevirtual 95, 3) := dk_182 0 95 (dk_at dksX3_energyOf_0 3 rfl rfl)
theorem dX3_energyOf_6 : decode cX3_energyOf 6 = .ok (.aload_n 0, 1) := dk_42 (dk_at dksX3_energyOf_0 6 rfl rfl)
theorem dX3_energyOf_7 : decode cX3_energyOf 7 = .ok (.invokevirtual 98, 3) := dk_182 0 98 (dk_at dksX3_energyOf_0 7 rfl rfl)
theorem dX3_energyOf_10 : decode cX3_energyOf 10 = .ok (.iconst 1, 1) := dk_4 (dk_at dksX3_energyOf_0 10 rfl rfl)
theorem dX3_energyOf_11 : decode cX3_energyOf 11 = .ok (.iadd, 1) := dk_96 (dk_at dksX3_energyOf_0 11 rfl rfl)
theorem dX3_energyOf_12 : decode cX3_energyOf 12 = .ok (.imul, 1) := dk_104 (dk_at dksX3_energyOf_0 12 rfl rfl)
theorem dX3_energyOf_13 : decode cX3_energyOf 13 = .ok (.ireturn, 1) := dk_172 (dk_at dksX3_energyOf_0 13 rfl rfl)
abbrev cX3_greatestPower : ByteArray := prog_26_method_23_code
def yX3_greatestPower : MethodName := ⟨RX3, "greatestPower", "()I"⟩
def dkwX3_greatestPower_2 : List UInt8 := [27, 172]
abbrev dktX3_greatestPower_2 : List UInt8 := dkwX3_greatestPower_2 ++ []
def dkwX3_greatestPower_1 : List UInt8 := [160, 0, 7, 27, 167, 0, 13, 27, 42, 28, 3, 182, 0, 87, 184, 0, 90, 60, 132, 2, 1, 167, 255, 217]
abbrev dktX3_greatestPower_1 : List UInt8 := dkwX3_greatestPower_1 ++ dktX3_greatestPower_2
def dkwX3_greatestPower_0 : List UInt8 := [3, 60, 3, 61, 28, 42, 180, 0, 9, 16, 8, 46, 162, 0, 34, 42, 28, 4, 182, 0, 87, 4]
abbrev dktX3_greatestPower_0 : List UInt8 := dkwX3_greatestPower_0 ++ dktX3_greatestPower_1
theorem dksX3_greatestPower_0 : cX3_greatestPower.data.toList.drop 0 = dktX3_greatestPower_0 := by decide +kernel
theorem dksX3_greatestPower_1 : cX3_greatestPower.data.toList.drop 22 = dktX3_greatestPower_1 := dk_seg dksX3_greatestPower_0 22 rfl rfl
theorem dksX3_greatestPower_2 : cX3_greatestPower.data.toList.drop 46 = dktX3_greatestPower_2 := dk_seg dksX3_greatestPower_1 24 rfl rfl
theorem dX3_greatestPower_0 : decode cX3_greatestPower 0 = .ok (.iconst 0, 1) := dk_3 (dk_at dksX3_greatestPower_0 0 rfl rfl)
theorem dX3_greatestPower_1 : decode cX3_greatestPower 1 = .ok (.istore_n 1, 1) := dk_60 (dk_at dksX3_greatestPower_0 1 rfl rfl)
theorem dX3_greatestPower_2 : decode cX3_greatestPower 2 = .ok (.iconst 0, 1) := dk_3 (dk_at dksX3_greatestPower_0 2 rfl rfl)
theorem dX3_greatestPower_3 : decode cX3_greatestPower 3 = .ok (.istore_n 2, 1) := dk_61 (dk_at dksX3_greatestPower_0 3 rfl rfl)
theorem dX3_greatestPower_4 : decode cX3_greatestPower 4 = .ok (.iload_n 2, 1) := dk_28 (dk_at dksX3_greatestPower_0 4 rfl rfl)
theorem dX3_greatestPower_5 : decode cX3_greatestPower 5 = .ok (.aload_n 0, 1) := dk_42 (dk_at dksX3_greatestPower_0 5 rfl rfl)
theorem dX3_greatestPower_6 : decode cX3_greatestPower 6 = .ok (.getfield 9, 3) := dk_180 0 9 (dk_at dksX3_greatestPower_0 6 rfl rfl)
theorem dX3_greatestPower_9 : decode cX3_greatestPower 9 = .ok (.bipush 8, 2) := dk_16 8 (dk_at dksX3_greatestPower_0 9 rfl rfl)
theorem dX3_greatestPower_11 : decode cX3_greatestPower 11 = .ok (.iaload, 1) := dk_46 (dk_at dksX3_greatestPower_0 11 rfl rfl)
theorem dX3_greatestPower_12 : decode cX3_greatestPower 12 = .ok (.if_icmp .ge 34, 3) := dk_162 0 34 (dk_at dksX3_greatestPower_0 12 rfl rfl)
theorem dX3_greatestPower_15 : decode cX3_greatestPower 15 = .ok (.aload_n 0, 1) := dk_42 (dk_at dksX3_greatestPower_0 15 rfl rfl)
theorem dX3_greatestPower_16 : decode cX3_greatestPower 16 = .ok (.iload_n 2, 1) := dk_28 (dk_at dksX3_greatestPower_0 16 rfl rfl)
theorem dX3_greatestPower_17 : decode cX3_greatestPower 17 = .ok (.iconst 1, 1) := dk_4 (dk_at dksX3_greatestPower_0 17 rfl rfl)
theorem dX3_greatestPower_18 : decode cX3_greatestPower 18 = .ok (.invokevirtual 87, 3) := dk_182 0 87 (dk_at dksX3_greatestPower_0 18 rfl rfl)
theorem dX3_greatestPower_21 : decode cX3_greatestPower 21 = .ok (.iconst 1, 1) := dk_4 (dk_at dksX3_greatestPower_0 21 rfl rfl)
theorem dX3_greatestPower_22 : decode cX3_greatestPower 22 = .ok (.if_icmp .ne 7, 3) := dk_160 0 7 (dk_at dksX3_greatestPower_1 0 rfl rfl)
theorem dX3_greatestPower_25 : decode cX3_greatestPower 25 = .ok (.iload_n 1, 1) := dk_27 (dk_at dksX3_greatestPower_1 3 rfl rfl)
theorem dX3_greatestPower_26 : decode cX3_greatestPower 26 = .ok (.goto 13, 3) := dk_167 0 13 (dk_at dksX3_greatestPower_1 4 rfl rfl)
theorem dX3_greatestPower_29 : decode cX3_greatestPower 29 = .ok (.iload_n 1, 1) := dk_27 (dk_at dksX3_greatestPower_1 7 rfl rfl)
theorem dX3_greatestPower_30 : decode cX3_greatestPower 30 = .ok (.aload_n 0, 1) := dk_42 (dk_at dksX3_greatestPower_1 8 rfl rfl)
theorem dX3_greatestPower_31 : decode cX3_greatestPower 31 = .ok (.iload_n 2, 1) := dk_28 (dk_at dksX3_greatestPower_1 9 rfl rfl)
theorem dX3_greatestPower_32 : decode cX3_greatestPower 32 = .ok (.iconst 0, 1) := dk_3 (dk_at dksX3_greatestPower_1 10 rfl rfl)
theorem dX3_greatestPower_33 : decode cX3_greatestPower 33 = .ok (.invokevirtual 87, 3) := dk_182 0 87 (dk_at dksX3_greatestPower_1 11 rfl rfl)
theorem dX3_greatestPower_36 : decode cX3_greatestPower 36 = .ok (.invokestatic 90, 3) := dk_184 0 90 (dk_at dksX3_greatestPower_1 14 rfl rfl)
theorem dX3_greatestPower_39 : decode cX3_greatestPower 39 = .ok (.istore_n 1, 1) := dk_60 (dk_at dksX3_greatestPower_1 17 rfl rfl)
theorem dX3_greatestPower_40 : decode cX3_greatestPower 40 = .ok (.iinc 2 1, 3) := dk_132 2 1 (dk_at dksX3_greatestPower_1 18 rfl rfl)
theorem dX3_greatestPower_43 : decode cX3_greatestPower 43 = .ok (.goto (-39), 3) := dk_167 255 217 (dk_at dksX3_greatestPower_1 21 rfl rfl)
theorem dX3_greatestPower_46 : decode cX3_greatestPower 46 = .ok (.iload_n 1, 1) := dk_27 (dk_at dksX3_greatestPower_2 0 rfl rfl)
theorem dX3_greatestPower_47 : decode cX3_greatestPower 47 = .ok (.ireturn, 1) := dk_172 (dk_at dksX3_greatestPower_2 1 rfl rfl)
abbrev cX3_pays : ByteArray := prog_26_method_46_code
def yX3_pays : MethodName := ⟨RX3, "pays", "(I)V"⟩
def dkwX3_pays_4 : List UInt8 := [182, 0, 84, 29, 100, 96, 79, 177]
abbrev dktX3_pays_4 : List UInt8 := dkwX3_pays_4 ++ []
def dkwX3_pays_3 : List UInt8 := [182, 0, 80, 92, 46, 29, 21, 4, 100, 96, 79, 42, 180, 0, 9, 16, 6, 92, 46, 42, 27, 6]
abbrev dktX3_pays_3 : List UInt8 := dkwX3_pays_3 ++ dktX3_pays_4
def dkwX3_pays_2 : List UInt8 := [42, 180, 0, 9, 42, 28, 5, 182, 0, 80, 92, 46, 21, 4, 100, 79, 42, 180, 0, 9, 42, 28, 4]
abbrev dktX3_pays_2 : List UInt8 := dkwX3_pays_2 ++ dktX3_pays_3
def dkwX3_pays_1 : List UInt8 := [42, 28, 5, 182, 0, 95, 184, 0, 135, 54, 4, 42, 180, 0, 9, 4, 92, 46, 21, 4, 29, 100, 96, 79]
abbrev dktX3_pays_1 : List UInt8 := dkwX3_pays_1 ++ dktX3_pays_2
def dkwX3_pays_0 : List UInt8 := [42, 27, 4, 182, 0, 84, 61, 42, 27, 6, 182, 0, 84, 42, 180, 0, 9, 4, 46, 184, 0, 135, 62, 29]
abbrev dktX3_pays_0 : List UInt8 := dkwX3_pays_0 ++ dktX3_pays_1
theorem dksX3_pays_0 : cX3_pays.data.toList.drop 0 = dktX3_pays_0 := by decide +kernel
theorem dksX3_pays_1 : cX3_pays.data.toList.drop 24 = dktX3_pays_1 := dk_seg dksX3_pays_0 24 rfl rfl
theorem dksX3_pays_2 : cX3_pays.data.toList.drop 48 = dktX3_pays_2 := dk_seg dksX3_pays_1 24 rfl rfl
theorem dksX3_pays_3 : cX3_pays.data.toList.drop 71 = dktX3_pays_3 := dk_seg dksX3_pays_2 23 rfl rfl
theorem dksX3_pays_4 : cX3_pays.data.toList.drop 93 = dktX3_pays_4 := dk_seg dksX3_pays_3 22 rfl rfl
theorem dX3_pays_0 : decode cX3_pays 0 = .ok (.aload_n 0, 1) := dk_42 (dk_at dksX3_pays_0 0 rfl rfl)
theorem dX3_pays_1 : decode cX3_pays 1 = .ok (.iload_n 1, 1) := dk_27 (dk_at dksX3_pays_0 1 rfl rfl)
theorem dX3_pays_2 : decode cX3_pays 2 = .ok (.iconst 1, 1) := dk_4 (dk_at dksX3_pays_0 2 rfl rfl)
theorem dX3_pays_3 : decode cX3_pays 3 = .ok (.invokevirtual 84, 3) := dk_182 0 84 (dk_at dksX3_pays_0 3 rfl rfl)
theorem dX3_pays_6 : decode cX3_pays 6 = .ok (.istore_n 2, 1) := dk_61 (dk_at dksX3_pays_0 6 rfl rfl)
theorem dX3_pays_7 : decode cX3_pays 7 = .ok (.aload_n 0, 1) := dk_42 (dk_at dksX3_pays_0 7 rfl rfl)
theorem dX3_pays_8 : decode cX3_pays 8 = .ok (.iload_n 1, 1) := dk_27 (dk_at dksX3_pays_0 8 rfl rfl)
theorem dX3_pays_9 : decode cX3_pays 9 = .ok (.iconst 3, 1) := dk_6 (dk_at dksX3_pays_0 9 rfl rfl)
theorem dX3_pays_10 : decode cX3_pays 10 = .ok (.invokevirtual 84, 3) := dk_182 0 84 (dk_at dksX3_pays_0 10 rfl rfl)
theorem dX3_pays_13 : decode cX3_pays 13 = .ok (.aload_n 0, 1) := dk_42 (dk_at dksX3_pays_0 13 rfl rfl)
theorem dX3_pays_14 : decode cX3_pays 14 = .ok (.getfield 9, 3) := dk_180 0 9 (dk_at dksX3_pays_0 14 rfl rfl)
theorem dX3_pays_17 : decode cX3_pays 17 = .ok (.iconst 1, 1) := dk_4 (dk_at dksX3_pays_0 17 rfl rfl)
theorem dX3_pays_18 : decode cX3_pays 18 = .ok (.iaload, 1) := dk_46 (dk_at dksX3_pays_0 18 rfl rfl)
theorem dX3_pays_19 : decode cX3_pays 19 = .ok (.invokestatic 135, 3) := dk_184 0 135 (dk_at dksX3_pays_0 19 rfl rfl)
theorem dX3_pays_22 : decode cX3_pays 22 = .ok (.istore_n 3, 1) := dk_62 (dk_at dksX3_pays_0 22 rfl rfl)
theorem dX3_pays_23 : decode cX3_pays 23 = .ok (.iload_n 3, 1) := dk_29 (dk_at dksX3_pays_0 23 rfl rfl)
theorem dX3_pays_24 : decode cX3_pays 24 = .ok (.aload_n 0, 1) := dk_42 (dk_at dksX3_pays_1 0 rfl rfl)
theorem dX3_pays_25 : decode cX3_pays 25 = .ok (.iload_n 2, 1) := dk_28 (dk_at dksX3_pays_1 1 rfl rfl)
theorem dX3_pays_26 : decode cX3_pays 26 = .ok (.iconst 2, 1) := dk_5 (dk_at dksX3_pays_1 2 rfl rfl)
theorem dX3_pays_27 : decode cX3_pays 27 = .ok (.invokevirtual 95, 3) := dk_182 0 95 (dk_at dksX3_pays_1 3 rfl rfl)
theorem dX3_pays_30 : decode cX3_pays 30 = .ok (.invokestatic 135, 3) := dk_184 0 135 (dk_at dksX3_pays_1 6 rfl rfl)
theorem dX3_pays_33 : decode cX3_pays 33 = .ok (.istore 4, 2) := dk_54 4 (dk_at dksX3_pays_1 9 rfl rfl)
theorem dX3_pays_35 : decode cX3_pays 35 = .ok (.aload_n 0, 1) := dk_42 (dk_at dksX3_pays_1 11 rfl rfl)
theorem dX3_pays_36 : decode cX3_pays 36 = .ok (.getfield 9, 3) := dk_180 0 9 (dk_at dksX3_pays_1 12 rfl rfl)
theorem dX3_pays_39 : decode cX3_pays 39 = .ok (.iconst 1, 1) := dk_4 (dk_at dksX3_pays_1 15 rfl rfl)
theorem dX3_pays_40 : decode cX3_pays 40 = .ok (.dup2, 1) := dk_92 (dk_at dksX3_pays_1 16 rfl rfl)
theorem dX3_pays_41 : decode cX3_pays 41 = .ok (.iaload, 1) := dk_46 (dk_at dksX3_pays_1 17 rfl rfl)
theorem dX3_pays_42 : decode cX3_pays 42 = .ok (.iload 4, 2) := dk_21 4 (dk_at dksX3_pays_1 18 rfl rfl)
theorem dX3_pays_44 : decode cX3_pays 44 = .ok (.iload_n 3, 1) := dk_29 (dk_at dksX3_pays_1 20 rfl rfl)
theorem dX3_pays_45 : decode cX3_pays 45 = .ok (.isub, 1) := dk_100 (dk_at dksX3_pays_1 21 rfl rfl)
theorem dX3_pays_46 : decode cX3_pays 46 = .ok (.iadd, 1) := dk_96 (dk_at dksX3_pays_1 22 rfl rfl)
theorem dX3_pays_47 : decode cX3_pays 47 = .ok (.iastore, 1) := dk_79 (dk_at dksX3_pays_1 23 rfl rfl)
theorem dX3_pays_48 : decode cX3_pays 48 = .ok (.aload_n 0, 1) := dk_42 (dk_at dksX3_pays_2 0 rfl rfl)
theorem dX3_pays_49 : decode cX3_pays 49 = .ok (.getfield 9, 3) := dk_180 0 9 (dk_at dksX3_pays_2 1 rfl rfl)
theorem dX3_pays_52 : decode cX3_pays 52 = .ok (.aload_n 0, 1) := dk_42 (dk_at dksX3_pays_2 4 rfl rfl)
theorem dX3_pays_53 : decode cX3_pays 53 = .ok (.iload_n 2, 1) := dk_28 (dk_at dksX3_pays_2 5 rfl rfl)
theorem dX3_pays_54 : decode cX3_pays 54 = .ok (.iconst 2, 1) := dk_5 (dk_at dksX3_pays_2 6 rfl rfl)
theorem dX3_pays_55 : decode cX3_pays 55 = .ok (.invokevirtual 80, 3) := dk_182 0 80 (dk_at dksX3_pays_2 7 rfl rfl)
theorem dX3_pays_58 : decode cX3_pays 58 = .ok (.dup2, 1) := dk_92 (dk_at dksX3_pays_2 10 rfl rfl)
theorem dX3_pays_59 : decode cX3_pays 59 = .ok (.iaload, 1) := dk_46 (dk_at dksX3_pays_2 11 rfl rfl)
theorem dX3_pays_60 : decode cX3_pays 60 = .ok (.iload 4, 2) := dk_21 4 (dk_at dksX3_pays_2 12 rfl rfl)
theorem dX3_pays_62 : decode cX3_pays 62 = .ok (.isub, 1) := dk_100 (dk_at dksX3_pays_2 14 rfl rfl)
theorem dX3_pays_63 : decode cX3_pays 63 = .ok (.iastore, 1) := dk_79 (dk_at dksX3_pays_2 15 rfl rfl)
theorem dX3_pays_64 : decode cX3_pays 64 = .ok (.aload_n 0, 1) := dk_42 (dk_at dksX3_pays_2 16 rfl rfl)
theorem dX3_pays_65 : decode cX3_pays 65 = .ok (.getfield 9, 3) := dk_180 0 9 (dk_at dksX3_pays_2 17 rfl rfl)
theorem dX3_pays_68 : decode cX3_pays 68 = .ok (.aload_n 0, 1) := dk_42 (dk_at dksX3_pays_2 20 rfl rfl)
theorem dX3_pays_69 : decode cX3_pays 69 = .ok (.iload_n 2, 1) := dk_28 (dk_at dksX3_pays_2 21 rfl rfl)
theorem dX3_pays_70 : decode cX3_pays 70 = .ok (.iconst 1, 1) := dk_4 (dk_at dksX3_pays_2 22 rfl rfl)
theorem dX3_pays_71 : decode cX3_pays 71 = .ok (.invokevirtual 80, 3) := dk_182 0 80 (dk_at dksX3_pays_3 0 rfl rfl)
theorem dX3_pays_74 : decode cX3_pays 74 = .ok (.dup2, 1) := dk_92 (dk_at dksX3_pays_3 3 rfl rfl)
theorem dX3_pays_75 : decode cX3_pays 75 = .ok (.iaload, 1) := dk_46 (dk_at dksX3_pays_3 4 rfl rfl)
theorem dX3_pays_76 : decode cX3_pays 76 = .ok (.iload_n 3, 1) := dk_29 (dk_at dksX3_pays_3 5 rfl rfl)
theorem dX3_pays_77 : decode cX3_pays 77 = .ok (.iload 4, 2) := dk_21 4 (dk_at dksX3_pays_3 6 rfl rfl)
theorem dX3_pays_79 : decode cX3_pays 79 = .ok (.isub, 1) := dk_100 (dk_at dksX3_pays_3 8 rfl rfl)
theorem dX3_pays_80 : decode cX3_pays 80 = .ok (.iadd, 1) := dk_96 (dk_at dksX3_pays_3 9 rfl rfl)
theorem dX3_pays_81 : decode cX3_pays 81 = .ok (.iastore, 1) := dk_79 (dk_at dksX3_pays_3 10 rfl rfl)
theorem dX3_pays_82 : decode cX3_pays 82 = .ok (.aload_n 0, 1) := dk_42 (dk_at dksX3_pays_3 11 rfl rfl)
theorem dX3_pays_83 : decode cX3_pays 83 = .ok (.getfield 9, 3) := dk_180 0 9 (dk_at dksX3_pays_3 12 rfl rfl)
theorem dX3_pays_86 : decode cX3_pays 86 = .ok (.bipush 6, 2) := dk_16 6 (dk_at dksX3_pays_3 15 rfl rfl)
theorem dX3_pays_88 : decode cX3_pays 88 = .ok (.dup2, 1) := dk_92 (dk_at dksX3_pays_3 17 rfl rfl)
theorem dX3_pays_89 : decode cX3_pays 89 = .ok (.iaload, 1) := dk_46 (dk_at dksX3_pays_3 18 rfl rfl)
theorem dX3_pays_90 : decode cX3_pays 90 = .ok (.aload_n 0, 1) := dk_42 (dk_at dksX3_pays_3 19 rfl rfl)
theorem dX3_pays_91 : decode cX3_pays 91 = .ok (.iload_n 1, 1) := dk_27 (dk_at dksX3_pays_3 20 rfl rfl)
theorem dX3_pays_92 : decode cX3_pays 92 = .ok (.iconst 3, 1) := dk_6 (dk_at dksX3_pays_3 21 rfl rfl)
theorem dX3_pays_93 : decode cX3_pays 93 = .ok (.invokevirtual 84, 3) := dk_182 0 84 (dk_at dksX3_pays_4 0 rfl rfl)
theorem dX3_pays_96 : decode cX3_pays 96 = .ok (.iload_n 3, 1) := dk_29 (dk_at dksX3_pays_4 3 rfl rfl)
theorem dX3_pays_97 : decode cX3_pays 97 = .ok (.isub, 1) := dk_100 (dk_at dksX3_pays_4 4 rfl rfl)
theorem dX3_pays_98 : decode cX3_pays 98 = .ok (.iadd, 1) := dk_96 (dk_at dksX3_pays_4 5 rfl rfl)
theorem dX3_pays_99 : decode cX3_pays 99 = .ok (.iastore, 1) := dk_79 (dk_at dksX3_pays_4 6 rfl rfl)
theorem dX3_pays_100 : decode cX3_pays 100 = .ok (.return_, 1) := dk_177 (dk_at dksX3_pays_4 7 rfl rfl)
abbrev cX3_breaks : ByteArray := prog_26_method_48_code
def yX3_breaks : MethodName := ⟨RX3, "breaks", "(I)V"⟩
def dkwX3_breaks_1 : List UInt8 := [28, 182, 0, 138, 42, 180, 0, 9, 8, 92, 46, 4, 96, 79, 167, 255, 220, 132, 2, 1, 167, 255, 214, 177]
abbrev dktX3_breaks_1 : List UInt8 := dkwX3_breaks_1 ++ []
def dkwX3_breaks_0 : List UInt8 := [3, 61, 28, 42, 180, 0, 9, 16, 11, 46, 162, 0, 37, 42, 28, 4, 182, 0, 84, 27, 160, 0, 21, 42]
abbrev dktX3_breaks_0 : List UInt8 := dkwX3_breaks_0 ++ dktX3_breaks_1
theorem dksX3_breaks_0 : cX3_breaks.data.toList.drop 0 = dktX3_breaks_0 := by decide +kernel
theorem dksX3_breaks_1 : cX3_breaks.data.toList.drop 24 = dktX3_breaks_1 := dk_seg dksX3_breaks_0 24 rfl rfl
theorem dX3_breaks_0 : decode cX3_breaks 0 = .ok (.iconst 0, 1) := dk_3 (dk_at dksX3_breaks_0 0 rfl rfl)
theorem dX3_breaks_1 : decode cX3_breaks 1 = .ok (.istore_n 2, 1) := dk_61 (dk_at dksX3_breaks_0 1 rfl rfl)
theorem dX3_breaks_2 : decode cX3_breaks 2 = .ok (.iload_n 2, 1) := dk_28 (dk_at dksX3_breaks_0 2 rfl rfl)
theorem dX3_breaks_3 : decode cX3_breaks 3 = .ok (.aload_n 0, 1) := dk_42 (dk_at dksX3_breaks_0 3 rfl rfl)
theorem dX3_breaks_4 : decode cX3_breaks 4 = .ok (.getfield 9, 3) := dk_180 0 9 (dk_at dksX3_breaks_0 4 rfl rfl)
theorem dX3_breaks_7 : decode cX3_breaks 7 = .ok (.bipush 11, 2) := dk_16 11 (dk_at dksX3_breaks_0 7 rfl rfl)
theorem dX3_breaks_9 : decode cX3_breaks 9 = .ok (.iaload, 1) := dk_46 (dk_at dksX3_breaks_0 9 rfl rfl)
theorem dX3_breaks_10 : decode cX3_breaks 10 = .ok (.if_icmp .ge 37, 3) := dk_162 0 37 (dk_at dksX3_breaks_0 10 rfl rfl)
theorem dX3_breaks_13 : decode cX3_breaks 13 = .ok (.aload_n 0, 1) := dk_42 (dk_at dksX3_breaks_0 13 rfl rfl)
theorem dX3_breaks_14 : decode cX3_breaks 14 = .ok (.iload_n 2, 1) := dk_28 (dk_at dksX3_breaks_0 14 rfl rfl)
theorem dX3_breaks_15 : decode cX3_breaks 15 = .ok (.iconst 1, 1) := dk_4 (dk_at dksX3_breaks_0 15 rfl rfl)
theorem dX3_breaks_16 : decode cX3_breaks 16 = .ok (.invokevirtual 84, 3) := dk_182 0 84 (dk_at dksX3_breaks_0 16 rfl rfl)
theorem dX3_breaks_19 : decode cX3_breaks 19 = .ok (.iload_n 1, 1) := dk_27 (dk_at dksX3_breaks_0 19 rfl rfl)
theorem dX3_breaks_20 : decode cX3_breaks 20 = .ok (.if_icmp .ne 21, 3) := dk_160 0 21 (dk_at dksX3_breaks_0 20 rfl rfl)
theorem dX3_breaks_23 : decode cX3_breaks 23 = .ok (.aload_n 0, 1) := dk_42 (dk_at dksX3_breaks_0 23 rfl rfl)
theorem dX3_breaks_24 : decode cX3_breaks 24 = .ok (.iload_n 2, 1) := dk_28 (dk_at dksX3_breaks_1 0 rfl rfl)
theorem dX3_breaks_25 : decode cX3_breaks 25 = .ok (.invokevirtual 138, 3) := dk_182 0 138 (dk_at dksX3_breaks_1 1 rfl rfl)
theorem dX3_breaks_28 : decode cX3_breaks 28 = .ok (.aload_n 0, 1) := dk_42 (dk_at dksX3_breaks_1 4 rfl rfl)
theorem dX3_breaks_29 : decode cX3_breaks 29 = .ok (.getfield 9, 3) := dk_180 0 9 (dk_at dksX3_breaks_1 5 rfl rfl)
theorem dX3_breaks_32 : decode cX3_breaks 32 = .ok (.iconst 5, 1) := dk_8 (dk_at dksX3_breaks_1 8 rfl rfl)
theorem dX3_breaks_33 : decode cX3_breaks 33 = .ok (.dup2, 1) := dk_92 (dk_at dksX3_breaks_1 9 rfl rfl)
theorem dX3_breaks_34 : decode cX3_breaks 34 = .ok (.iaload, 1) := dk_46 (dk_at dksX3_breaks_1 10 rfl rfl)
theorem dX3_breaks_35 : decode cX3_breaks 35 = .ok (.iconst 1, 1) := dk_4 (dk_at dksX3_breaks_1 11 rfl rfl)
theorem dX3_breaks_36 : decode cX3_breaks 36 = .ok (.iadd, 1) := dk_96 (dk_at dksX3_breaks_1 12 rfl rfl)
theorem dX3_breaks_37 : decode cX3_breaks 37 = .ok (.iastore, 1) := dk_79 (dk_at dksX3_breaks_1 13 rfl rfl)
theorem dX3_breaks_38 : decode cX3_breaks 38 = .ok (.goto (-36), 3) := dk_167 255 220 (dk_at dksX3_breaks_1 14 rfl rfl)
theorem dX3_breaks_41 : decode cX3_breaks 41 = .ok (.iinc 2 1, 3) := dk_132 2 1 (dk_at dksX3_breaks_1 17 rfl rfl)
theorem dX3_breaks_44 : decode cX3_breaks 44 = .ok (.goto (-42), 3) := dk_167 255 214 (dk_at dksX3_breaks_1 20 rfl rfl)
theorem dX3_breaks_47 : decode cX3_breaks 47 = .ok (.return_, 1) := dk_177 (dk_at dksX3_breaks_1 23 rfl rfl)
abbrev cX3_dust : ByteArray := prog_26_method_52_code
def yX3_dust : MethodName := ⟨RX3, "dust", "(I)I"⟩
def dkwX3_dust_1 : List UInt8 := [172]
abbrev dktX3_dust_1 : List UInt8 := dkwX3_dust_1 ++ []
def dkwX3_dust_0 : List UInt8 := [42, 27, 184, 0, 121, 182, 0, 61, 153, 0, 15, 42, 180, 0, 9, 16, 12, 27, 96, 46, 167, 0, 4, 3]
abbrev dktX3_dust_0 : List UInt8 := dkwX3_dust_0 ++ dktX3_dust_1
theorem dksX3_dust_0 : cX3_dust.data.toList.drop 0 = dktX3_dust_0 := by decide +kernel
theorem dksX3_dust_1 : cX3_dust.data.toList.drop 24 = dktX3_dust_1 := dk_seg dksX3_dust_0 24 rfl rfl
theorem dX3_dust_0 : decode cX3_dust 0 = .ok (.aload_n 0, 1) := dk_42 (dk_at dksX3_dust_0 0 rfl rfl)
theorem dX3_dust_1 : decode cX3_dust 1 = .ok (.iload_n 1, 1) := dk_27 (dk_at dksX3_dust_0 1 rfl rfl)
theorem dX3_dust_2 : decode cX3_dust 2 = .ok (.invokestatic 121, 3) := dk_184 0 121 (dk_at dksX3_dust_0 2 rfl rfl)
theorem dX3_dust_5 : decode cX3_dust 5 = .ok (.invokevirtual 61, 3) := dk_182 0 61 (dk_at dksX3_dust_0 5 rfl rfl)
theorem dX3_dust_8 : decode cX3_dust 8 = .ok (.ifCond .eq 15, 3) := dk_153 0 15 (dk_at dksX3_dust_0 8 rfl rfl)
theorem dX3_dust_11 : decode cX3_dust 11 = .ok (.aload_n 0, 1) := dk_42 (dk_at dksX3_dust_0 11 rfl rfl)
theorem dX3_dust_12 : decode cX3_dust 12 = .ok (.getfield 9, 3) := dk_180 0 9 (dk_at dksX3_dust_0 12 rfl rfl)
theorem dX3_dust_15 : decode cX3_dust 15 = .ok (.bipush 12, 2) := dk_16 12 (dk_at dksX3_dust_0 15 rfl rfl)
theorem dX3_dust_17 : decode cX3_dust 17 = .ok (.iload_n 1, 1) := dk_27 (dk_at dksX3_dust_0 17 rfl rfl)
theorem dX3_dust_18 : decode cX3_dust 18 = .ok (.iadd, 1) := dk_96 (dk_at dksX3_dust_0 18 rfl rfl)
theorem dX3_dust_19 : decode cX3_dust 19 = .ok (.iaload, 1) := dk_46 (dk_at dksX3_dust_0 19 rfl rfl)
theorem dX3_dust_20 : decode cX3_dust 20 = .ok (.goto 4, 3) := dk_167 0 4 (dk_at dksX3_dust_0 20 rfl rfl)
theorem dX3_dust_23 : decode cX3_dust 23 = .ok (.iconst 0, 1) := dk_3 (dk_at dksX3_dust_0 23 rfl rfl)
theorem dX3_dust_24 : decode cX3_dust 24 = .ok (.ireturn, 1) := dk_172 (dk_at dksX3_dust_1 0 rfl rfl)
abbrev cX3_roomByDust : ByteArray := prog_26_method_53_code
def yX3_roomByDust : MethodName := ⟨RX3, "roomByDust", "(I)I"⟩
def dkwX3_roomByDust_4 : List UInt8 := [42, 28, 2, 159, 0, 7, 4, 167, 0, 4, 3, 182, 0, 61, 153, 0, 7, 28, 167, 0, 4, 3, 172]
abbrev dktX3_roomByDust_4 : List UInt8 := dkwX3_roomByDust_4 ++ []
def dkwX3_roomByDust_3 : List UInt8 := [132, 5, 1, 167, 255, 198, 21, 4, 27, 160, 0, 7, 29, 167, 0, 4, 28, 61, 132, 3, 1, 167, 255, 168]
abbrev dktX3_roomByDust_3 : List UInt8 := dkwX3_roomByDust_3 ++ dktX3_roomByDust_4
def dkwX3_roomByDust_2 : List UInt8 := [21, 6, 157, 0, 14, 21, 6, 154, 0, 13, 21, 5, 29, 162, 0, 7, 4, 167, 0, 4, 3, 96, 54, 4]
abbrev dktX3_roomByDust_2 : List UInt8 := dkwX3_roomByDust_2 ++ dktX3_roomByDust_3
def dkwX3_roomByDust_1 : List UInt8 := [180, 0, 9, 16, 12, 21, 5, 96, 46, 42, 180, 0, 9, 16, 12, 29, 96, 46, 100, 54, 6, 21, 4]
abbrev dktX3_roomByDust_1 : List UInt8 := dkwX3_roomByDust_1 ++ dktX3_roomByDust_2
def dkwX3_roomByDust_0 : List UInt8 := [2, 61, 3, 62, 29, 16, 6, 162, 0, 88, 3, 54, 4, 3, 54, 5, 21, 5, 16, 6, 162, 0, 57, 42]
abbrev dktX3_roomByDust_0 : List UInt8 := dkwX3_roomByDust_0 ++ dktX3_roomByDust_1
theorem dksX3_roomByDust_0 : cX3_roomByDust.data.toList.drop 0 = dktX3_roomByDust_0 := by decide +kernel
theorem dksX3_roomByDust_1 : cX3_roomByDust.data.toList.drop 24 = dktX3_roomByDust_1 := dk_seg dksX3_roomByDust_0 24 rfl rfl
theorem dksX3_roomByDust_2 : cX3_roomByDust.data.toList.drop 47 = dktX3_roomByDust_2 := dk_seg dksX3_roomByDust_1 23 rfl rfl
theorem dksX3_roomByDust_3 : cX3_roomByDust.data.toList.drop 71 = dktX3_roomByDust_3 := dk_seg dksX3_roomByDust_2 24 rfl rfl
theorem dksX3_roomByDust_4 : cX3_roomByDust.data.toList.drop 95 = dktX3_roomByDust_4 := dk_seg dksX3_roomByDust_3 24 rfl rfl
theorem dX3_roomByDust_0 : decode cX3_roomByDust 0 = .ok (.iconst (-1), 1) := dk_2 (dk_at dksX3_roomByDust_0 0 rfl rfl)
theorem dX3_roomByDust_1 : decode cX3_roomByDust 1 = .ok (.istore_n 2, 1) := dk_61 (dk_at dksX3_roomByDust_0 1 rfl rfl)
theorem dX3_roomByDust_2 : decode cX3_roomByDust 2 = .ok (.iconst 0, 1) := dk_3 (dk_at dksX3_roomByDust_0 2 rfl rfl)
theorem dX3_roomByDust_3 : decode cX3_roomByDust 3 = .ok (.istore_n 3, 1) := dk_62 (dk_at dksX3_roomByDust_0 3 rfl rfl)
theorem dX3_roomByDust_4 : decode cX3_roomByDust 4 = .ok (.iload_n 3, 1) := dk_29 (dk_at dksX3_roomByDust_0 4 rfl rfl)
theorem dX3_roomByDust_5 : decode cX3_roomByDust 5 = .ok (.bipush 6, 2) := dk_16 6 (dk_at dksX3_roomByDust_0 5 rfl rfl)
theorem dX3_roomByDust_7 : decode cX3_roomByDust 7 = .ok (.if_icmp .ge 88, 3) := dk_162 0 88 (dk_at dksX3_roomByDust_0 7 rfl rfl)
theorem dX3_roomByDust_10 : decode cX3_roomByDust 10 = .ok (.iconst 0, 1) := dk_3 (dk_at dksX3_roomByDust_0 10 rfl rfl)
theorem dX3_roomByDust_11 : decode cX3_roomByDust 11 = .ok (.istore 4, 2) := dk_54 4 (dk_at dksX3_roomByDust_0 11 rfl rfl)
theorem dX3_roomByDust_13 : decode cX3_roomByDust 13 = .ok (.iconst 0, 1) := dk_3 (dk_at dksX3_roomByDust_0 13 rfl rfl)
theorem dX3_roomByDust_14 : decode cX3_roomByDust 14 = .ok (.istore 5, 2) := dk_54 5 (dk_at dksX3_roomByDust_0 14 rfl rfl)
theorem dX3_roomByDust_16 : decode cX3_roomByDust 16 = .ok (.iload 5, 2) := dk_21 5 (dk_at dksX3_roomByDust_0 16 rfl rfl)
theorem dX3_roomByDust_18 : decode cX3_roomByDust 18 = .ok (.bipush 6, 2) := dk_16 6 (dk_at dksX3_roomByDust_0 18 rfl rfl)
theorem dX3_roomByDust_20 : decode cX3_roomByDust 20 = .ok (.if_icmp .ge 57, 3) := dk_162 0 57 (dk_at dksX3_roomByDust_0 20 rfl rfl)
theorem dX3_roomByDust_23 : decode cX3_roomByDust 23 = .ok (.aload_n 0, 1) := dk_42 (dk_at dksX3_roomByDust_0 23 rfl rfl)
theorem dX3_roomByDust_24 : decode cX3_roomByDust 24 = .ok (.getfield 9, 3) := dk_180 0 9 (dk_at dksX3_roomByDust_1 0 rfl rfl)
theorem dX3_roomByDust_27 : decode cX3_roomByDust 27 = .ok (.bipush 12, 2) := dk_16 12 (dk_at dksX3_roomByDust_1 3 rfl rfl)
theorem dX3_roomByDust_29 : decode cX3_roomByDust 29 = .ok (.iload 5, 2) := dk_21 5 (dk_at dksX3_roomByDust_1 5 rfl rfl)
theorem dX3_roomByDust_31 : decode cX3_roomByDust 31 = .ok (.iadd, 1) := dk_96 (dk_at dksX3_roomByDust_1 7 rfl rfl)
theorem dX3_roomByDust_32 : decode cX3_roomByDust 32 = .ok (.iaload, 1) := dk_46 (dk_at dksX3_roomByDust_1 8 rfl rfl)
theorem dX3_roomByDust_33 : decode cX3_roomByDust 33 = .ok (.aload_n 0, 1) := dk_42 (dk_at dksX3_roomByDust_1 9 rfl rfl)
theorem dX3_roomByDust_34 : decode cX3_roomByDust 34 = .ok (.getfield 9, 3) := dk_180 0 9 (dk_at dksX3_roomByDust_1 10 rfl rfl)
theorem dX3_roomByDust_37 : decode cX3_roomByDust 37 = .ok (.bipush 12, 2) := dk_16 12 (dk_at dksX3_roomByDust_1 13 rfl rfl)
theorem dX3_roomByDust_39 : decode cX3_roomByDust 39 = .ok (.iload_n 3, 1) := dk_29 (dk_at dksX3_roomByDust_1 15 rfl rfl)
theorem dX3_roomByDust_40 : decode cX3_roomByDust 40 = .ok (.iadd, 1) := dk_96 (dk_at dksX3_roomByDust_1 16 rfl rfl)
theorem dX3_roomByDust_41 : decode cX3_roomByDust 41 = .ok (.iaload, 1) := dk_46 (dk_at dksX3_roomByDust_1 17 rfl rfl)
theorem dX3_roomByDust_42 : decode cX3_roomByDust 42 = .ok (.isub, 1) := dk_100 (dk_at dksX3_roomByDust_1 18 rfl rfl)
theorem dX3_roomByDust_43 : decode cX3_roomByDust 43 = .ok (.istore 6, 2) := dk_54 6 (dk_at dksX3_roomByDust_1 19 rfl rfl)
theorem dX3_roomByDust_45 : decode cX3_roomByDust 45 = .ok (.iload 4, 2) := dk_21 4 (dk_at dksX3_roomByDust_1 21 rfl rfl)
theorem dX3_roomByDust_47 : decode cX3_roomByDust 47 = .ok (.iload 6, 2) := dk_21 6 (dk_at dksX3_roomByDust_2 0 rfl rfl)
theorem dX3_roomByDust_49 : decode cX3_roomByDust 49 = .ok (.ifCond .gt 14, 3) := dk_157 0 14 (dk_at dksX3_roomByDust_2 2 rfl rfl)
theorem dX3_roomByDust_52 : decode cX3_roomByDust 52 = .ok (.iload 6, 2) := dk_21 6 (dk_at dksX3_roomByDust_2 5 rfl rfl)
theorem dX3_roomByDust_54 : decode cX3_roomByDust 54 = .ok (.ifCond .ne 13, 3) := dk_154 0 13 (dk_at dksX3_roomByDust_2 7 rfl rfl)
theorem dX3_roomByDust_57 : decode cX3_roomByDust 57 = .ok (.iload 5, 2) := dk_21 5 (dk_at dksX3_roomByDust_2 10 rfl rfl)
theorem dX3_roomByDust_59 : decode cX3_roomByDust 59 = .ok (.iload_n 3, 1) := dk_29 (dk_at dksX3_roomByDust_2 12 rfl rfl)
theorem dX3_roomByDust_60 : decode cX3_roomByDust 60 = .ok (.if_icmp .ge 7, 3) := dk_162 0 7 (dk_at dksX3_roomByDust_2 13 rfl rfl)
theorem dX3_roomByDust_63 : decode cX3_roomByDust 63 = .ok (.iconst 1, 1) := dk_4 (dk_at dksX3_roomByDust_2 16 rfl rfl)
theorem dX3_roomByDust_64 : decode cX3_roomByDust 64 = .ok (.goto 4, 3) := dk_167 0 4 (dk_at dksX3_roomByDust_2 17 rfl rfl)
theorem dX3_roomByDust_67 : decode cX3_roomByDust 67 = .ok (.iconst 0, 1) := dk_3 (dk_at dksX3_roomByDust_2 20 rfl rfl)
theorem dX3_roomByDust_68 : decode cX3_roomByDust 68 = .ok (.iadd, 1) := dk_96 (dk_at dksX3_roomByDust_2 21 rfl rfl)
theorem dX3_roomByDust_69 : decode cX3_roomByDust 69 = .ok (.istore 4, 2) := dk_54 4 (dk_at dksX3_roomByDust_2 22 rfl rfl)
theorem dX3_roomByDust_71 : decode cX3_roomByDust 71 = .ok (.iinc 5 1, 3) := dk_132 5 1 (dk_at dksX3_roomByDust_3 0 rfl rfl)
theorem dX3_roomByDust_74 : decode cX3_roomByDust 74 = .ok (.goto (-58), 3) := dk_167 255 198 (dk_at dksX3_roomByDust_3 3 rfl rfl)
theorem dX3_roomByDust_77 : decode cX3_roomByDust 77 = .ok (.iload 4, 2) := dk_21 4 (dk_at dksX3_roomByDust_3 6 rfl rfl)
theorem dX3_roomByDust_79 : decode cX3_roomByDust 79 = .ok (.iload_n 1, 1) := dk_27 (dk_at dksX3_roomByDust_3 8 rfl rfl)
theorem dX3_roomByDust_80 : decode cX3_roomByDust 80 = .ok (.if_icmp .ne 7, 3) := dk_160 0 7 (dk_at dksX3_roomByDust_3 9 rfl rfl)
theorem dX3_roomByDust_83 : decode cX3_roomByDust 83 = .ok (.iload_n 3, 1) := dk_29 (dk_at dksX3_roomByDust_3 12 rfl rfl)
theorem dX3_roomByDust_84 : decode cX3_roomByDust 84 = .ok (.goto 4, 3) := dk_167 0 4 (dk_at dksX3_roomByDust_3 13 rfl rfl)
theorem dX3_roomByDust_87 : decode cX3_roomByDust 87 = .ok (.iload_n 2, 1) := dk_28 (dk_at dksX3_roomByDust_3 16 rfl rfl)
theorem dX3_roomByDust_88 : decode cX3_roomByDust 88 = .ok (.istore_n 2, 1) := dk_61 (dk_at dksX3_roomByDust_3 17 rfl rfl)
theorem dX3_roomByDust_89 : decode cX3_roomByDust 89 = .ok (.iinc 3 1, 3) := dk_132 3 1 (dk_at dksX3_roomByDust_3 18 rfl rfl)
theorem dX3_roomByDust_92 : decode cX3_roomByDust 92 = .ok (.goto (-88), 3) := dk_167 255 168 (dk_at dksX3_roomByDust_3 21 rfl rfl)
theorem dX3_roomByDust_95 : decode cX3_roomByDust 95 = .ok (.aload_n 0, 1) := dk_42 (dk_at dksX3_roomByDust_4 0 rfl rfl)
theorem dX3_roomByDust_96 : decode cX3_roomByDust 96 = .ok (.iload_n 2, 1) := dk_28 (dk_at dksX3_roomByDust_4 1 rfl rfl)
theorem dX3_roomByDust_97 : decode cX3_roomByDust 97 = .ok (.iconst (-1), 1) := dk_2 (dk_at dksX3_roomByDust_4 2 rfl rfl)
theorem dX3_roomByDust_98 : decode cX3_roomByDust 98 = .ok (.if_icmp .eq 7, 3) := dk_159 0 7 (dk_at dksX3_roomByDust_4 3 rfl rfl)
theorem dX3_roomByDust_101 : decode cX3_roomByDust 101 = .ok (.iconst 1, 1) := dk_4 (dk_at dksX3_roomByDust_4 6 rfl rfl)
theorem dX3_roomByDust_102 : decode cX3_roomByDust 102 = .ok (.goto 4, 3) := dk_167 0 4 (dk_at dksX3_roomByDust_4 7 rfl rfl)
theorem dX3_roomByDust_105 : decode cX3_roomByDust 105 = .ok (.iconst 0, 1) := dk_3 (dk_at dksX3_roomByDust_4 10 rfl rfl)
theorem dX3_roomByDust_106 : decode cX3_roomByDust 106 = .ok (.invokevirtual 61, 3) := dk_182 0 61 (dk_at dksX3_roomByDust_4 11 rfl rfl)
theorem dX3_roomByDust_109 : decode cX3_roomByDust 109 = .ok (.ifCond .eq 7, 3) := dk_153 0 7 (dk_at dksX3_roomByDust_4 14 rfl rfl)
theorem dX3_roomByDust_112 : decode cX3_roomByDust 112 = .ok (.iload_n 2, 1) := dk_28 (dk_at dksX3_roomByDust_4 17 rfl rfl)
theorem dX3_roomByDust_113 : decode cX3_roomByDust 113 = .ok (.goto 4, 3) := dk_167 0 4 (dk_at dksX3_roomByDust_4 18 rfl rfl)
theorem dX3_roomByDust_116 : decode cX3_roomByDust 116 = .ok (.iconst 0, 1) := dk_3 (dk_at dksX3_roomByDust_4 21 rfl rfl)
theorem dX3_roomByDust_117 : decode cX3_roomByDust 117 = .ok (.ireturn, 1) := dk_172 (dk_at dksX3_roomByDust_4 22 rfl rfl)
abbrev cX3_broomCount : ByteArray := prog_26_method_54_code
def yX3_broomCount : MethodName := ⟨RX3, "broomCount", "()I"⟩
def dkwX3_broomCount_0 : List UInt8 := [42, 3, 181, 0, 44, 42, 180, 0, 9, 16, 8, 46, 172]
abbrev dktX3_broomCount_0 : List UInt8 := dkwX3_broomCount_0 ++ []
theorem dksX3_broomCount_0 : cX3_broomCount.data.toList.drop 0 = dktX3_broomCount_0 := by decide +kernel
theorem dX3_broomCount_0 : decode cX3_broomCount 0 = .ok (.aload_n 0, 1) := dk_42 (dk_at dksX3_broomCount_0 0 rfl rfl)
theorem dX3_broomCount_1 : decode cX3_broomCount 1 = .ok (.iconst 0, 1) := dk_3 (dk_at dksX3_broomCount_0 1 rfl rfl)
theorem dX3_broomCount_2 : decode cX3_broomCount 2 = .ok (.putfield 44, 3) := dk_181 0 44 (dk_at dksX3_broomCount_0 2 rfl rfl)
theorem dX3_broomCount_5 : decode cX3_broomCount 5 = .ok (.aload_n 0, 1) := dk_42 (dk_at dksX3_broomCount_0 5 rfl rfl)
theorem dX3_broomCount_6 : decode cX3_broomCount 6 = .ok (.getfield 9, 3) := dk_180 0 9 (dk_at dksX3_broomCount_0 6 rfl rfl)
theorem dX3_broomCount_9 : decode cX3_broomCount 9 = .ok (.bipush 8, 2) := dk_16 8 (dk_at dksX3_broomCount_0 9 rfl rfl)
theorem dX3_broomCount_11 : decode cX3_broomCount 11 = .ok (.iaload, 1) := dk_46 (dk_at dksX3_broomCount_0 11 rfl rfl)
theorem dX3_broomCount_12 : decode cX3_broomCount 12 = .ok (.ireturn, 1) := dk_172 (dk_at dksX3_broomCount_0 12 rfl rfl)
abbrev cX3_power : ByteArray := prog_26_method_55_code
def yX3_power : MethodName := ⟨RX3, "power", "(I)I"⟩
def dkwX3_power_0 : List UInt8 := [42, 42, 27, 182, 0, 73, 182, 0, 61, 153, 0, 12, 42, 27, 3, 182, 0, 87, 167, 0, 4, 3, 172]
abbrev dktX3_power_0 : List UInt8 := dkwX3_power_0 ++ []
theorem dksX3_power_0 : cX3_power.data.toList.drop 0 = dktX3_power_0 := by decide +kernel
theorem dX3_power_0 : decode cX3_power 0 = .ok (.aload_n 0, 1) := dk_42 (dk_at dksX3_power_0 0 rfl rfl)
theorem dX3_power_1 : decode cX3_power 1 = .ok (.aload_n 0, 1) := dk_42 (dk_at dksX3_power_0 1 rfl rfl)
theorem dX3_power_2 : decode cX3_power 2 = .ok (.iload_n 1, 1) := dk_27 (dk_at dksX3_power_0 2 rfl rfl)
theorem dX3_power_3 : decode cX3_power 3 = .ok (.invokevirtual 73, 3) := dk_182 0 73 (dk_at dksX3_power_0 3 rfl rfl)
theorem dX3_power_6 : decode cX3_power 6 = .ok (.invokevirtual 61, 3) := dk_182 0 61 (dk_at dksX3_power_0 6 rfl rfl)
theorem dX3_power_9 : decode cX3_power 9 = .ok (.ifCond .eq 12, 3) := dk_153 0 12 (dk_at dksX3_power_0 9 rfl rfl)
theorem dX3_power_12 : decode cX3_power 12 = .ok (.aload_n 0, 1) := dk_42 (dk_at dksX3_power_0 12 rfl rfl)
theorem dX3_power_13 : decode cX3_power 13 = .ok (.iload_n 1, 1) := dk_27 (dk_at dksX3_power_0 13 rfl rfl)
theorem dX3_power_14 : decode cX3_power 14 = .ok (.iconst 0, 1) := dk_3 (dk_at dksX3_power_0 14 rfl rfl)
theorem dX3_power_15 : decode cX3_power 15 = .ok (.invokevirtual 87, 3) := dk_182 0 87 (dk_at dksX3_power_0 15 rfl rfl)
theorem dX3_power_18 : decode cX3_power 18 = .ok (.goto 4, 3) := dk_167 0 4 (dk_at dksX3_power_0 18 rfl rfl)
theorem dX3_power_21 : decode cX3_power 21 = .ok (.iconst 0, 1) := dk_3 (dk_at dksX3_power_0 21 rfl rfl)
theorem dX3_power_22 : decode cX3_power 22 = .ok (.ireturn, 1) := dk_172 (dk_at dksX3_power_0 22 rfl rfl)
abbrev cX3_isBanished : ByteArray := prog_26_method_56_code
def yX3_isBanished : MethodName := ⟨RX3, "isBanished", "(I)Z"⟩
def dkwX3_isBanished_1 : List UInt8 := [167, 0, 4, 3, 172]
abbrev dktX3_isBanished_1 : List UInt8 := dkwX3_isBanished_1 ++ []
def dkwX3_isBanished_0 : List UInt8 := [42, 42, 27, 182, 0, 73, 182, 0, 61, 153, 0, 17, 42, 27, 4, 182, 0, 87, 4, 160, 0, 7, 4]
abbrev dktX3_isBanished_0 : List UInt8 := dkwX3_isBanished_0 ++ dktX3_isBanished_1
theorem dksX3_isBanished_0 : cX3_isBanished.data.toList.drop 0 = dktX3_isBanished_0 := by decide +kernel
theorem dksX3_isBanished_1 : cX3_isBanished.data.toList.drop 23 = dktX3_isBanished_1 := dk_seg dksX3_isBanished_0 23 rfl rfl
theorem dX3_isBanished_0 : decode cX3_isBanished 0 = .ok (.aload_n 0, 1) := dk_42 (dk_at dksX3_isBanished_0 0 rfl rfl)
theorem dX3_isBanished_1 : decode cX3_isBanished 1 = .ok (.aload_n 0, 1) := dk_42 (dk_at dksX3_isBanished_0 1 rfl rfl)
theorem dX3_isBanished_2 : decode cX3_isBanished 2 = .ok (.iload_n 1, 1) := dk_27 (dk_at dksX3_isBanished_0 2 rfl rfl)
theorem dX3_isBanished_3 : decode cX3_isBanished 3 = .ok (.invokevirtual 73, 3) := dk_182 0 73 (dk_at dksX3_isBanished_0 3 rfl rfl)
theorem dX3_isBanished_6 : decode cX3_isBanished 6 = .ok (.invokevirtual 61, 3) := dk_182 0 61 (dk_at dksX3_isBanished_0 6 rfl rfl)
theorem dX3_isBanished_9 : decode cX3_isBanished 9 = .ok (.ifCond .eq 17, 3) := dk_153 0 17 (dk_at dksX3_isBanished_0 9 rfl rfl)
theorem dX3_isBanished_12 : decode cX3_isBanished 12 = .ok (.aload_n 0, 1) := dk_42 (dk_at dksX3_isBanished_0 12 rfl rfl)
theorem dX3_isBanished_13 : decode cX3_isBanished 13 = .ok (.iload_n 1, 1) := dk_27 (dk_at dksX3_isBanished_0 13 rfl rfl)
theorem dX3_isBanished_14 : decode cX3_isBanished 14 = .ok (.iconst 1, 1) := dk_4 (dk_at dksX3_isBanished_0 14 rfl rfl)
theorem dX3_isBanished_15 : decode cX3_isBanished 15 = .ok (.invokevirtual 87, 3) := dk_182 0 87 (dk_at dksX3_isBanished_0 15 rfl rfl)
theorem dX3_isBanished_18 : decode cX3_isBanished 18 = .ok (.iconst 1, 1) := dk_4 (dk_at dksX3_isBanished_0 18 rfl rfl)
theorem dX3_isBanished_19 : decode cX3_isBanished 19 = .ok (.if_icmp .ne 7, 3) := dk_160 0 7 (dk_at dksX3_isBanished_0 19 rfl rfl)
theorem dX3_isBanished_22 : decode cX3_isBanished 22 = .ok (.iconst 1, 1) := dk_4 (dk_at dksX3_isBanished_0 22 rfl rfl)
theorem dX3_isBanished_23 : decode cX3_isBanished 23 = .ok (.goto 4, 3) := dk_167 0 4 (dk_at dksX3_isBanished_1 0 rfl rfl)
theorem dX3_isBanished_26 : decode cX3_isBanished 26 = .ok (.iconst 0, 1) := dk_3 (dk_at dksX3_isBanished_1 3 rfl rfl)
theorem dX3_isBanished_27 : decode cX3_isBanished 27 = .ok (.ireturn, 1) := dk_172 (dk_at dksX3_isBanished_1 4 rfl rfl)
abbrev cX3_goblinCount : ByteArray := prog_26_method_57_code
def yX3_goblinCount : MethodName := ⟨RX3, "goblinCount", "()I"⟩
def dkwX3_goblinCount_0 : List UInt8 := [42, 3, 181, 0, 44, 42, 180, 0, 9, 16, 9, 46, 172]
abbrev dktX3_goblinCount_0 : List UInt8 := dkwX3_goblinCount_0 ++ []
theorem dksX3_goblinCount_0 : cX3_goblinCount.data.toList.drop 0 = dktX3_goblinCount_0 := by decide +kernel
theorem dX3_goblinCount_0 : decode cX3_goblinCount 0 = .ok (.aload_n 0, 1) := dk_42 (dk_at dksX3_goblinCount_0 0 rfl rfl)
theorem dX3_goblinCount_1 : decode cX3_goblinCount 1 = .ok (.iconst 0, 1) := dk_3 (dk_at dksX3_goblinCount_0 1 rfl rfl)
theorem dX3_goblinCount_2 : decode cX3_goblinCount 2 = .ok (.putfield 44, 3) := dk_181 0 44 (dk_at dksX3_goblinCount_0 2 rfl rfl)
theorem dX3_goblinCount_5 : decode cX3_goblinCount 5 = .ok (.aload_n 0, 1) := dk_42 (dk_at dksX3_goblinCount_0 5 rfl rfl)
theorem dX3_goblinCount_6 : decode cX3_goblinCount 6 = .ok (.getfield 9, 3) := dk_180 0 9 (dk_at dksX3_goblinCount_0 6 rfl rfl)
theorem dX3_goblinCount_9 : decode cX3_goblinCount 9 = .ok (.bipush 9, 2) := dk_16 9 (dk_at dksX3_goblinCount_0 9 rfl rfl)
theorem dX3_goblinCount_11 : decode cX3_goblinCount 11 = .ok (.iaload, 1) := dk_46 (dk_at dksX3_goblinCount_0 11 rfl rfl)
theorem dX3_goblinCount_12 : decode cX3_goblinCount 12 = .ok (.ireturn, 1) := dk_172 (dk_at dksX3_goblinCount_0 12 rfl rfl)
abbrev cX3_strength : ByteArray := prog_26_method_59_code
def yX3_strength : MethodName := ⟨RX3, "strength", "(I)I"⟩
def dkwX3_strength_0 : List UInt8 := [42, 27, 3, 182, 0, 175, 172]
abbrev dktX3_strength_0 : List UInt8 := dkwX3_strength_0 ++ []
theorem dksX3_strength_0 : cX3_strength.data.toList.drop 0 = dktX3_strength_0 := by decide +kernel
theorem dX3_strength_0 : decode cX3_strength 0 = .ok (.aload_n 0, 1) := dk_42 (dk_at dksX3_strength_0 0 rfl rfl)
theorem dX3_strength_1 : decode cX3_strength 1 = .ok (.iload_n 1, 1) := dk_27 (dk_at dksX3_strength_0 1 rfl rfl)
theorem dX3_strength_2 : decode cX3_strength 2 = .ok (.iconst 0, 1) := dk_3 (dk_at dksX3_strength_0 2 rfl rfl)
theorem dX3_strength_3 : decode cX3_strength 3 = .ok (.invokevirtual 175, 3) := dk_182 0 175 (dk_at dksX3_strength_0 3 rfl rfl)
theorem dX3_strength_6 : decode cX3_strength 6 = .ok (.ireturn, 1) := dk_172 (dk_at dksX3_strength_0 6 rfl rfl)
abbrev cX3_asks : ByteArray := prog_26_method_58_code
def yX3_asks : MethodName := ⟨RX3, "asks", "(II)I"⟩
def dkwX3_asks_0 : List UInt8 := [42, 42, 27, 182, 0, 77, 182, 0, 61, 153, 0, 12, 42, 27, 28, 182, 0, 95, 167, 0, 4, 3, 172]
abbrev dktX3_asks_0 : List UInt8 := dkwX3_asks_0 ++ []
theorem dksX3_asks_0 : cX3_asks.data.toList.drop 0 = dktX3_asks_0 := by decide +kernel
theorem dX3_asks_0 : decode cX3_asks 0 = .ok (.aload_n 0, 1) := dk_42 (dk_at dksX3_asks_0 0 rfl rfl)
theorem dX3_asks_1 : decode cX3_asks 1 = .ok (.aload_n 0, 1) := dk_42 (dk_at dksX3_asks_0 1 rfl rfl)
theorem dX3_asks_2 : decode cX3_asks 2 = .ok (.iload_n 1, 1) := dk_27 (dk_at dksX3_asks_0 2 rfl rfl)
theorem dX3_asks_3 : decode cX3_asks 3 = .ok (.invokevirtual 77, 3) := dk_182 0 77 (dk_at dksX3_asks_0 3 rfl rfl)
theorem dX3_asks_6 : decode cX3_asks 6 = .ok (.invokevirtual 61, 3) := dk_182 0 61 (dk_at dksX3_asks_0 6 rfl rfl)
theorem dX3_asks_9 : decode cX3_asks 9 = .ok (.ifCond .eq 12, 3) := dk_153 0 12 (dk_at dksX3_asks_0 9 rfl rfl)
theorem dX3_asks_12 : decode cX3_asks 12 = .ok (.aload_n 0, 1) := dk_42 (dk_at dksX3_asks_0 12 rfl rfl)
theorem dX3_asks_13 : decode cX3_asks 13 = .ok (.iload_n 1, 1) := dk_27 (dk_at dksX3_asks_0 13 rfl rfl)
theorem dX3_asks_14 : decode cX3_asks 14 = .ok (.iload_n 2, 1) := dk_28 (dk_at dksX3_asks_0 14 rfl rfl)
theorem dX3_asks_15 : decode cX3_asks 15 = .ok (.invokevirtual 95, 3) := dk_182 0 95 (dk_at dksX3_asks_0 15 rfl rfl)
theorem dX3_asks_18 : decode cX3_asks 18 = .ok (.goto 4, 3) := dk_167 0 4 (dk_at dksX3_asks_0 18 rfl rfl)
theorem dX3_asks_21 : decode cX3_asks 21 = .ok (.iconst 0, 1) := dk_3 (dk_at dksX3_asks_0 21 rfl rfl)
theorem dX3_asks_22 : decode cX3_asks 22 = .ok (.ireturn, 1) := dk_172 (dk_at dksX3_asks_0 22 rfl rfl)
abbrev cX3_purse : ByteArray := prog_26_method_60_code
def yX3_purse : MethodName := ⟨RX3, "purse", "(I)I"⟩
def dkwX3_purse_0 : List UInt8 := [42, 27, 4, 182, 0, 175, 172]
abbrev dktX3_purse_0 : List UInt8 := dkwX3_purse_0 ++ []
theorem dksX3_purse_0 : cX3_purse.data.toList.drop 0 = dktX3_purse_0 := by decide +kernel
theorem dX3_purse_0 : decode cX3_purse 0 = .ok (.aload_n 0, 1) := dk_42 (dk_at dksX3_purse_0 0 rfl rfl)
theorem dX3_purse_1 : decode cX3_purse 1 = .ok (.iload_n 1, 1) := dk_27 (dk_at dksX3_purse_0 1 rfl rfl)
theorem dX3_purse_2 : decode cX3_purse 2 = .ok (.iconst 1, 1) := dk_4 (dk_at dksX3_purse_0 2 rfl rfl)
theorem dX3_purse_3 : decode cX3_purse 3 = .ok (.invokevirtual 175, 3) := dk_182 0 175 (dk_at dksX3_purse_0 3 rfl rfl)
theorem dX3_purse_6 : decode cX3_purse 6 = .ok (.ireturn, 1) := dk_172 (dk_at dksX3_purse_0 6 rfl rfl)
abbrev cX3_debt : ByteArray := prog_26_method_61_code
def yX3_debt : MethodName := ⟨RX3, "debt", "(I)I"⟩
def dkwX3_debt_0 : List UInt8 := [42, 27, 5, 182, 0, 175, 172]
abbrev dktX3_debt_0 : List UInt8 := dkwX3_debt_0 ++ []
theorem dksX3_debt_0 : cX3_debt.data.toList.drop 0 = dktX3_debt_0 := by decide +kernel
theorem dX3_debt_0 : decode cX3_debt 0 = .ok (.aload_n 0, 1) := dk_42 (dk_at dksX3_debt_0 0 rfl rfl)
theorem dX3_debt_1 : decode cX3_debt 1 = .ok (.iload_n 1, 1) := dk_27 (dk_at dksX3_debt_0 1 rfl rfl)
theorem dX3_debt_2 : decode cX3_debt 2 = .ok (.iconst 2, 1) := dk_5 (dk_at dksX3_debt_0 2 rfl rfl)
theorem dX3_debt_3 : decode cX3_debt 3 = .ok (.invokevirtual 175, 3) := dk_182 0 175 (dk_at dksX3_debt_0 3 rfl rfl)
theorem dX3_debt_6 : decode cX3_debt 6 = .ok (.ireturn, 1) := dk_172 (dk_at dksX3_debt_0 6 rfl rfl)
abbrev cX3_skippedNights : ByteArray := prog_26_method_62_code
def yX3_skippedNights : MethodName := ⟨RX3, "skippedNights", "(I)I"⟩
def dkwX3_skippedNights_0 : List UInt8 := [42, 27, 6, 182, 0, 175, 172]
abbrev dktX3_skippedNights_0 : List UInt8 := dkwX3_skippedNights_0 ++ []
theorem dksX3_skippedNights_0 : cX3_skippedNights.data.toList.drop 0 = dktX3_skippedNights_0 := by decide +kernel
theorem dX3_skippedNights_0 : decode cX3_skippedNights 0 = .ok (.aload_n 0, 1) := dk_42 (dk_at dksX3_skippedNights_0 0 rfl rfl)
theorem dX3_skippedNights_1 : decode cX3_skippedNights 1 = .ok (.iload_n 1, 1) := dk_27 (dk_at dksX3_skippedNights_0 1 rfl rfl)
theorem dX3_skippedNights_2 : decode cX3_skippedNights 2 = .ok (.iconst 3, 1) := dk_6 (dk_at dksX3_skippedNights_0 2 rfl rfl)
theorem dX3_skippedNights_3 : decode cX3_skippedNights 3 = .ok (.invokevirtual 175, 3) := dk_182 0 175 (dk_at dksX3_skippedNights_0 3 rfl rfl)
theorem dX3_skippedNights_6 : decode cX3_skippedNights 6 = .ok (.ireturn, 1) := dk_172 (dk_at dksX3_skippedNights_0 6 rfl rfl)
abbrev cX3_isResting : ByteArray := prog_26_method_63_code
def yX3_isResting : MethodName := ⟨RX3, "isResting", "(I)Z"⟩
def dkwX3_isResting_0 : List UInt8 := [42, 27, 7, 182, 0, 175, 4, 160, 0, 7, 4, 167, 0, 4, 3, 172]
abbrev dktX3_isResting_0 : List UInt8 := dkwX3_isResting_0 ++ []
theorem dksX3_isResting_0 : cX3_isResting.data.toList.drop 0 = dktX3_isResting_0 := by decide +kernel
theorem dX3_isResting_0 : decode cX3_isResting 0 = .ok (.aload_n 0, 1) := dk_42 (dk_at dksX3_isResting_0 0 rfl rfl)
theorem dX3_isResting_1 : decode cX3_isResting 1 = .ok (.iload_n 1, 1) := dk_27 (dk_at dksX3_isResting_0 1 rfl rfl)
theorem dX3_isResting_2 : decode cX3_isResting 2 = .ok (.iconst 4, 1) := dk_7 (dk_at dksX3_isResting_0 2 rfl rfl)
theorem dX3_isResting_3 : decode cX3_isResting 3 = .ok (.invokevirtual 175, 3) := dk_182 0 175 (dk_at dksX3_isResting_0 3 rfl rfl)
theorem dX3_isResting_6 : decode cX3_isResting 6 = .ok (.iconst 1, 1) := dk_4 (dk_at dksX3_isResting_0 6 rfl rfl)
theorem dX3_isResting_7 : decode cX3_isResting 7 = .ok (.if_icmp .ne 7, 3) := dk_160 0 7 (dk_at dksX3_isResting_0 7 rfl rfl)
theorem dX3_isResting_10 : decode cX3_isResting 10 = .ok (.iconst 1, 1) := dk_4 (dk_at dksX3_isResting_0 10 rfl rfl)
theorem dX3_isResting_11 : decode cX3_isResting 11 = .ok (.goto 4, 3) := dk_167 0 4 (dk_at dksX3_isResting_0 11 rfl rfl)
theorem dX3_isResting_14 : decode cX3_isResting 14 = .ok (.iconst 0, 1) := dk_3 (dk_at dksX3_isResting_0 14 rfl rfl)
theorem dX3_isResting_15 : decode cX3_isResting 15 = .ok (.ireturn, 1) := dk_172 (dk_at dksX3_isResting_0 15 rfl rfl)
abbrev cX3_energy : ByteArray := prog_26_method_64_code
def yX3_energy : MethodName := ⟨RX3, "energy", "(I)I"⟩
def dkwX3_energy_0 : List UInt8 := [42, 42, 27, 182, 0, 77, 182, 0, 61, 153, 0, 11, 42, 27, 182, 0, 154, 167, 0, 4, 3, 172]
abbrev dktX3_energy_0 : List UInt8 := dkwX3_energy_0 ++ []
theorem dksX3_energy_0 : cX3_energy.data.toList.drop 0 = dktX3_energy_0 := by decide +kernel
theorem dX3_energy_0 : decode cX3_energy 0 = .ok (.aload_n 0, 1) := dk_42 (dk_at dksX3_energy_0 0 rfl rfl)
theorem dX3_energy_1 : decode cX3_energy 1 = .ok (.aload_n 0, 1) := dk_42 (dk_at dksX3_energy_0 1 rfl rfl)
theorem dX3_energy_2 : decode cX3_energy 2 = .ok (.iload_n 1, 1) := dk_27 (dk_at dksX3_energy_0 2 rfl rfl)
theorem dX3_energy_3 : decode cX3_energy 3 = .ok (.invokevirtual 77, 3) := dk_182 0 77 (dk_at dksX3_energy_0 3 rfl rfl)
theorem dX3_energy_6 : decode cX3_energy 6 = .ok (.invokevirtual 61, 3) := dk_182 0 61 (dk_at dksX3_energy_0 6 rfl rfl)
theorem dX3_energy_9 : decode cX3_energy 9 = .ok (.ifCond .eq 11, 3) := dk_153 0 11 (dk_at dksX3_energy_0 9 rfl rfl)
theorem dX3_energy_12 : decode cX3_energy 12 = .ok (.aload_n 0, 1) := dk_42 (dk_at dksX3_energy_0 12 rfl rfl)
theorem dX3_energy_13 : decode cX3_energy 13 = .ok (.iload_n 1, 1) := dk_27 (dk_at dksX3_energy_0 13 rfl rfl)
theorem dX3_energy_14 : decode cX3_energy 14 = .ok (.invokevirtual 154, 3) := dk_182 0 154 (dk_at dksX3_energy_0 14 rfl rfl)
theorem dX3_energy_17 : decode cX3_energy 17 = .ok (.goto 4, 3) := dk_167 0 4 (dk_at dksX3_energy_0 17 rfl rfl)
theorem dX3_energy_20 : decode cX3_energy 20 = .ok (.iconst 0, 1) := dk_3 (dk_at dksX3_energy_0 20 rfl rfl)
theorem dX3_energy_21 : decode cX3_energy 21 = .ok (.ireturn, 1) := dk_172 (dk_at dksX3_energy_0 21 rfl rfl)
abbrev cX3_goblinByWealth : ByteArray := prog_26_method_65_code
def yX3_goblinByWealth : MethodName := ⟨RX3, "goblinByWealth", "(I)I"⟩
def dkwX3_goblinByWealth_6 : List UInt8 := [42, 28, 2, 159, 0, 7, 4, 167, 0, 4, 3, 182, 0, 61, 153, 0, 7, 28, 167, 0, 4, 3, 172]
abbrev dktX3_goblinByWealth_6 : List UInt8 := dkwX3_goblinByWealth_6 ++ []
def dkwX3_goblinByWealth_5 : List UInt8 := [132, 5, 1, 167, 255, 158, 21, 4, 27, 160, 0, 7, 29, 167, 0, 4, 28, 61, 132, 3, 1, 167, 255, 123]
abbrev dktX3_goblinByWealth_5 : List UInt8 := dkwX3_goblinByWealth_5 ++ dktX3_goblinByWealth_6
def dkwX3_goblinByWealth_4 : List UInt8 := [157, 0, 14, 21, 7, 154, 0, 13, 21, 5, 29, 162, 0, 7, 4, 167, 0, 4, 3, 96, 54, 4]
abbrev dktX3_goblinByWealth_4 : List UInt8 := dkwX3_goblinByWealth_4 ++ dktX3_goblinByWealth_5
def dkwX3_goblinByWealth_3 : List UInt8 := [29, 3, 182, 0, 95, 100, 54, 7, 21, 4, 21, 6, 157, 0, 24, 21, 6, 154, 0, 23, 21, 7]
abbrev dktX3_goblinByWealth_3 : List UInt8 := dkwX3_goblinByWealth_3 ++ dktX3_goblinByWealth_4
def dkwX3_goblinByWealth_2 : List UInt8 := [42, 29, 4, 182, 0, 95, 100, 42, 29, 5, 182, 0, 95, 96, 54, 6, 42, 21, 5, 3, 182, 0, 95, 42]
abbrev dktX3_goblinByWealth_2 : List UInt8 := dkwX3_goblinByWealth_2 ++ dktX3_goblinByWealth_3
def dkwX3_goblinByWealth_1 : List UInt8 := [180, 0, 9, 16, 9, 46, 162, 0, 92, 42, 21, 5, 4, 182, 0, 95, 42, 21, 5, 5, 182, 0, 95, 100]
abbrev dktX3_goblinByWealth_1 : List UInt8 := dkwX3_goblinByWealth_1 ++ dktX3_goblinByWealth_2
def dkwX3_goblinByWealth_0 : List UInt8 := [2, 61, 3, 62, 29, 42, 180, 0, 9, 16, 9, 46, 162, 0, 128, 3, 54, 4, 3, 54, 5, 21, 5, 42]
abbrev dktX3_goblinByWealth_0 : List UInt8 := dkwX3_goblinByWealth_0 ++ dktX3_goblinByWealth_1
theorem dksX3_goblinByWealth_0 : cX3_goblinByWealth.data.toList.drop 0 = dktX3_goblinByWealth_0 := by decide +kernel
theorem dksX3_goblinByWealth_1 : cX3_goblinByWealth.data.toList.drop 24 = dktX3_goblinByWealth_1 := dk_seg dksX3_goblinByWealth_0 24 rfl rfl
theorem dksX3_goblinByWealth_2 : cX3_goblinByWealth.data.toList.drop 48 = dktX3_goblinByWealth_2 := dk_seg dksX3_goblinByWealth_1 24 rfl rfl
theorem dksX3_goblinByWealth_3 : cX3_goblinByWealth.data.toList.drop 72 = dktX3_goblinByWealth_3 := dk_seg dksX3_goblinByWealth_2 24 rfl rfl
theorem dksX3_goblinByWealth_4 : cX3_goblinByWealth.data.toList.drop 94 = dktX3_goblinByWealth_4 := dk_seg dksX3_goblinByWealth_3 22 rfl rfl
theorem dksX3_goblinByWealth_5 : cX3_goblinByWealth.data.toList.drop 116 = dktX3_goblinByWealth_5 := dk_seg dksX3_goblinByWealth_4 22 rfl rfl
theorem dksX3_goblinByWealth_6 : cX3_goblinByWealth.data.toList.drop 140 = dktX3_goblinByWealth_6 := dk_seg dksX3_goblinByWealth_5 24 rfl rfl
theorem dX3_goblinByWealth_0 : decode cX3_goblinByWealth 0 = .ok (.iconst (-1), 1) := dk_2 (dk_at dksX3_goblinByWealth_0 0 rfl rfl)
theorem dX3_goblinByWealth_1 : decode cX3_goblinByWealth 1 = .ok (.istore_n 2, 1) := dk_61 (dk_at dksX3_goblinByWealth_0 1 rfl rfl)
theorem dX3_goblinByWealth_2 : decode cX3_goblinByWealth 2 = .ok (.iconst 0, 1) := dk_3 (dk_at dksX3_goblinByWealth_0 2 rfl rfl)
theorem dX3_goblinByWealth_3 : decode cX3_goblinByWealth 3 = .ok (.istore_n 3, 1) := dk_62 (dk_at dksX3_goblinByWealth_0 3 rfl rfl)
theorem dX3_goblinByWealth_4 : decode cX3_goblinByWealth 4 = .ok (.iload_n 3, 1) := dk_29 (dk_at dksX3_goblinByWealth_0 4 rfl rfl)
theorem dX3_goblinByWealth_5 : decode cX3_goblinByWealth 5 = .ok (.aload_n 0, 1) := dk_42 (dk_at dksX3_goblinByWealth_0 5 rfl rfl)
theorem dX3_goblinByWealth_6 : decode cX3_goblinByWealth 6 = .ok (.getfield 9, 3) := dk_180 0 9 (dk_at dksX3_goblinByWealth_0 6 rfl rfl)
theorem dX3_goblinByWealth_9 : decode cX3_goblinByWealth 9 = .ok (.bipush 9, 2) := dk_16 9 (dk_at dksX3_goblinByWealth_0 9 rfl rfl)
theorem dX3_goblinByWealth_11 : decode cX3_goblinByWealth 11 = .ok (.iaload, 1) := dk_46 (dk_at dksX3_goblinByWealth_0 11 rfl rfl)
theorem dX3_goblinByWealth_12 : decode cX3_goblinByWealth 12 = .ok (.if_icmp .ge 128, 3) := dk_162 0 128 (dk_at dksX3_goblinByWealth_0 12 rfl rfl)
theorem dX3_goblinByWealth_15 : decode cX3_goblinByWealth 15 = .ok (.iconst 0, 1) := dk_3 (dk_at dksX3_goblinByWealth_0 15 rfl rfl)
theorem dX3_goblinByWealth_16 : decode cX3_goblinByWealth 16 = .ok (.istore 4, 2) := dk_54 4 (dk_at dksX3_goblinByWealth_0 16 rfl rfl)
theorem dX3_goblinByWealth_18 : decode cX3_goblinByWealth 18 = .ok (.iconst 0, 1) := dk_3 (dk_at dksX3_goblinByWealth_0 18 rfl rfl)
theorem dX3_goblinByWealth_19 : decode cX3_goblinByWealth 19 = .ok (.istore 5, 2) := dk_54 5 (dk_at dksX3_goblinByWealth_0 19 rfl rfl)
theorem dX3_goblinByWealth_21 : decode cX3_goblinByWealth 21 = .ok (.iload 5, 2) := dk_21 5 (dk_at dksX3_goblinByWealth_0 21 rfl rfl)
theorem dX3_goblinByWealth_23 : decode cX3_goblinByWealth 23 = .ok (.aload_n 0, 1) := dk_42 (dk_at dksX3_goblinByWealth_0 23 rfl rfl)
theorem dX3_goblinByWealth_24 : decode cX3_goblinByWealth 24 = .ok (.getfield 9, 3) := dk_180 0 9 (dk_at dksX3_goblinByWealth_1 0 rfl rfl)
theorem dX3_goblinByWealth_27 : decode cX3_goblinByWealth 27 = .ok (.bipush 9, 2) := dk_16 9 (dk_at dksX3_goblinByWealth_1 3 rfl rfl)
theorem dX3_goblinByWealth_29 : decode cX3_goblinByWealth 29 = .ok (.iaload, 1) := dk_46 (dk_at dksX3_goblinByWealth_1 5 rfl rfl)
theorem dX3_goblinByWealth_30 : decode cX3_goblinByWealth 30 = .ok (.if_icmp .ge 92, 3) := dk_162 0 92 (dk_at dksX3_goblinByWealth_1 6 rfl rfl)
theorem dX3_goblinByWealth_33 : decode cX3_goblinByWealth 33 = .ok (.aload_n 0, 1) := dk_42 (dk_at dksX3_goblinByWealth_1 9 rfl rfl)
theorem dX3_goblinByWealth_34 : decode cX3_goblinByWealth 34 = .ok (.iload 5, 2) := dk_21 5 (dk_at dksX3_goblinByWealth_1 10 rfl rfl)
theorem dX3_goblinByWealth_36 : decode cX3_goblinByWealth 36 = .ok (.iconst 1, 1) := dk_4 (dk_at dksX3_goblinByWealth_1 12 rfl rfl)
theorem dX3_goblinByWealth_37 : decode cX3_goblinByWealth 37 = .ok (.invokevirtual 95, 3) := dk_182 0 95 (dk_at dksX3_goblinByWealth_1 13 rfl rfl)
theorem dX3_goblinByWealth_40 : decode cX3_goblinByWealth 40 = .ok (.aload_n 0, 1) := dk_42 (dk_at dksX3_goblinByWealth_1 16 rfl rfl)
theorem dX3_goblinByWealth_41 : decode cX3_goblinByWealth 41 = .ok (.iload 5, 2) := dk_21 5 (dk_at dksX3_goblinByWealth_1 17 rfl rfl)
theorem dX3_goblinByWealth_43 : decode cX3_goblinByWealth 43 = .ok (.iconst 2, 1) := dk_5 (dk_at dksX3_goblinByWealth_1 19 rfl rfl)
theorem dX3_goblinByWealth_44 : decode cX3_goblinByWealth 44 = .ok (.invokevirtual 95, 3) := dk_182 0 95 (dk_at dksX3_goblinByWealth_1 20 rfl rfl)
theorem dX3_goblinByWealth_47 : decode cX3_goblinByWealth 47 = .ok (.isub, 1) := dk_100 (dk_at dksX3_goblinByWealth_1 23 rfl rfl)
theorem dX3_goblinByWealth_48 : decode cX3_goblinByWealth 48 = .ok (.aload_n 0, 1) := dk_42 (dk_at dksX3_goblinByWealth_2 0 rfl rfl)
theorem dX3_goblinByWealth_49 : decode cX3_goblinByWealth 49 = .ok (.iload_n 3, 1) := dk_29 (dk_at dksX3_goblinByWealth_2 1 rfl rfl)
theorem dX3_goblinByWealth_50 : decode cX3_goblinByWealth 50 = .ok (.iconst 1, 1) := dk_4 (dk_at dksX3_goblinByWealth_2 2 rfl rfl)
theorem dX3_goblinByWealth_51 : decode cX3_goblinByWealth 51 = .ok (.invokevirtual 95, 3) := dk_182 0 95 (dk_at dksX3_goblinByWealth_2 3 rfl rfl)
theorem dX3_goblinByWealth_54 : decode cX3_goblinByWealth 54 = .ok (.isub, 1) := dk_100 (dk_at dksX3_goblinByWealth_2 6 rfl rfl)
theorem dX3_goblinByWealth_55 : decode cX3_goblinByWealth 55 = .ok (.aload_n 0, 1) := dk_42 (dk_at dksX3_goblinByWealth_2 7 rfl rfl)
theorem dX3_goblinByWealth_56 : decode cX3_goblinByWealth 56 = .ok (.iload_n 3, 1) := dk_29 (dk_at dksX3_goblinByWealth_2 8 rfl rfl)
theorem dX3_goblinByWealth_57 : decode cX3_goblinByWealth 57 = .ok (.iconst 2, 1) := dk_5 (dk_at dksX3_goblinByWealth_2 9 rfl rfl)
theorem dX3_goblinByWealth_58 : decode cX3_goblinByWealth 58 = .ok (.invokevirtual 95, 3) := dk_182 0 95 (dk_at dksX3_goblinByWealth_2 10 rfl rfl)
theorem dX3_goblinByWealth_61 : decode cX3_goblinByWealth 61 = .ok (.iadd, 1) := dk_96 (dk_at dksX3_goblinByWealth_2 13 rfl rfl)
theorem dX3_goblinByWealth_62 : decode cX3_goblinByWealth 62 = .ok (.istore 6, 2) := dk_54 6 (dk_at dksX3_goblinByWealth_2 14 rfl rfl)
theorem dX3_goblinByWealth_64 : decode cX3_goblinByWealth 64 = .ok (.aload_n 0, 1) := dk_42 (dk_at dksX3_goblinByWealth_2 16 rfl rfl)
theorem dX3_goblinByWealth_65 : decode cX3_goblinByWealth 65 = .ok (.iload 5, 2) := dk_21 5 (dk_at dksX3_goblinByWealth_2 17 rfl rfl)
theorem dX3_goblinByWealth_67 : decode cX3_goblinByWealth 67 = .ok (.iconst 0, 1) := dk_3 (dk_at dksX3_goblinByWealth_2 19 rfl rfl)
theorem dX3_goblinByWealth_68 : decode cX3_goblinByWealth 68 = .ok (.invokevirtual 95, 3) := dk_182 0 95 (dk_at dksX3_goblinByWealth_2 20 rfl rfl)
theorem dX3_goblinByWealth_71 : decode cX3_goblinByWealth 71 = .ok (.aload_n 0, 1) := dk_42 (dk_at dksX3_goblinByWealth_2 23 rfl rfl)
theorem dX3_goblinByWealth_72 : decode cX3_goblinByWealth 72 = .ok (.iload_n 3, 1) := dk_29 (dk_at dksX3_goblinByWealth_3 0 rfl rfl)
theorem dX3_goblinByWealth_73 : decode cX3_goblinByWealth 73 = .ok (.iconst 0, 1) := dk_3 (dk_at dksX3_goblinByWealth_3 1 rfl rfl)
theorem dX3_goblinByWealth_74 : decode cX3_goblinByWealth 74 = .ok (.invokevirtual 95, 3) := dk_182 0 95 (dk_at dksX3_goblinByWealth_3 2 rfl rfl)
theorem dX3_goblinByWealth_77 : decode cX3_goblinByWealth 77 = .ok (.isub, 1) := dk_100 (dk_at dksX3_goblinByWealth_3 5 rfl rfl)
theorem dX3_goblinByWealth_78 : decode cX3_goblinByWealth 78 = .ok (.istore 7, 2) := dk_54 7 (dk_at dksX3_goblinByWealth_3 6 rfl rfl)
theorem dX3_goblinByWealth_80 : decode cX3_goblinByWealth 80 = .ok (.iload 4, 2) := dk_21 4 (dk_at dksX3_goblinByWealth_3 8 rfl rfl)
theorem dX3_goblinByWealth_82 : decode cX3_goblinByWealth 82 = .ok (.iload 6, 2) := dk_21 6 (dk_at dksX3_goblinByWealth_3 10 rfl rfl)
theorem dX3_goblinByWealth_84 : decode cX3_goblinByWealth 84 = .ok (.ifCond .gt 24, 3) := dk_157 0 24 (dk_at dksX3_goblinByWealth_3 12 rfl rfl)
theorem dX3_goblinByWealth_87 : decode cX3_goblinByWealth 87 = .ok (.iload 6, 2) := dk_21 6 (dk_at dksX3_goblinByWealth_3 15 rfl rfl)
theorem dX3_goblinByWealth_89 : decode cX3_goblinByWealth 89 = .ok (.ifCond .ne 23, 3) := dk_154 0 23 (dk_at dksX3_goblinByWealth_3 17 rfl rfl)
theorem dX3_goblinByWealth_92 : decode cX3_goblinByWealth 92 = .ok (.iload 7, 2) := dk_21 7 (dk_at dksX3_goblinByWealth_3 20 rfl rfl)
theorem dX3_goblinByWealth_94 : decode cX3_goblinByWealth 94 = .ok (.ifCond .gt 14, 3) := dk_157 0 14 (dk_at dksX3_goblinByWealth_4 0 rfl rfl)
theorem dX3_goblinByWealth_97 : decode cX3_goblinByWealth 97 = .ok (.iload 7, 2) := dk_21 7 (dk_at dksX3_goblinByWealth_4 3 rfl rfl)
theorem dX3_goblinByWealth_99 : decode cX3_goblinByWealth 99 = .ok (.ifCond .ne 13, 3) := dk_154 0 13 (dk_at dksX3_goblinByWealth_4 5 rfl rfl)
theorem dX3_goblinByWealth_102 : decode cX3_goblinByWealth 102 = .ok (.iload 5, 2) := dk_21 5 (dk_at dksX3_goblinByWealth_4 8 rfl rfl)
theorem dX3_goblinByWealth_104 : decode cX3_goblinByWealth 104 = .ok (.iload_n 3, 1) := dk_29 (dk_at dksX3_goblinByWealth_4 10 rfl rfl)
theorem dX3_goblinByWealth_105 : decode cX3_goblinByWealth 105 = .ok (.if_icmp .ge 7, 3) := dk_162 0 7 (dk_at dksX3_goblinByWealth_4 11 rfl rfl)
theorem dX3_goblinByWealth_108 : decode cX3_goblinByWealth 108 = .ok (.iconst 1, 1) := dk_4 (dk_at dksX3_goblinByWealth_4 14 rfl rfl)
theorem dX3_goblinByWealth_109 : decode cX3_goblinByWealth 109 = .ok (.goto 4, 3) := dk_167 0 4 (dk_at dksX3_goblinByWealth_4 15 rfl rfl)
theorem dX3_goblinByWealth_112 : decode cX3_goblinByWealth 112 = .ok (.iconst 0, 1) := dk_3 (dk_at dksX3_goblinByWealth_4 18 rfl rfl)
theorem dX3_goblinByWealth_113 : decode cX3_goblinByWealth 113 = .ok (.iadd, 1) := dk_96 (dk_at dksX3_goblinByWealth_4 19 rfl rfl)
theorem dX3_goblinByWealth_114 : decode cX3_goblinByWealth 114 = .ok (.istore 4, 2) := dk_54 4 (dk_at dksX3_goblinByWealth_4 20 rfl rfl)
theorem dX3_goblinByWealth_116 : decode cX3_goblinByWealth 116 = .ok (.iinc 5 1, 3) := dk_132 5 1 (dk_at dksX3_goblinByWealth_5 0 rfl rfl)
theorem dX3_goblinByWealth_119 : decode cX3_goblinByWealth 119 = .ok (.goto (-98), 3) := dk_167 255 158 (dk_at dksX3_goblinByWealth_5 3 rfl rfl)
theorem dX3_goblinByWealth_122 : decode cX3_goblinByWealth 122 = .ok (.iload 4, 2) := dk_21 4 (dk_at dksX3_goblinByWealth_5 6 rfl rfl)
theorem dX3_goblinByWealth_124 : decode cX3_goblinByWealth 124 = .ok (.iload_n 1, 1) := dk_27 (dk_at dksX3_goblinByWealth_5 8 rfl rfl)
theorem dX3_goblinByWealth_125 : decode cX3_goblinByWealth 125 = .ok (.if_icmp .ne 7, 3) := dk_160 0 7 (dk_at dksX3_goblinByWealth_5 9 rfl rfl)
theorem dX3_goblinByWealth_128 : decode cX3_goblinByWealth 128 = .ok (.iload_n 3, 1) := dk_29 (dk_at dksX3_goblinByWealth_5 12 rfl rfl)
theorem dX3_goblinByWealth_129 : decode cX3_goblinByWealth 129 = .ok (.goto 4, 3) := dk_167 0 4 (dk_at dksX3_goblinByWealth_5 13 rfl rfl)
theorem dX3_goblinByWealth_132 : decode cX3_goblinByWealth 132 = .ok (.iload_n 2, 1) := dk_28 (dk_at dksX3_goblinByWealth_5 16 rfl rfl)
theorem dX3_goblinByWealth_133 : decode cX3_goblinByWealth 133 = .ok (.istore_n 2, 1) := dk_61 (dk_at dksX3_goblinByWealth_5 17 rfl rfl)
theorem dX3_goblinByWealth_134 : decode cX3_goblinByWealth 134 = .ok (.iinc 3 1, 3) := dk_132 3 1 (dk_at dksX3_goblinByWealth_5 18 rfl rfl)
theorem dX3_goblinByWealth_137 : decode cX3_goblinByWealth 137 = .ok (.goto (-133), 3) := dk_167 255 123 (dk_at dksX3_goblinByWealth_5 21 rfl rfl)
theorem dX3_goblinByWealth_140 : decode cX3_goblinByWealth 140 = .ok (.aload_n 0, 1) := dk_42 (dk_at dksX3_goblinByWealth_6 0 rfl rfl)
theorem dX3_goblinByWealth_141 : decode cX3_goblinByWealth 141 = .ok (.iload_n 2, 1) := dk_28 (dk_at dksX3_goblinByWealth_6 1 rfl rfl)
theorem dX3_goblinByWealth_142 : decode cX3_goblinByWealth 142 = .ok (.iconst (-1), 1) := dk_2 (dk_at dksX3_goblinByWealth_6 2 rfl rfl)
theorem dX3_goblinByWealth_143 : decode cX3_goblinByWealth 143 = .ok (.if_icmp .eq 7, 3) := dk_159 0 7 (dk_at dksX3_goblinByWealth_6 3 rfl rfl)
theorem dX3_goblinByWealth_146 : decode cX3_goblinByWealth 146 = .ok (.iconst 1, 1) := dk_4 (dk_at dksX3_goblinByWealth_6 6 rfl rfl)
theorem dX3_goblinByWealth_147 : decode cX3_goblinByWealth 147 = .ok (.goto 4, 3) := dk_167 0 4 (dk_at dksX3_goblinByWealth_6 7 rfl rfl)
theorem dX3_goblinByWealth_150 : decode cX3_goblinByWealth 150 = .ok (.iconst 0, 1) := dk_3 (dk_at dksX3_goblinByWealth_6 10 rfl rfl)
theorem dX3_goblinByWealth_151 : decode cX3_goblinByWealth 151 = .ok (.invokevirtual 61, 3) := dk_182 0 61 (dk_at dksX3_goblinByWealth_6 11 rfl rfl)
theorem dX3_goblinByWealth_154 : decode cX3_goblinByWealth 154 = .ok (.ifCond .eq 7, 3) := dk_153 0 7 (dk_at dksX3_goblinByWealth_6 14 rfl rfl)
theorem dX3_goblinByWealth_157 : decode cX3_goblinByWealth 157 = .ok (.iload_n 2, 1) := dk_28 (dk_at dksX3_goblinByWealth_6 17 rfl rfl)
theorem dX3_goblinByWealth_158 : decode cX3_goblinByWealth 158 = .ok (.goto 4, 3) := dk_167 0 4 (dk_at dksX3_goblinByWealth_6 18 rfl rfl)
theorem dX3_goblinByWealth_161 : decode cX3_goblinByWealth 161 = .ok (.iconst 0, 1) := dk_3 (dk_at dksX3_goblinByWealth_6 21 rfl rfl)
theorem dX3_goblinByWealth_162 : decode cX3_goblinByWealth 162 = .ok (.ireturn, 1) := dk_172 (dk_at dksX3_goblinByWealth_6 22 rfl rfl)
abbrev cX3_bestWages : ByteArray := prog_26_method_67_code
def yX3_bestWages : MethodName := ⟨RX3, "bestWages", "(I)I"⟩
def dkwX3_bestWages_0 : List UInt8 := [42, 27, 182, 0, 178, 172]
abbrev dktX3_bestWages_0 : List UInt8 := dkwX3_bestWages_0 ++ []
theorem dksX3_bestWages_0 : cX3_bestWages.data.toList.drop 0 = dktX3_bestWages_0 := by decide +kernel
theorem dX3_bestWages_0 : decode cX3_bestWages 0 = .ok (.aload_n 0, 1) := dk_42 (dk_at dksX3_bestWages_0 0 rfl rfl)
theorem dX3_bestWages_1 : decode cX3_bestWages 1 = .ok (.iload_n 1, 1) := dk_27 (dk_at dksX3_bestWages_0 1 rfl rfl)
theorem dX3_bestWages_2 : decode cX3_bestWages 2 = .ok (.invokevirtual 178, 3) := dk_182 0 178 (dk_at dksX3_bestWages_0 2 rfl rfl)
theorem dX3_bestWages_5 : decode cX3_bestWages 5 = .ok (.ireturn, 1) := dk_172 (dk_at dksX3_bestWages_0 5 rfl rfl)
abbrev cX3_bestOf : ByteArray := prog_26_method_66_code
def yX3_bestOf : MethodName := ⟨RX3, "bestOf", "(I)I"⟩
def dkwX3_bestOf_5 : List UInt8 := [167, 255, 194, 132, 3, 1, 167, 255, 174, 42, 180, 0, 32, 28, 46, 172]
abbrev dktX3_bestOf_5 : List UInt8 := dkwX3_bestOf_5 ++ []
def dkwX3_bestOf_4 : List UInt8 := [21, 4, 42, 29, 7, 182, 0, 84, 100, 46, 42, 29, 6, 182, 0, 84, 96, 184, 0, 90, 79, 132, 4, 255]
abbrev dktX3_bestOf_4 : List UInt8 := dkwX3_bestOf_4 ++ dktX3_bestOf_5
def dkwX3_bestOf_3 : List UInt8 := [182, 0, 84, 27, 160, 0, 47, 42, 180, 0, 32, 21, 4, 42, 180, 0, 32, 21, 4, 46, 42, 180, 0, 32]
abbrev dktX3_bestOf_3 : List UInt8 := dkwX3_bestOf_3 ++ dktX3_bestOf_4
def dkwX3_bestOf_2 : List UInt8 := [16, 11, 46, 162, 0, 77, 28, 54, 4, 21, 4, 42, 29, 7, 182, 0, 84, 161, 0, 57, 42, 29, 4]
abbrev dktX3_bestOf_2 : List UInt8 := dkwX3_bestOf_2 ++ dktX3_bestOf_3
def dkwX3_bestOf_1 : List UInt8 := [163, 0, 16, 42, 180, 0, 32, 29, 3, 79, 132, 3, 1, 167, 255, 241, 3, 62, 29, 42, 180, 0, 9]
abbrev dktX3_bestOf_1 : List UInt8 := dkwX3_bestOf_1 ++ dktX3_bestOf_2
def dkwX3_bestOf_0 : List UInt8 := [42, 42, 27, 182, 0, 77, 182, 0, 61, 154, 0, 5, 3, 172, 42, 27, 182, 0, 154, 61, 3, 62, 29, 28]
abbrev dktX3_bestOf_0 : List UInt8 := dkwX3_bestOf_0 ++ dktX3_bestOf_1
theorem dksX3_bestOf_0 : cX3_bestOf.data.toList.drop 0 = dktX3_bestOf_0 := by decide +kernel
theorem dksX3_bestOf_1 : cX3_bestOf.data.toList.drop 24 = dktX3_bestOf_1 := dk_seg dksX3_bestOf_0 24 rfl rfl
theorem dksX3_bestOf_2 : cX3_bestOf.data.toList.drop 47 = dktX3_bestOf_2 := dk_seg dksX3_bestOf_1 23 rfl rfl
theorem dksX3_bestOf_3 : cX3_bestOf.data.toList.drop 70 = dktX3_bestOf_3 := dk_seg dksX3_bestOf_2 23 rfl rfl
theorem dksX3_bestOf_4 : cX3_bestOf.data.toList.drop 94 = dktX3_bestOf_4 := dk_seg dksX3_bestOf_3 24 rfl rfl
theorem dksX3_bestOf_5 : cX3_bestOf.data.toList.drop 118 = dktX3_bestOf_5 := dk_seg dksX3_bestOf_4 24 rfl rfl
theorem dX3_bestOf_0 : decode cX3_bestOf 0 = .ok (.aload_n 0, 1) := dk_42 (dk_at dksX3_bestOf_0 0 rfl rfl)
theorem dX3_bestOf_1 : decode cX3_bestOf 1 = .ok (.aload_n 0, 1) := dk_42 (dk_at dksX3_bestOf_0 1 rfl rfl)
theorem dX3_bestOf_2 : decode cX3_bestOf 2 = .ok (.iload_n 1, 1) := dk_27 (dk_at dksX3_bestOf_0 2 rfl rfl)
theorem dX3_bestOf_3 : decode cX3_bestOf 3 = .ok (.invokevirtual 77, 3) := dk_182 0 77 (dk_at dksX3_bestOf_0 3 rfl rfl)
theorem dX3_bestOf_6 : decode cX3_bestOf 6 = .ok (.invokevirtual 61, 3) := dk_182 0 61 (dk_at dksX3_bestOf_0 6 rfl rfl)
theorem dX3_bestOf_9 : decode cX3_bestOf 9 = .ok (.ifCond .ne 5, 3) := dk_154 0 5 (dk_at dksX3_bestOf_0 9 rfl rfl)
theorem dX3_bestOf_12 : decode cX3_bestOf 12 = .ok (.iconst 0, 1) := dk_3 (dk_at dksX3_bestOf_0 12 rfl rfl)
theorem dX3_bestOf_13 : decode cX3_bestOf 13 = .ok (.ireturn, 1) := dk_172 (dk_at dksX3_bestOf_0 13 rfl rfl)
theorem dX3_bestOf_14 : decode cX3_bestOf 14 = .ok (.aload_n 0, 1) := dk_42 (dk_at dksX3_bestOf_0 14 rfl rfl)
theorem dX3_bestOf_15 : decode cX3_bestOf 15 = .ok (.iload_n 1, 1) := dk_27 (dk_at dksX3_bestOf_0 15 rfl rfl)
theorem dX3_bestOf_16 : decode cX3_bestOf 16 = .ok (.invokevirtual 154, 3) := dk_182 0 154 (dk_at dksX3_bestOf_0 16 rfl rfl)
theorem dX3_bestOf_19 : decode cX3_bestOf 19 = .ok (.istore_n 2, 1) := dk_61 (dk_at dksX3_bestOf_0 19 rfl rfl)
theorem dX3_bestOf_20 : decode cX3_bestOf 20 = .ok (.iconst 0, 1) := dk_3 (dk_at dksX3_bestOf_0 20 rfl rfl)
theorem dX3_bestOf_21 : decode cX3_bestOf 21 = .ok (.istore_n 3, 1) := dk_62 (dk_at dksX3_bestOf_0 21 rfl rfl)
theorem dX3_bestOf_22 : decode cX3_bestOf 22 = .ok (.iload_n 3, 1) := dk_29 (dk_at dksX3_bestOf_0 22 rfl rfl)
theorem dX3_bestOf_23 : decode cX3_bestOf 23 = .ok (.iload_n 2, 1) := dk_28 (dk_at dksX3_bestOf_0 23 rfl rfl)
theorem dX3_bestOf_24 : decode cX3_bestOf 24 = .ok (.if_icmp .gt 16, 3) := dk_163 0 16 (dk_at dksX3_bestOf_1 0 rfl rfl)
theorem dX3_bestOf_27 : decode cX3_bestOf 27 = .ok (.aload_n 0, 1) := dk_42 (dk_at dksX3_bestOf_1 3 rfl rfl)
theorem dX3_bestOf_28 : decode cX3_bestOf 28 = .ok (.getfield 32, 3) := dk_180 0 32 (dk_at dksX3_bestOf_1 4 rfl rfl)
theorem dX3_bestOf_31 : decode cX3_bestOf 31 = .ok (.iload_n 3, 1) := dk_29 (dk_at dksX3_bestOf_1 7 rfl rfl)
theorem dX3_bestOf_32 : decode cX3_bestOf 32 = .ok (.iconst 0, 1) := dk_3 (dk_at dksX3_bestOf_1 8 rfl rfl)
theorem dX3_bestOf_33 : decode cX3_bestOf 33 = .ok (.iastore, 1) := dk_79 (dk_at dksX3_bestOf_1 9 rfl rfl)
theorem dX3_bestOf_34 : decode cX3_bestOf 34 = .ok (.iinc 3 1, 3) := dk_132 3 1 (dk_at dksX3_bestOf_1 10 rfl rfl)
theorem dX3_bestOf_37 : decode cX3_bestOf 37 = .ok (.goto (-15), 3) := dk_167 255 241 (dk_at dksX3_bestOf_1 13 rfl rfl)
theorem dX3_bestOf_40 : decode cX3_bestOf 40 = .ok (.iconst 0, 1) := dk_3 (dk_at dksX3_bestOf_1 16 rfl rfl)
theorem dX3_bestOf_41 : decode cX3_bestOf 41 = .ok (.istore_n 3, 1) := dk_62 (dk_at dksX3_bestOf_1 17 rfl rfl)
theorem dX3_bestOf_42 : decode cX3_bestOf 42 = .ok (.iload_n 3, 1) := dk_29 (dk_at dksX3_bestOf_1 18 rfl rfl)
theorem dX3_bestOf_43 : decode cX3_bestOf 43 = .ok (.aload_n 0, 1) := dk_42 (dk_at dksX3_bestOf_1 19 rfl rfl)
theorem dX3_bestOf_44 : decode cX3_bestOf 44 = .ok (.getfield 9, 3) := dk_180 0 9 (dk_at dksX3_bestOf_1 20 rfl rfl)
theorem dX3_bestOf_47 : decode cX3_bestOf 47 = .ok (.bipush 11, 2) := dk_16 11 (dk_at dksX3_bestOf_2 0 rfl rfl)
theorem dX3_bestOf_49 : decode cX3_bestOf 49 = .ok (.iaload, 1) := dk_46 (dk_at dksX3_bestOf_2 2 rfl rfl)
theorem dX3_bestOf_50 : decode cX3_bestOf 50 = .ok (.if_icmp .ge 77, 3) := dk_162 0 77 (dk_at dksX3_bestOf_2 3 rfl rfl)
theorem dX3_bestOf_53 : decode cX3_bestOf 53 = .ok (.iload_n 2, 1) := dk_28 (dk_at dksX3_bestOf_2 6 rfl rfl)
theorem dX3_bestOf_54 : decode cX3_bestOf 54 = .ok (.istore 4, 2) := dk_54 4 (dk_at dksX3_bestOf_2 7 rfl rfl)
theorem dX3_bestOf_56 : decode cX3_bestOf 56 = .ok (.iload 4, 2) := dk_21 4 (dk_at dksX3_bestOf_2 9 rfl rfl)
theorem dX3_bestOf_58 : decode cX3_bestOf 58 = .ok (.aload_n 0, 1) := dk_42 (dk_at dksX3_bestOf_2 11 rfl rfl)
theorem dX3_bestOf_59 : decode cX3_bestOf 59 = .ok (.iload_n 3, 1) := dk_29 (dk_at dksX3_bestOf_2 12 rfl rfl)
theorem dX3_bestOf_60 : decode cX3_bestOf 60 = .ok (.iconst 4, 1) := dk_7 (dk_at dksX3_bestOf_2 13 rfl rfl)
theorem dX3_bestOf_61 : decode cX3_bestOf 61 = .ok (.invokevirtual 84, 3) := dk_182 0 84 (dk_at dksX3_bestOf_2 14 rfl rfl)
theorem dX3_bestOf_64 : decode cX3_bestOf 64 = .ok (.if_icmp .lt 57, 3) := dk_161 0 57 (dk_at dksX3_bestOf_2 17 rfl rfl)
theorem dX3_bestOf_67 : decode cX3_bestOf 67 = .ok (.aload_n 0, 1) := dk_42 (dk_at dksX3_bestOf_2 20 rfl rfl)
theorem dX3_bestOf_68 : decode cX3_bestOf 68 = .ok (.iload_n 3, 1) := dk_29 (dk_at dksX3_bestOf_2 21 rfl rfl)
theorem dX3_bestOf_69 : decode cX3_bestOf 69 = .ok (.iconst 1, 1) := dk_4 (dk_at dksX3_bestOf_2 22 rfl rfl)
theorem dX3_bestOf_70 : decode cX3_bestOf 70 = .ok (.invokevirtual 84, 3) := dk_182 0 84 (dk_at dksX3_bestOf_3 0 rfl rfl)
theorem dX3_bestOf_73 : decode cX3_bestOf 73 = .ok (.iload_n 1, 1) := dk_27 (dk_at dksX3_bestOf_3 3 rfl rfl)
theorem dX3_bestOf_74 : decode cX3_bestOf 74 = .ok (.if_icmp .ne 47, 3) := dk_160 0 47 (dk_at dksX3_bestOf_3 4 rfl rfl)
theorem dX3_bestOf_77 : decode cX3_bestOf 77 = .ok (.aload_n 0, 1) := dk_42 (dk_at dksX3_bestOf_3 7 rfl rfl)
theorem dX3_bestOf_78 : decode cX3_bestOf 78 = .ok (.getfield 32, 3) := dk_180 0 32 (dk_at dksX3_bestOf_3 8 rfl rfl)
theorem dX3_bestOf_81 : decode cX3_bestOf 81 = .ok (.iload 4, 2) := dk_21 4 (dk_at dksX3_bestOf_3 11 rfl rfl)
theorem dX3_bestOf_83 : decode cX3_bestOf 83 = .ok (.aload_n 0, 1) := dk_42 (dk_at dksX3_bestOf_3 13 rfl rfl)
theorem dX3_bestOf_84 : decode cX3_bestOf 84 = .ok (.getfield 32, 3) := dk_180 0 32 (dk_at dksX3_bestOf_3 14 rfl rfl)
theorem dX3_bestOf_87 : decode cX3_bestOf 87 = .ok (.iload 4, 2) := dk_21 4 (dk_at dksX3_bestOf_3 17 rfl rfl)
theorem dX3_bestOf_89 : decode cX3_bestOf 89 = .ok (.iaload, 1) := dk_46 (dk_at dksX3_bestOf_3 19 rfl rfl)
theorem dX3_bestOf_90 : decode cX3_bestOf 90 = .ok (.aload_n 0, 1) := dk_42 (dk_at dksX3_bestOf_3 20 rfl rfl)
theorem dX3_bestOf_91 : decode cX3_bestOf 91 = .ok (.getfield 32, 3) := dk_180 0 32 (dk_at dksX3_bestOf_3 21 rfl rfl)
theorem dX3_bestOf_94 : decode cX3_bestOf 94 = .ok (.iload 4, 2) := dk_21 4 (dk_at dksX3_bestOf_4 0 rfl rfl)
theorem dX3_bestOf_96 : decode cX3_bestOf 96 = .ok (.aload_n 0, 1) := dk_42 (dk_at dksX3_bestOf_4 2 rfl rfl)
theorem dX3_bestOf_97 : decode cX3_bestOf 97 = .ok (.iload_n 3, 1) := dk_29 (dk_at dksX3_bestOf_4 3 rfl rfl)
theorem dX3_bestOf_98 : decode cX3_bestOf 98 = .ok (.iconst 4, 1) := dk_7 (dk_at dksX3_bestOf_4 4 rfl rfl)
theorem dX3_bestOf_99 : decode cX3_bestOf 99 = .ok (.invokevirtual 84, 3) := dk_182 0 84 (dk_at dksX3_bestOf_4 5 rfl rfl)
theorem dX3_bestOf_102 : decode cX3_bestOf 102 = .ok (.isub, 1) := dk_100 (dk_at dksX3_bestOf_4 8 rfl rfl)
theorem dX3_bestOf_103 : decode cX3_bestOf 103 = .ok (.iaload, 1) := dk_46 (dk_at dksX3_bestOf_4 9 rfl rfl)
theorem dX3_bestOf_104 : decode cX3_bestOf 104 = .ok (.aload_n 0, 1) := dk_42 (dk_at dksX3_bestOf_4 10 rfl rfl)
theorem dX3_bestOf_105 : decode cX3_bestOf 105 = .ok (.iload_n 3, 1) := dk_29 (dk_at dksX3_bestOf_4 11 rfl rfl)
theorem dX3_bestOf_106 : decode cX3_bestOf 106 = .ok (.iconst 3, 1) := dk_6 (dk_at dksX3_bestOf_4 12 rfl rfl)
theorem dX3_bestOf_107 : decode cX3_bestOf 107 = .ok (.invokevirtual 84, 3) := dk_182 0 84 (dk_at dksX3_bestOf_4 13 rfl rfl)
theorem dX3_bestOf_110 : decode cX3_bestOf 110 = .ok (.iadd, 1) := dk_96 (dk_at dksX3_bestOf_4 16 rfl rfl)
theorem dX3_bestOf_111 : decode cX3_bestOf 111 = .ok (.invokestatic 90, 3) := dk_184 0 90 (dk_at dksX3_bestOf_4 17 rfl rfl)
theorem dX3_bestOf_114 : decode cX3_bestOf 114 = .ok (.iastore, 1) := dk_79 (dk_at dksX3_bestOf_4 20 rfl rfl)
theorem dX3_bestOf_115 : decode cX3_bestOf 115 = .ok (.iinc 4 (-1), 3) := dk_132 4 255 (dk_at dksX3_bestOf_4 21 rfl rfl)
theorem dX3_bestOf_118 : decode cX3_bestOf 118 = .ok (.goto (-62), 3) := dk_167 255 194 (dk_at dksX3_bestOf_5 0 rfl rfl)
theorem dX3_bestOf_121 : decode cX3_bestOf 121 = .ok (.iinc 3 1, 3) := dk_132 3 1 (dk_at dksX3_bestOf_5 3 rfl rfl)
theorem dX3_bestOf_124 : decode cX3_bestOf 124 = .ok (.goto (-82), 3) := dk_167 255 174 (dk_at dksX3_bestOf_5 6 rfl rfl)
theorem dX3_bestOf_127 : decode cX3_bestOf 127 = .ok (.aload_n 0, 1) := dk_42 (dk_at dksX3_bestOf_5 9 rfl rfl)
theorem dX3_bestOf_128 : decode cX3_bestOf 128 = .ok (.getfield 32, 3) := dk_180 0 32 (dk_at dksX3_bestOf_5 10 rfl rfl)
theorem dX3_bestOf_131 : decode cX3_bestOf 131 = .ok (.iload_n 2, 1) := dk_28 (dk_at dksX3_bestOf_5 13 rfl rfl)
theorem dX3_bestOf_132 : decode cX3_bestOf 132 = .ok (.iaload, 1) := dk_46 (dk_at dksX3_bestOf_5 14 rfl rfl)
theorem dX3_bestOf_133 : decode cX3_bestOf 133 = .ok (.ireturn, 1) := dk_172 (dk_at dksX3_bestOf_5 15 rfl rfl)
abbrev cX3_bestWagesByTable : ByteArray := prog_26_method_68_code
def yX3_bestWagesByTable : MethodName := ⟨RX3, "bestWagesByTable", "(I)I"⟩
def dkwX3_bestWagesByTable_0 : List UInt8 := [42, 27, 182, 0, 178, 172]
abbrev dktX3_bestWagesByTable_0 : List UInt8 := dkwX3_bestWagesByTable_0 ++ []
theorem dksX3_bestWagesByTable_0 : cX3_bestWagesByTable.data.toList.drop 0 = dktX3_bestWagesByTable_0 := by decide +kernel
theorem dX3_bestWagesByTable_0 : decode cX3_bestWagesByTable 0 = .ok (.aload_n 0, 1) := dk_42 (dk_at dksX3_bestWagesByTable_0 0 rfl rfl)
theorem dX3_bestWagesByTable_1 : decode cX3_bestWagesByTable 1 = .ok (.iload_n 1, 1) := dk_27 (dk_at dksX3_bestWagesByTable_0 1 rfl rfl)
theorem dX3_bestWagesByTable_2 : decode cX3_bestWagesByTable 2 = .ok (.invokevirtual 178, 3) := dk_182 0 178 (dk_at dksX3_bestWagesByTable_0 2 rfl rfl)
theorem dX3_bestWagesByTable_5 : decode cX3_bestWagesByTable 5 = .ok (.ireturn, 1) := dk_172 (dk_at dksX3_bestWagesByTable_0 5 rfl rfl)
abbrev cX3_openContracts : ByteArray := prog_26_method_69_code
def yX3_openContracts : MethodName := ⟨RX3, "openContracts", "()I"⟩
def dkwX3_openContracts_0 : List UInt8 := [42, 3, 181, 0, 44, 42, 180, 0, 9, 16, 11, 46, 172]
abbrev dktX3_openContracts_0 : List UInt8 := dkwX3_openContracts_0 ++ []
theorem dksX3_openContracts_0 : cX3_openContracts.data.toList.drop 0 = dktX3_openContracts_0 := by decide +kernel
theorem dX3_openContracts_0 : decode cX3_openContracts 0 = .ok (.aload_n 0, 1) := dk_42 (dk_at dksX3_openContracts_0 0 rfl rfl)
theorem dX3_openContracts_1 : decode cX3_openContracts 1 = .ok (.iconst 0, 1) := dk_3 (dk_at dksX3_openContracts_0 1 rfl rfl)
theorem dX3_openContracts_2 : decode cX3_openContracts 2 = .ok (.putfield 44, 3) := dk_181 0 44 (dk_at dksX3_openContracts_0 2 rfl rfl)
theorem dX3_openContracts_5 : decode cX3_openContracts 5 = .ok (.aload_n 0, 1) := dk_42 (dk_at dksX3_openContracts_0 5 rfl rfl)
theorem dX3_openContracts_6 : decode cX3_openContracts 6 = .ok (.getfield 9, 3) := dk_180 0 9 (dk_at dksX3_openContracts_0 6 rfl rfl)
theorem dX3_openContracts_9 : decode cX3_openContracts 9 = .ok (.bipush 11, 2) := dk_16 11 (dk_at dksX3_openContracts_0 9 rfl rfl)
theorem dX3_openContracts_11 : decode cX3_openContracts 11 = .ok (.iaload, 1) := dk_46 (dk_at dksX3_openContracts_0 11 rfl rfl)
theorem dX3_openContracts_12 : decode cX3_openContracts 12 = .ok (.ireturn, 1) := dk_172 (dk_at dksX3_openContracts_0 12 rfl rfl)
abbrev cX3_contractAt : ByteArray := prog_26_method_70_code
def yX3_contractAt : MethodName := ⟨RX3, "contractAt", "(I)I"⟩
def dkwX3_contractAt_1 : List UInt8 := [182, 0, 84, 167, 0, 4, 3, 172]
abbrev dktX3_contractAt_1 : List UInt8 := dkwX3_contractAt_1 ++ []
def dkwX3_contractAt_0 : List UInt8 := [42, 27, 3, 42, 180, 0, 9, 16, 11, 46, 4, 100, 184, 0, 69, 182, 0, 61, 153, 0, 12, 42, 27, 3]
abbrev dktX3_contractAt_0 : List UInt8 := dkwX3_contractAt_0 ++ dktX3_contractAt_1
theorem dksX3_contractAt_0 : cX3_contractAt.data.toList.drop 0 = dktX3_contractAt_0 := by decide +kernel
theorem dksX3_contractAt_1 : cX3_contractAt.data.toList.drop 24 = dktX3_contractAt_1 := dk_seg dksX3_contractAt_0 24 rfl rfl
theorem dX3_contractAt_0 : decode cX3_contractAt 0 = .ok (.aload_n 0, 1) := dk_42 (dk_at dksX3_contractAt_0 0 rfl rfl)
theorem dX3_contractAt_1 : decode cX3_contractAt 1 = .ok (.iload_n 1, 1) := dk_27 (dk_at dksX3_contractAt_0 1 rfl rfl)
theorem dX3_contractAt_2 : decode cX3_contractAt 2 = .ok (.iconst 0, 1) := dk_3 (dk_at dksX3_contractAt_0 2 rfl rfl)
theorem dX3_contractAt_3 : decode cX3_contractAt 3 = .ok (.aload_n 0, 1) := dk_42 (dk_at dksX3_contractAt_0 3 rfl rfl)
theorem dX3_contractAt_4 : decode cX3_contractAt 4 = .ok (.getfield 9, 3) := dk_180 0 9 (dk_at dksX3_contractAt_0 4 rfl rfl)
theorem dX3_contractAt_7 : decode cX3_contractAt 7 = .ok (.bipush 11, 2) := dk_16 11 (dk_at dksX3_contractAt_0 7 rfl rfl)
theorem dX3_contractAt_9 : decode cX3_contractAt 9 = .ok (.iaload, 1) := dk_46 (dk_at dksX3_contractAt_0 9 rfl rfl)
theorem dX3_contractAt_10 : decode cX3_contractAt 10 = .ok (.iconst 1, 1) := dk_4 (dk_at dksX3_contractAt_0 10 rfl rfl)
theorem dX3_contractAt_11 : decode cX3_contractAt 11 = .ok (.isub, 1) := dk_100 (dk_at dksX3_contractAt_0 11 rfl rfl)
theorem dX3_contractAt_12 : decode cX3_contractAt 12 = .ok (.invokestatic 69, 3) := dk_184 0 69 (dk_at dksX3_contractAt_0 12 rfl rfl)
theorem dX3_contractAt_15 : decode cX3_contractAt 15 = .ok (.invokevirtual 61, 3) := dk_182 0 61 (dk_at dksX3_contractAt_0 15 rfl rfl)
theorem dX3_contractAt_18 : decode cX3_contractAt 18 = .ok (.ifCond .eq 12, 3) := dk_153 0 12 (dk_at dksX3_contractAt_0 18 rfl rfl)
theorem dX3_contractAt_21 : decode cX3_contractAt 21 = .ok (.aload_n 0, 1) := dk_42 (dk_at dksX3_contractAt_0 21 rfl rfl)
theorem dX3_contractAt_22 : decode cX3_contractAt 22 = .ok (.iload_n 1, 1) := dk_27 (dk_at dksX3_contractAt_0 22 rfl rfl)
theorem dX3_contractAt_23 : decode cX3_contractAt 23 = .ok (.iconst 0, 1) := dk_3 (dk_at dksX3_contractAt_0 23 rfl rfl)
theorem dX3_contractAt_24 : decode cX3_contractAt 24 = .ok (.invokevirtual 84, 3) := dk_182 0 84 (dk_at dksX3_contractAt_1 0 rfl rfl)
theorem dX3_contractAt_27 : decode cX3_contractAt 27 = .ok (.goto 4, 3) := dk_167 0 4 (dk_at dksX3_contractAt_1 3 rfl rfl)
theorem dX3_contractAt_30 : decode cX3_contractAt 30 = .ok (.iconst 0, 1) := dk_3 (dk_at dksX3_contractAt_1 6 rfl rfl)
theorem dX3_contractAt_31 : decode cX3_contractAt 31 = .ok (.ireturn, 1) := dk_172 (dk_at dksX3_contractAt_1 7 rfl rfl)
abbrev cX3_goblinOf : ByteArray := prog_26_method_72_code
def yX3_goblinOf : MethodName := ⟨RX3, "goblinOf", "(I)I"⟩
def dkwX3_goblinOf_0 : List UInt8 := [42, 27, 4, 182, 0, 181, 172]
abbrev dktX3_goblinOf_0 : List UInt8 := dkwX3_goblinOf_0 ++ []
theorem dksX3_goblinOf_0 : cX3_goblinOf.data.toList.drop 0 = dktX3_goblinOf_0 := by decide +kernel
theorem dX3_goblinOf_0 : decode cX3_goblinOf 0 = .ok (.aload_n 0, 1) := dk_42 (dk_at dksX3_goblinOf_0 0 rfl rfl)
theorem dX3_goblinOf_1 : decode cX3_goblinOf 1 = .ok (.iload_n 1, 1) := dk_27 (dk_at dksX3_goblinOf_0 1 rfl rfl)
theorem dX3_goblinOf_2 : decode cX3_goblinOf 2 = .ok (.iconst 1, 1) := dk_4 (dk_at dksX3_goblinOf_0 2 rfl rfl)
theorem dX3_goblinOf_3 : decode cX3_goblinOf 3 = .ok (.invokevirtual 181, 3) := dk_182 0 181 (dk_at dksX3_goblinOf_0 3 rfl rfl)
theorem dX3_goblinOf_6 : decode cX3_goblinOf 6 = .ok (.ireturn, 1) := dk_172 (dk_at dksX3_goblinOf_0 6 rfl rfl)
abbrev cX3_asksContract : ByteArray := prog_26_method_71_code
def yX3_asksContract : MethodName := ⟨RX3, "asksContract", "(II)I"⟩
def dkwX3_asksContract_1 : List UInt8 := [29, 28, 182, 0, 84, 167, 0, 4, 3, 172]
abbrev dktX3_asksContract_1 : List UInt8 := dkwX3_asksContract_1 ++ []
def dkwX3_asksContract_0 : List UInt8 := [42, 27, 182, 0, 132, 62, 42, 29, 2, 159, 0, 7, 4, 167, 0, 4, 3, 182, 0, 61, 153, 0, 12, 42]
abbrev dktX3_asksContract_0 : List UInt8 := dkwX3_asksContract_0 ++ dktX3_asksContract_1
theorem dksX3_asksContract_0 : cX3_asksContract.data.toList.drop 0 = dktX3_asksContract_0 := by decide +kernel
theorem dksX3_asksContract_1 : cX3_asksContract.data.toList.drop 24 = dktX3_asksContract_1 := dk_seg dksX3_asksContract_0 24 rfl rfl
theorem dX3_asksContract_0 : decode cX3_asksContract 0 = .ok (.aload_n 0, 1) := dk_42 (dk_at dksX3_asksContract_0 0 rfl rfl)
theorem dX3_asksContract_1 : decode cX3_asksContract 1 = .ok (.iload_n 1, 1) := dk_27 (dk_at dksX3_asksContract_0 1 rfl rfl)
theorem dX3_asksContract_2 : decode cX3_asksContract 2 = .ok (.invokevirtual 132, 3) := dk_182 0 132 (dk_at dksX3_asksContract_0 2 rfl rfl)
theorem dX3_asksContract_5 : decode cX3_asksContract 5 = .ok (.istore_n 3, 1) := dk_62 (dk_at dksX3_asksContract_0 5 rfl rfl)
theorem dX3_asksContract_6 : decode cX3_asksContract 6 = .ok (.aload_n 0, 1) := dk_42 (dk_at dksX3_asksContract_0 6 rfl rfl)
theorem dX3_asksContract_7 : decode cX3_asksContract 7 = .ok (.iload_n 3, 1) := dk_29 (dk_at dksX3_asksContract_0 7 rfl rfl)
theorem dX3_asksContract_8 : decode cX3_asksContract 8 = .ok (.iconst (-1), 1) := dk_2 (dk_at dksX3_asksContract_0 8 rfl rfl)
theorem dX3_asksContract_9 : decode cX3_asksContract 9 = .ok (.if_icmp .eq 7, 3) := dk_159 0 7 (dk_at dksX3_asksContract_0 9 rfl rfl)
theorem dX3_asksContract_12 : decode cX3_asksContract 12 = .ok (.iconst 1, 1) := dk_4 (dk_at dksX3_asksContract_0 12 rfl rfl)
theorem dX3_asksContract_13 : decode cX3_asksContract 13 = .ok (.goto 4, 3) := dk_167 0 4 (dk_at dksX3_asksContract_0 13 rfl rfl)
theorem dX3_asksContract_16 : decode cX3_asksContract 16 = .ok (.iconst 0, 1) := dk_3 (dk_at dksX3_asksContract_0 16 rfl rfl)
theorem dX3_asksContract_17 : decode cX3_asksContract 17 = .ok (.invokevirtual 61, 3) := dk_182 0 61 (dk_at dksX3_asksContract_0 17 rfl rfl)
theorem dX3_asksContract_20 : decode cX3_asksContract 20 = .ok (.ifCond .eq 12, 3) := dk_153 0 12 (dk_at dksX3_asksContract_0 20 rfl rfl)
theorem dX3_asksContract_23 : decode cX3_asksContract 23 = .ok (.aload_n 0, 1) := dk_42 (dk_at dksX3_asksContract_0 23 rfl rfl)
theorem dX3_asksContract_24 : decode cX3_asksContract 24 = .ok (.iload_n 3, 1) := dk_29 (dk_at dksX3_asksContract_1 0 rfl rfl)
theorem dX3_asksContract_25 : decode cX3_asksContract 25 = .ok (.iload_n 2, 1) := dk_28 (dk_at dksX3_asksContract_1 1 rfl rfl)
theorem dX3_asksContract_26 : decode cX3_asksContract 26 = .ok (.invokevirtual 84, 3) := dk_182 0 84 (dk_at dksX3_asksContract_1 2 rfl rfl)
theorem dX3_asksContract_29 : decode cX3_asksContract 29 = .ok (.goto 4, 3) := dk_167 0 4 (dk_at dksX3_asksContract_1 5 rfl rfl)
theorem dX3_asksContract_32 : decode cX3_asksContract 32 = .ok (.iconst 0, 1) := dk_3 (dk_at dksX3_asksContract_1 8 rfl rfl)
theorem dX3_asksContract_33 : decode cX3_asksContract 33 = .ok (.ireturn, 1) := dk_172 (dk_at dksX3_asksContract_1 9 rfl rfl)
abbrev cX3_roomOf : ByteArray := prog_26_method_73_code
def yX3_roomOf : MethodName := ⟨RX3, "roomOf", "(I)I"⟩
def dkwX3_roomOf_0 : List UInt8 := [42, 27, 5, 182, 0, 181, 172]
abbrev dktX3_roomOf_0 : List UInt8 := dkwX3_roomOf_0 ++ []
theorem dksX3_roomOf_0 : cX3_roomOf.data.toList.drop 0 = dktX3_roomOf_0 := by decide +kernel
theorem dX3_roomOf_0 : decode cX3_roomOf 0 = .ok (.aload_n 0, 1) := dk_42 (dk_at dksX3_roomOf_0 0 rfl rfl)
theorem dX3_roomOf_1 : decode cX3_roomOf 1 = .ok (.iload_n 1, 1) := dk_27 (dk_at dksX3_roomOf_0 1 rfl rfl)
theorem dX3_roomOf_2 : decode cX3_roomOf 2 = .ok (.iconst 2, 1) := dk_5 (dk_at dksX3_roomOf_0 2 rfl rfl)
theorem dX3_roomOf_3 : decode cX3_roomOf 3 = .ok (.invokevirtual 181, 3) := dk_182 0 181 (dk_at dksX3_roomOf_0 3 rfl rfl)
theorem dX3_roomOf_6 : decode cX3_roomOf 6 = .ok (.ireturn, 1) := dk_172 (dk_at dksX3_roomOf_0 6 rfl rfl)
abbrev cX3_wage : ByteArray := prog_26_method_74_code
def yX3_wage : MethodName := ⟨RX3, "wage", "(I)I"⟩
def dkwX3_wage_0 : List UInt8 := [42, 27, 6, 182, 0, 181, 172]
abbrev dktX3_wage_0 : List UInt8 := dkwX3_wage_0 ++ []
theorem dksX3_wage_0 : cX3_wage.data.toList.drop 0 = dktX3_wage_0 := by decide +kernel
theorem dX3_wage_0 : decode cX3_wage 0 = .ok (.aload_n 0, 1) := dk_42 (dk_at dksX3_wage_0 0 rfl rfl)
theorem dX3_wage_1 : decode cX3_wage 1 = .ok (.iload_n 1, 1) := dk_27 (dk_at dksX3_wage_0 1 rfl rfl)
theorem dX3_wage_2 : decode cX3_wage 2 = .ok (.iconst 3, 1) := dk_6 (dk_at dksX3_wage_0 2 rfl rfl)
theorem dX3_wage_3 : decode cX3_wage 3 = .ok (.invokevirtual 181, 3) := dk_182 0 181 (dk_at dksX3_wage_0 3 rfl rfl)
theorem dX3_wage_6 : decode cX3_wage 6 = .ok (.ireturn, 1) := dk_172 (dk_at dksX3_wage_0 6 rfl rfl)
abbrev cX3_effort : ByteArray := prog_26_method_75_code
def yX3_effort : MethodName := ⟨RX3, "effort", "(I)I"⟩
def dkwX3_effort_0 : List UInt8 := [42, 27, 7, 182, 0, 181, 172]
abbrev dktX3_effort_0 : List UInt8 := dkwX3_effort_0 ++ []
theorem dksX3_effort_0 : cX3_effort.data.toList.drop 0 = dktX3_effort_0 := by decide +kernel
theorem dX3_effort_0 : decode cX3_effort 0 = .ok (.aload_n 0, 1) := dk_42 (dk_at dksX3_effort_0 0 rfl rfl)
theorem dX3_effort_1 : decode cX3_effort 1 = .ok (.iload_n 1, 1) := dk_27 (dk_at dksX3_effort_0 1 rfl rfl)
theorem dX3_effort_2 : decode cX3_effort 2 = .ok (.iconst 4, 1) := dk_7 (dk_at dksX3_effort_0 2 rfl rfl)
theorem dX3_effort_3 : decode cX3_effort 3 = .ok (.invokevirtual 181, 3) := dk_182 0 181 (dk_at dksX3_effort_0 3 rfl rfl)
theorem dX3_effort_6 : decode cX3_effort 6 = .ok (.ireturn, 1) := dk_172 (dk_at dksX3_effort_0 6 rfl rfl)
abbrev cX3_nightsUntilDone : ByteArray := prog_26_method_76_code
def yX3_nightsUntilDone : MethodName := ⟨RX3, "nightsUntilDone", "(I)I"⟩
def dkwX3_nightsUntilDone_6 : List UInt8 := [153, 0, 7, 29, 167, 0, 4, 3, 172]
abbrev dktX3_nightsUntilDone_6 : List UInt8 := dkwX3_nightsUntilDone_6 ++ []
def dkwX3_nightsUntilDone_5 : List UInt8 := [180, 0, 9, 3, 184, 0, 51, 42, 28, 29, 2, 159, 0, 7, 4, 167, 0, 4, 3, 4, 4, 182, 0, 47]
abbrev dktX3_nightsUntilDone_5 : List UInt8 := dkwX3_nightsUntilDone_5 ++ dktX3_nightsUntilDone_6
def dkwX3_nightsUntilDone_4 : List UInt8 := [154, 0, 8, 21, 4, 167, 0, 4, 29, 62, 132, 4, 1, 167, 255, 185, 42, 180, 0, 16, 3, 42]
abbrev dktX3_nightsUntilDone_4 : List UInt8 := dkwX3_nightsUntilDone_4 ++ dktX3_nightsUntilDone_5
def dkwX3_nightsUntilDone_3 : List UInt8 := [160, 0, 7, 4, 167, 0, 4, 3, 54, 7, 21, 7, 153, 0, 18, 42, 27, 21, 5, 182, 0, 184]
abbrev dktX3_nightsUntilDone_3 : List UInt8 := dkwX3_nightsUntilDone_3 ++ dktX3_nightsUntilDone_4
def dkwX3_nightsUntilDone_2 : List UInt8 := [159, 0, 61, 42, 180, 0, 9, 8, 46, 54, 5, 42, 182, 0, 169, 54, 6, 42, 27, 182, 0, 132, 2]
abbrev dktX3_nightsUntilDone_2 : List UInt8 := dkwX3_nightsUntilDone_2 ++ dktX3_nightsUntilDone_3
def dkwX3_nightsUntilDone_1 : List UInt8 := [180, 0, 16, 3, 184, 0, 51, 4, 54, 4, 21, 4, 16, 60, 163, 0, 70, 42, 27, 182, 0, 132, 2]
abbrev dktX3_nightsUntilDone_1 : List UInt8 := dkwX3_nightsUntilDone_1 ++ dktX3_nightsUntilDone_2
def dkwX3_nightsUntilDone_0 : List UInt8 := [42, 27, 182, 0, 132, 2, 159, 0, 7, 4, 167, 0, 4, 3, 61, 2, 62, 42, 180, 0, 9, 3, 42]
abbrev dktX3_nightsUntilDone_0 : List UInt8 := dkwX3_nightsUntilDone_0 ++ dktX3_nightsUntilDone_1
theorem dksX3_nightsUntilDone_0 : cX3_nightsUntilDone.data.toList.drop 0 = dktX3_nightsUntilDone_0 := by decide +kernel
theorem dksX3_nightsUntilDone_1 : cX3_nightsUntilDone.data.toList.drop 23 = dktX3_nightsUntilDone_1 := dk_seg dksX3_nightsUntilDone_0 23 rfl rfl
theorem dksX3_nightsUntilDone_2 : cX3_nightsUntilDone.data.toList.drop 46 = dktX3_nightsUntilDone_2 := dk_seg dksX3_nightsUntilDone_1 23 rfl rfl
theorem dksX3_nightsUntilDone_3 : cX3_nightsUntilDone.data.toList.drop 69 = dktX3_nightsUntilDone_3 := dk_seg dksX3_nightsUntilDone_2 23 rfl rfl
theorem dksX3_nightsUntilDone_4 : cX3_nightsUntilDone.data.toList.drop 91 = dktX3_nightsUntilDone_4 := dk_seg dksX3_nightsUntilDone_3 22 rfl rfl
theorem dksX3_nightsUntilDone_5 : cX3_nightsUntilDone.data.toList.drop 113 = dktX3_nightsUntilDone_5 := dk_seg dksX3_nightsUntilDone_4 22 rfl rfl
theorem dksX3_nightsUntilDone_6 : cX3_nightsUntilDone.data.toList.drop 137 = dktX3_nightsUntilDone_6 := dk_seg dksX3_nightsUntilDone_5 24 rfl rfl
theorem dX3_nightsUntilDone_0 : decode cX3_nightsUntilDone 0 = .ok (.aload_n 0, 1) := dk_42 (dk_at dksX3_nightsUntilDone_0 0 rfl rfl)
theorem dX3_nightsUntilDone_1 : decode cX3_nightsUntilDone 1 = .ok (.iload_n 1, 1) := dk_27 (dk_at dksX3_nightsUntilDone_0 1 rfl rfl)
theorem dX3_nightsUntilDone_2 : decode cX3_nightsUntilDone 2 = .ok (.invokevirtual 132, 3) := dk_182 0 132 (dk_at dksX3_nightsUntilDone_0 2 rfl rfl)
theorem dX3_nightsUntilDone_5 : decode cX3_nightsUntilDone 5 = .ok (.iconst (-1), 1) := dk_2 (dk_at dksX3_nightsUntilDone_0 5 rfl rfl)
theorem dX3_nightsUntilDone_6 : decode cX3_nightsUntilDone 6 = .ok (.if_icmp .eq 7, 3) := dk_159 0 7 (dk_at dksX3_nightsUntilDone_0 6 rfl rfl)
theorem dX3_nightsUntilDone_9 : decode cX3_nightsUntilDone 9 = .ok (.iconst 1, 1) := dk_4 (dk_at dksX3_nightsUntilDone_0 9 rfl rfl)
theorem dX3_nightsUntilDone_10 : decode cX3_nightsUntilDone 10 = .ok (.goto 4, 3) := dk_167 0 4 (dk_at dksX3_nightsUntilDone_0 10 rfl rfl)
theorem dX3_nightsUntilDone_13 : decode cX3_nightsUntilDone 13 = .ok (.iconst 0, 1) := dk_3 (dk_at dksX3_nightsUntilDone_0 13 rfl rfl)
theorem dX3_nightsUntilDone_14 : decode cX3_nightsUntilDone 14 = .ok (.istore_n 2, 1) := dk_61 (dk_at dksX3_nightsUntilDone_0 14 rfl rfl)
theorem dX3_nightsUntilDone_15 : decode cX3_nightsUntilDone 15 = .ok (.iconst (-1), 1) := dk_2 (dk_at dksX3_nightsUntilDone_0 15 rfl rfl)
theorem dX3_nightsUntilDone_16 : decode cX3_nightsUntilDone 16 = .ok (.istore_n 3, 1) := dk_62 (dk_at dksX3_nightsUntilDone_0 16 rfl rfl)
theorem dX3_nightsUntilDone_17 : decode cX3_nightsUntilDone 17 = .ok (.aload_n 0, 1) := dk_42 (dk_at dksX3_nightsUntilDone_0 17 rfl rfl)
theorem dX3_nightsUntilDone_18 : decode cX3_nightsUntilDone 18 = .ok (.getfield 9, 3) := dk_180 0 9 (dk_at dksX3_nightsUntilDone_0 18 rfl rfl)
theorem dX3_nightsUntilDone_21 : decode cX3_nightsUntilDone 21 = .ok (.iconst 0, 1) := dk_3 (dk_at dksX3_nightsUntilDone_0 21 rfl rfl)
theorem dX3_nightsUntilDone_22 : decode cX3_nightsUntilDone 22 = .ok (.aload_n 0, 1) := dk_42 (dk_at dksX3_nightsUntilDone_0 22 rfl rfl)
theorem dX3_nightsUntilDone_23 : decode cX3_nightsUntilDone 23 = .ok (.getfield 16, 3) := dk_180 0 16 (dk_at dksX3_nightsUntilDone_1 0 rfl rfl)
theorem dX3_nightsUntilDone_26 : decode cX3_nightsUntilDone 26 = .ok (.iconst 0, 1) := dk_3 (dk_at dksX3_nightsUntilDone_1 3 rfl rfl)
theorem dX3_nightsUntilDone_27 : decode cX3_nightsUntilDone 27 = .ok (.invokestatic 51, 3) := dk_184 0 51 (dk_at dksX3_nightsUntilDone_1 4 rfl rfl)
theorem dX3_nightsUntilDone_30 : decode cX3_nightsUntilDone 30 = .ok (.iconst 1, 1) := dk_4 (dk_at dksX3_nightsUntilDone_1 7 rfl rfl)
theorem dX3_nightsUntilDone_31 : decode cX3_nightsUntilDone 31 = .ok (.istore 4, 2) := dk_54 4 (dk_at dksX3_nightsUntilDone_1 8 rfl rfl)
theorem dX3_nightsUntilDone_33 : decode cX3_nightsUntilDone 33 = .ok (.iload 4, 2) := dk_21 4 (dk_at dksX3_nightsUntilDone_1 10 rfl rfl)
theorem dX3_nightsUntilDone_35 : decode cX3_nightsUntilDone 35 = .ok (.bipush 60, 2) := dk_16 60 (dk_at dksX3_nightsUntilDone_1 12 rfl rfl)
theorem dX3_nightsUntilDone_37 : decode cX3_nightsUntilDone 37 = .ok (.if_icmp .gt 70, 3) := dk_163 0 70 (dk_at dksX3_nightsUntilDone_1 14 rfl rfl)
theorem dX3_nightsUntilDone_40 : decode cX3_nightsUntilDone 40 = .ok (.aload_n 0, 1) := dk_42 (dk_at dksX3_nightsUntilDone_1 17 rfl rfl)
theorem dX3_nightsUntilDone_41 : decode cX3_nightsUntilDone 41 = .ok (.iload_n 1, 1) := dk_27 (dk_at dksX3_nightsUntilDone_1 18 rfl rfl)
theorem dX3_nightsUntilDone_42 : decode cX3_nightsUntilDone 42 = .ok (.invokevirtual 132, 3) := dk_182 0 132 (dk_at dksX3_nightsUntilDone_1 19 rfl rfl)
theorem dX3_nightsUntilDone_45 : decode cX3_nightsUntilDone 45 = .ok (.iconst (-1), 1) := dk_2 (dk_at dksX3_nightsUntilDone_1 22 rfl rfl)
theorem dX3_nightsUntilDone_46 : decode cX3_nightsUntilDone 46 = .ok (.if_icmp .eq 61, 3) := dk_159 0 61 (dk_at dksX3_nightsUntilDone_2 0 rfl rfl)
theorem dX3_nightsUntilDone_49 : decode cX3_nightsUntilDone 49 = .ok (.aload_n 0, 1) := dk_42 (dk_at dksX3_nightsUntilDone_2 3 rfl rfl)
theorem dX3_nightsUntilDone_50 : decode cX3_nightsUntilDone 50 = .ok (.getfield 9, 3) := dk_180 0 9 (dk_at dksX3_nightsUntilDone_2 4 rfl rfl)
theorem dX3_nightsUntilDone_53 : decode cX3_nightsUntilDone 53 = .ok (.iconst 5, 1) := dk_8 (dk_at dksX3_nightsUntilDone_2 7 rfl rfl)
theorem dX3_nightsUntilDone_54 : decode cX3_nightsUntilDone 54 = .ok (.iaload, 1) := dk_46 (dk_at dksX3_nightsUntilDone_2 8 rfl rfl)
theorem dX3_nightsUntilDone_55 : decode cX3_nightsUntilDone 55 = .ok (.istore 5, 2) := dk_54 5 (dk_at dksX3_nightsUntilDone_2 9 rfl rfl)
theorem dX3_nightsUntilDone_57 : decode cX3_nightsUntilDone 57 = .ok (.aload_n 0, 1) := dk_42 (dk_at dksX3_nightsUntilDone_2 11 rfl rfl)
theorem dX3_nightsUntilDone_58 : decode cX3_nightsUntilDone 58 = .ok (.invokevirtual 169, 3) := dk_182 0 169 (dk_at dksX3_nightsUntilDone_2 12 rfl rfl)
theorem dX3_nightsUntilDone_61 : decode cX3_nightsUntilDone 61 = .ok (.istore 6, 2) := dk_54 6 (dk_at dksX3_nightsUntilDone_2 15 rfl rfl)
theorem dX3_nightsUntilDone_63 : decode cX3_nightsUntilDone 63 = .ok (.aload_n 0, 1) := dk_42 (dk_at dksX3_nightsUntilDone_2 17 rfl rfl)
theorem dX3_nightsUntilDone_64 : decode cX3_nightsUntilDone 64 = .ok (.iload_n 1, 1) := dk_27 (dk_at dksX3_nightsUntilDone_2 18 rfl rfl)
theorem dX3_nightsUntilDone_65 : decode cX3_nightsUntilDone 65 = .ok (.invokevirtual 132, 3) := dk_182 0 132 (dk_at dksX3_nightsUntilDone_2 19 rfl rfl)
theorem dX3_nightsUntilDone_68 : decode cX3_nightsUntilDone 68 = .ok (.iconst (-1), 1) := dk_2 (dk_at dksX3_nightsUntilDone_2 22 rfl rfl)
theorem dX3_nightsUntilDone_69 : decode cX3_nightsUntilDone 69 = .ok (.if_icmp .ne 7, 3) := dk_160 0 7 (dk_at dksX3_nightsUntilDone_3 0 rfl rfl)
theorem dX3_nightsUntilDone_72 : decode cX3_nightsUntilDone 72 = .ok (.iconst 1, 1) := dk_4 (dk_at dksX3_nightsUntilDone_3 3 rfl rfl)
theorem dX3_nightsUntilDone_73 : decode cX3_nightsUntilDone 73 = .ok (.goto 4, 3) := dk_167 0 4 (dk_at dksX3_nightsUntilDone_3 4 rfl rfl)
theorem dX3_nightsUntilDone_76 : decode cX3_nightsUntilDone 76 = .ok (.iconst 0, 1) := dk_3 (dk_at dksX3_nightsUntilDone_3 7 rfl rfl)
theorem dX3_nightsUntilDone_77 : decode cX3_nightsUntilDone 77 = .ok (.istore 7, 2) := dk_54 7 (dk_at dksX3_nightsUntilDone_3 8 rfl rfl)
theorem dX3_nightsUntilDone_79 : decode cX3_nightsUntilDone 79 = .ok (.iload 7, 2) := dk_21 7 (dk_at dksX3_nightsUntilDone_3 10 rfl rfl)
theorem dX3_nightsUntilDone_81 : decode cX3_nightsUntilDone 81 = .ok (.ifCond .eq 18, 3) := dk_153 0 18 (dk_at dksX3_nightsUntilDone_3 12 rfl rfl)
theorem dX3_nightsUntilDone_84 : decode cX3_nightsUntilDone 84 = .ok (.aload_n 0, 1) := dk_42 (dk_at dksX3_nightsUntilDone_3 15 rfl rfl)
theorem dX3_nightsUntilDone_85 : decode cX3_nightsUntilDone 85 = .ok (.iload_n 1, 1) := dk_27 (dk_at dksX3_nightsUntilDone_3 16 rfl rfl)
theorem dX3_nightsUntilDone_86 : decode cX3_nightsUntilDone 86 = .ok (.iload 5, 2) := dk_21 5 (dk_at dksX3_nightsUntilDone_3 17 rfl rfl)
theorem dX3_nightsUntilDone_88 : decode cX3_nightsUntilDone 88 = .ok (.invokevirtual 184, 3) := dk_182 0 184 (dk_at dksX3_nightsUntilDone_3 19 rfl rfl)
theorem dX3_nightsUntilDone_91 : decode cX3_nightsUntilDone 91 = .ok (.ifCond .ne 8, 3) := dk_154 0 8 (dk_at dksX3_nightsUntilDone_4 0 rfl rfl)
theorem dX3_nightsUntilDone_94 : decode cX3_nightsUntilDone 94 = .ok (.iload 4, 2) := dk_21 4 (dk_at dksX3_nightsUntilDone_4 3 rfl rfl)
theorem dX3_nightsUntilDone_96 : decode cX3_nightsUntilDone 96 = .ok (.goto 4, 3) := dk_167 0 4 (dk_at dksX3_nightsUntilDone_4 5 rfl rfl)
theorem dX3_nightsUntilDone_99 : decode cX3_nightsUntilDone 99 = .ok (.iload_n 3, 1) := dk_29 (dk_at dksX3_nightsUntilDone_4 8 rfl rfl)
theorem dX3_nightsUntilDone_100 : decode cX3_nightsUntilDone 100 = .ok (.istore_n 3, 1) := dk_62 (dk_at dksX3_nightsUntilDone_4 9 rfl rfl)
theorem dX3_nightsUntilDone_101 : decode cX3_nightsUntilDone 101 = .ok (.iinc 4 1, 3) := dk_132 4 1 (dk_at dksX3_nightsUntilDone_4 10 rfl rfl)
theorem dX3_nightsUntilDone_104 : decode cX3_nightsUntilDone 104 = .ok (.goto (-71), 3) := dk_167 255 185 (dk_at dksX3_nightsUntilDone_4 13 rfl rfl)
theorem dX3_nightsUntilDone_107 : decode cX3_nightsUntilDone 107 = .ok (.aload_n 0, 1) := dk_42 (dk_at dksX3_nightsUntilDone_4 16 rfl rfl)
theorem dX3_nightsUntilDone_108 : decode cX3_nightsUntilDone 108 = .ok (.getfield 16, 3) := dk_180 0 16 (dk_at dksX3_nightsUntilDone_4 17 rfl rfl)
theorem dX3_nightsUntilDone_111 : decode cX3_nightsUntilDone 111 = .ok (.iconst 0, 1) := dk_3 (dk_at dksX3_nightsUntilDone_4 20 rfl rfl)
theorem dX3_nightsUntilDone_112 : decode cX3_nightsUntilDone 112 = .ok (.aload_n 0, 1) := dk_42 (dk_at dksX3_nightsUntilDone_4 21 rfl rfl)
theorem dX3_nightsUntilDone_113 : decode cX3_nightsUntilDone 113 = .ok (.getfield 9, 3) := dk_180 0 9 (dk_at dksX3_nightsUntilDone_5 0 rfl rfl)
theorem dX3_nightsUntilDone_116 : decode cX3_nightsUntilDone 116 = .ok (.iconst 0, 1) := dk_3 (dk_at dksX3_nightsUntilDone_5 3 rfl rfl)
theorem dX3_nightsUntilDone_117 : decode cX3_nightsUntilDone 117 = .ok (.invokestatic 51, 3) := dk_184 0 51 (dk_at dksX3_nightsUntilDone_5 4 rfl rfl)
theorem dX3_nightsUntilDone_120 : decode cX3_nightsUntilDone 120 = .ok (.aload_n 0, 1) := dk_42 (dk_at dksX3_nightsUntilDone_5 7 rfl rfl)
theorem dX3_nightsUntilDone_121 : decode cX3_nightsUntilDone 121 = .ok (.iload_n 2, 1) := dk_28 (dk_at dksX3_nightsUntilDone_5 8 rfl rfl)
theorem dX3_nightsUntilDone_122 : decode cX3_nightsUntilDone 122 = .ok (.iload_n 3, 1) := dk_29 (dk_at dksX3_nightsUntilDone_5 9 rfl rfl)
theorem dX3_nightsUntilDone_123 : decode cX3_nightsUntilDone 123 = .ok (.iconst (-1), 1) := dk_2 (dk_at dksX3_nightsUntilDone_5 10 rfl rfl)
theorem dX3_nightsUntilDone_124 : decode cX3_nightsUntilDone 124 = .ok (.if_icmp .eq 7, 3) := dk_159 0 7 (dk_at dksX3_nightsUntilDone_5 11 rfl rfl)
theorem dX3_nightsUntilDone_127 : decode cX3_nightsUntilDone 127 = .ok (.iconst 1, 1) := dk_4 (dk_at dksX3_nightsUntilDone_5 14 rfl rfl)
theorem dX3_nightsUntilDone_128 : decode cX3_nightsUntilDone 128 = .ok (.goto 4, 3) := dk_167 0 4 (dk_at dksX3_nightsUntilDone_5 15 rfl rfl)
theorem dX3_nightsUntilDone_131 : decode cX3_nightsUntilDone 131 = .ok (.iconst 0, 1) := dk_3 (dk_at dksX3_nightsUntilDone_5 18 rfl rfl)
theorem dX3_nightsUntilDone_132 : decode cX3_nightsUntilDone 132 = .ok (.iconst 1, 1) := dk_4 (dk_at dksX3_nightsUntilDone_5 19 rfl rfl)
theorem dX3_nightsUntilDone_133 : decode cX3_nightsUntilDone 133 = .ok (.iconst 1, 1) := dk_4 (dk_at dksX3_nightsUntilDone_5 20 rfl rfl)
theorem dX3_nightsUntilDone_134 : decode cX3_nightsUntilDone 134 = .ok (.invokevirtual 47, 3) := dk_182 0 47 (dk_at dksX3_nightsUntilDone_5 21 rfl rfl)
theorem dX3_nightsUntilDone_137 : decode cX3_nightsUntilDone 137 = .ok (.ifCond .eq 7, 3) := dk_153 0 7 (dk_at dksX3_nightsUntilDone_6 0 rfl rfl)
theorem dX3_nightsUntilDone_140 : decode cX3_nightsUntilDone 140 = .ok (.iload_n 3, 1) := dk_29 (dk_at dksX3_nightsUntilDone_6 3 rfl rfl)
theorem dX3_nightsUntilDone_141 : decode cX3_nightsUntilDone 141 = .ok (.goto 4, 3) := dk_167 0 4 (dk_at dksX3_nightsUntilDone_6 4 rfl rfl)
theorem dX3_nightsUntilDone_144 : decode cX3_nightsUntilDone 144 = .ok (.iconst 0, 1) := dk_3 (dk_at dksX3_nightsUntilDone_6 7 rfl rfl)
theorem dX3_nightsUntilDone_145 : decode cX3_nightsUntilDone 145 = .ok (.ireturn, 1) := dk_172 (dk_at dksX3_nightsUntilDone_6 8 rfl rfl)
abbrev cX3_wasBroken : ByteArray := prog_26_method_77_code
def yX3_wasBroken : MethodName := ⟨RX3, "wasBroken", "(II)Z"⟩
def dkwX3_wasBroken_3 : List UInt8 := [182, 0, 95, 4, 160, 0, 7, 4, 167, 0, 4, 3, 172]
abbrev dktX3_wasBroken_3 : List UInt8 := dkwX3_wasBroken_3 ++ []
def dkwX3_wasBroken_2 : List UInt8 := [167, 0, 4, 29, 62, 132, 4, 1, 167, 255, 205, 42, 180, 0, 9, 8, 46, 28, 164, 0, 17, 42, 29, 7]
abbrev dktX3_wasBroken_2 : List UInt8 := dkwX3_wasBroken_2 ++ dktX3_wasBroken_3
def dkwX3_wasBroken_1 : List UInt8 := [54, 5, 42, 180, 0, 16, 21, 5, 3, 96, 46, 27, 160, 0, 15, 42, 180, 0, 16, 21, 5, 4, 96, 46]
abbrev dktX3_wasBroken_1 : List UInt8 := dkwX3_wasBroken_1 ++ dktX3_wasBroken_2
def dkwX3_wasBroken_0 : List UInt8 := [2, 62, 3, 54, 4, 21, 4, 42, 180, 0, 16, 16, 11, 46, 162, 0, 45, 16, 51, 8, 21, 4, 104, 96]
abbrev dktX3_wasBroken_0 : List UInt8 := dkwX3_wasBroken_0 ++ dktX3_wasBroken_1
theorem dksX3_wasBroken_0 : cX3_wasBroken.data.toList.drop 0 = dktX3_wasBroken_0 := by decide +kernel
theorem dksX3_wasBroken_1 : cX3_wasBroken.data.toList.drop 24 = dktX3_wasBroken_1 := dk_seg dksX3_wasBroken_0 24 rfl rfl
theorem dksX3_wasBroken_2 : cX3_wasBroken.data.toList.drop 48 = dktX3_wasBroken_2 := dk_seg dksX3_wasBroken_1 24 rfl rfl
theorem dksX3_wasBroken_3 : cX3_wasBroken.data.toList.drop 72 = dktX3_wasBroken_3 := dk_seg dksX3_wasBroken_2 24 rfl rfl
theorem dX3_wasBroken_0 : decode cX3_wasBroken 0 = .ok (.iconst (-1), 1) := dk_2 (dk_at dksX3_wasBroken_0 0 rfl rfl)
theorem dX3_wasBroken_1 : decode cX3_wasBroken 1 = .ok (.istore_n 3, 1) := dk_62 (dk_at dksX3_wasBroken_0 1 rfl rfl)
theorem dX3_wasBroken_2 : decode cX3_wasBroken 2 = .ok (.iconst 0, 1) := dk_3 (dk_at dksX3_wasBroken_0 2 rfl rfl)
theorem dX3_wasBroken_3 : decode cX3_wasBroken 3 = .ok (.istore 4, 2) := dk_54 4 (dk_at dksX3_wasBroken_0 3 rfl rfl)
theorem dX3_wasBroken_5 : decode cX3_wasBroken 5 = .ok (.iload 4, 2) := dk_21 4 (dk_at dksX3_wasBroken_0 5 rfl rfl)
theorem dX3_wasBroken_7 : decode cX3_wasBroken 7 = .ok (.aload_n 0, 1) := dk_42 (dk_at dksX3_wasBroken_0 7 rfl rfl)
theorem dX3_wasBroken_8 : decode cX3_wasBroken 8 = .ok (.getfield 16, 3) := dk_180 0 16 (dk_at dksX3_wasBroken_0 8 rfl rfl)
theorem dX3_wasBroken_11 : decode cX3_wasBroken 11 = .ok (.bipush 11, 2) := dk_16 11 (dk_at dksX3_wasBroken_0 11 rfl rfl)
theorem dX3_wasBroken_13 : decode cX3_wasBroken 13 = .ok (.iaload, 1) := dk_46 (dk_at dksX3_wasBroken_0 13 rfl rfl)
theorem dX3_wasBroken_14 : decode cX3_wasBroken 14 = .ok (.if_icmp .ge 45, 3) := dk_162 0 45 (dk_at dksX3_wasBroken_0 14 rfl rfl)
theorem dX3_wasBroken_17 : decode cX3_wasBroken 17 = .ok (.bipush 51, 2) := dk_16 51 (dk_at dksX3_wasBroken_0 17 rfl rfl)
theorem dX3_wasBroken_19 : decode cX3_wasBroken 19 = .ok (.iconst 5, 1) := dk_8 (dk_at dksX3_wasBroken_0 19 rfl rfl)
theorem dX3_wasBroken_20 : decode cX3_wasBroken 20 = .ok (.iload 4, 2) := dk_21 4 (dk_at dksX3_wasBroken_0 20 rfl rfl)
theorem dX3_wasBroken_22 : decode cX3_wasBroken 22 = .ok (.imul, 1) := dk_104 (dk_at dksX3_wasBroken_0 22 rfl rfl)
theorem dX3_wasBroken_23 : decode cX3_wasBroken 23 = .ok (.iadd, 1) := dk_96 (dk_at dksX3_wasBroken_0 23 rfl rfl)
theorem dX3_wasBroken_24 : decode cX3_wasBroken 24 = .ok (.istore 5, 2) := dk_54 5 (dk_at dksX3_wasBroken_1 0 rfl rfl)
theorem dX3_wasBroken_26 : decode cX3_wasBroken 26 = .ok (.aload_n 0, 1) := dk_42 (dk_at dksX3_wasBroken_1 2 rfl rfl)
theorem dX3_wasBroken_27 : decode cX3_wasBroken 27 = .ok (.getfield 16, 3) := dk_180 0 16 (dk_at dksX3_wasBroken_1 3 rfl rfl)
theorem dX3_wasBroken_30 : decode cX3_wasBroken 30 = .ok (.iload 5, 2) := dk_21 5 (dk_at dksX3_wasBroken_1 6 rfl rfl)
theorem dX3_wasBroken_32 : decode cX3_wasBroken 32 = .ok (.iconst 0, 1) := dk_3 (dk_at dksX3_wasBroken_1 8 rfl rfl)
theorem dX3_wasBroken_33 : decode cX3_wasBroken 33 = .ok (.iadd, 1) := dk_96 (dk_at dksX3_wasBroken_1 9 rfl rfl)
theorem dX3_wasBroken_34 : decode cX3_wasBroken 34 = .ok (.iaload, 1) := dk_46 (dk_at dksX3_wasBroken_1 10 rfl rfl)
theorem dX3_wasBroken_35 : decode cX3_wasBroken 35 = .ok (.iload_n 1, 1) := dk_27 (dk_at dksX3_wasBroken_1 11 rfl rfl)
theorem dX3_wasBroken_36 : decode cX3_wasBroken 36 = .ok (.if_icmp .ne 15, 3) := dk_160 0 15 (dk_at dksX3_wasBroken_1 12 rfl rfl)
theorem dX3_wasBroken_39 : decode cX3_wasBroken 39 = .ok (.aload_n 0, 1) := dk_42 (dk_at dksX3_wasBroken_1 15 rfl rfl)
theorem dX3_wasBroken_40 : decode cX3_wasBroken 40 = .ok (.getfield 16, 3) := dk_180 0 16 (dk_at dksX3_wasBroken_1 16 rfl rfl)
theorem dX3_wasBroken_43 : decode cX3_wasBroken 43 = .ok (.iload 5, 2) := dk_21 5 (dk_at dksX3_wasBroken_1 19 rfl rfl)
theorem dX3_wasBroken_45 : decode cX3_wasBroken 45 = .ok (.iconst 1, 1) := dk_4 (dk_at dksX3_wasBroken_1 21 rfl rfl)
theorem dX3_wasBroken_46 : decode cX3_wasBroken 46 = .ok (.iadd, 1) := dk_96 (dk_at dksX3_wasBroken_1 22 rfl rfl)
theorem dX3_wasBroken_47 : decode cX3_wasBroken 47 = .ok (.iaload, 1) := dk_46 (dk_at dksX3_wasBroken_1 23 rfl rfl)
theorem dX3_wasBroken_48 : decode cX3_wasBroken 48 = .ok (.goto 4, 3) := dk_167 0 4 (dk_at dksX3_wasBroken_2 0 rfl rfl)
theorem dX3_wasBroken_51 : decode cX3_wasBroken 51 = .ok (.iload_n 3, 1) := dk_29 (dk_at dksX3_wasBroken_2 3 rfl rfl)
theorem dX3_wasBroken_52 : decode cX3_wasBroken 52 = .ok (.istore_n 3, 1) := dk_62 (dk_at dksX3_wasBroken_2 4 rfl rfl)
theorem dX3_wasBroken_53 : decode cX3_wasBroken 53 = .ok (.iinc 4 1, 3) := dk_132 4 1 (dk_at dksX3_wasBroken_2 5 rfl rfl)
theorem dX3_wasBroken_56 : decode cX3_wasBroken 56 = .ok (.goto (-51), 3) := dk_167 255 205 (dk_at dksX3_wasBroken_2 8 rfl rfl)
theorem dX3_wasBroken_59 : decode cX3_wasBroken 59 = .ok (.aload_n 0, 1) := dk_42 (dk_at dksX3_wasBroken_2 11 rfl rfl)
theorem dX3_wasBroken_60 : decode cX3_wasBroken 60 = .ok (.getfield 9, 3) := dk_180 0 9 (dk_at dksX3_wasBroken_2 12 rfl rfl)
theorem dX3_wasBroken_63 : decode cX3_wasBroken 63 = .ok (.iconst 5, 1) := dk_8 (dk_at dksX3_wasBroken_2 15 rfl rfl)
theorem dX3_wasBroken_64 : decode cX3_wasBroken 64 = .ok (.iaload, 1) := dk_46 (dk_at dksX3_wasBroken_2 16 rfl rfl)
theorem dX3_wasBroken_65 : decode cX3_wasBroken 65 = .ok (.iload_n 2, 1) := dk_28 (dk_at dksX3_wasBroken_2 17 rfl rfl)
theorem dX3_wasBroken_66 : decode cX3_wasBroken 66 = .ok (.if_icmp .le 17, 3) := dk_164 0 17 (dk_at dksX3_wasBroken_2 18 rfl rfl)
theorem dX3_wasBroken_69 : decode cX3_wasBroken 69 = .ok (.aload_n 0, 1) := dk_42 (dk_at dksX3_wasBroken_2 21 rfl rfl)
theorem dX3_wasBroken_70 : decode cX3_wasBroken 70 = .ok (.iload_n 3, 1) := dk_29 (dk_at dksX3_wasBroken_2 22 rfl rfl)
theorem dX3_wasBroken_71 : decode cX3_wasBroken 71 = .ok (.iconst 4, 1) := dk_7 (dk_at dksX3_wasBroken_2 23 rfl rfl)
theorem dX3_wasBroken_72 : decode cX3_wasBroken 72 = .ok (.invokevirtual 95, 3) := dk_182 0 95 (dk_at dksX3_wasBroken_3 0 rfl rfl)
theorem dX3_wasBroken_75 : decode cX3_wasBroken 75 = .ok (.iconst 1, 1) := dk_4 (dk_at dksX3_wasBroken_3 3 rfl rfl)
theorem dX3_wasBroken_76 : decode cX3_wasBroken 76 = .ok (.if_icmp .ne 7, 3) := dk_160 0 7 (dk_at dksX3_wasBroken_3 4 rfl rfl)
theorem dX3_wasBroken_79 : decode cX3_wasBroken 79 = .ok (.iconst 1, 1) := dk_4 (dk_at dksX3_wasBroken_3 7 rfl rfl)
theorem dX3_wasBroken_80 : decode cX3_wasBroken 80 = .ok (.goto 4, 3) := dk_167 0 4 (dk_at dksX3_wasBroken_3 8 rfl rfl)
theorem dX3_wasBroken_83 : decode cX3_wasBroken 83 = .ok (.iconst 0, 1) := dk_3 (dk_at dksX3_wasBroken_3 11 rfl rfl)
theorem dX3_wasBroken_84 : decode cX3_wasBroken 84 = .ok (.ireturn, 1) := dk_172 (dk_at dksX3_wasBroken_3 12 rfl rfl)
abbrev cX3_chestAfter : ByteArray := prog_26_method_79_code
def yX3_chestAfter : MethodName := ⟨RX3, "chestAfter", "(I)I"⟩
def dkwX3_chestAfter_1 : List UInt8 := [172]
abbrev dktX3_chestAfter_1 : List UInt8 := dkwX3_chestAfter_1 ++ []
def dkwX3_chestAfter_0 : List UInt8 := [42, 27, 3, 16, 60, 184, 0, 69, 182, 0, 61, 153, 0, 12, 42, 27, 4, 182, 0, 187, 167, 0, 4, 3]
abbrev dktX3_chestAfter_0 : List UInt8 := dkwX3_chestAfter_0 ++ dktX3_chestAfter_1
theorem dksX3_chestAfter_0 : cX3_chestAfter.data.toList.drop 0 = dktX3_chestAfter_0 := by decide +kernel
theorem dksX3_chestAfter_1 : cX3_chestAfter.data.toList.drop 24 = dktX3_chestAfter_1 := dk_seg dksX3_chestAfter_0 24 rfl rfl
theorem dX3_chestAfter_0 : decode cX3_chestAfter 0 = .ok (.aload_n 0, 1) := dk_42 (dk_at dksX3_chestAfter_0 0 rfl rfl)
theorem dX3_chestAfter_1 : decode cX3_chestAfter 1 = .ok (.iload_n 1, 1) := dk_27 (dk_at dksX3_chestAfter_0 1 rfl rfl)
theorem dX3_chestAfter_2 : decode cX3_chestAfter 2 = .ok (.iconst 0, 1) := dk_3 (dk_at dksX3_chestAfter_0 2 rfl rfl)
theorem dX3_chestAfter_3 : decode cX3_chestAfter 3 = .ok (.bipush 60, 2) := dk_16 60 (dk_at dksX3_chestAfter_0 3 rfl rfl)
theorem dX3_chestAfter_5 : decode cX3_chestAfter 5 = .ok (.invokestatic 69, 3) := dk_184 0 69 (dk_at dksX3_chestAfter_0 5 rfl rfl)
theorem dX3_chestAfter_8 : decode cX3_chestAfter 8 = .ok (.invokevirtual 61, 3) := dk_182 0 61 (dk_at dksX3_chestAfter_0 8 rfl rfl)
theorem dX3_chestAfter_11 : decode cX3_chestAfter 11 = .ok (.ifCond .eq 12, 3) := dk_153 0 12 (dk_at dksX3_chestAfter_0 11 rfl rfl)
theorem dX3_chestAfter_14 : decode cX3_chestAfter 14 = .ok (.aload_n 0, 1) := dk_42 (dk_at dksX3_chestAfter_0 14 rfl rfl)
theorem dX3_chestAfter_15 : decode cX3_chestAfter 15 = .ok (.iload_n 1, 1) := dk_27 (dk_at dksX3_chestAfter_0 15 rfl rfl)
theorem dX3_chestAfter_16 : decode cX3_chestAfter 16 = .ok (.iconst 1, 1) := dk_4 (dk_at dksX3_chestAfter_0 16 rfl rfl)
theorem dX3_chestAfter_17 : decode cX3_chestAfter 17 = .ok (.invokevirtual 187, 3) := dk_182 0 187 (dk_at dksX3_chestAfter_0 17 rfl rfl)
theorem dX3_chestAfter_20 : decode cX3_chestAfter 20 = .ok (.goto 4, 3) := dk_167 0 4 (dk_at dksX3_chestAfter_0 20 rfl rfl)
theorem dX3_chestAfter_23 : decode cX3_chestAfter 23 = .ok (.iconst 0, 1) := dk_3 (dk_at dksX3_chestAfter_0 23 rfl rfl)
theorem dX3_chestAfter_24 : decode cX3_chestAfter 24 = .ok (.ireturn, 1) := dk_172 (dk_at dksX3_chestAfter_1 0 rfl rfl)
abbrev cX3_after : ByteArray := prog_26_method_78_code
def yX3_after : MethodName := ⟨RX3, "after", "(II)I"⟩
def dkwX3_after_2 : List UInt8 := [3, 184, 0, 51, 29, 172]
abbrev dktX3_after_2 : List UInt8 := dkwX3_after_2 ++ []
def dkwX3_after_1 : List UInt8 := [54, 4, 132, 3, 1, 167, 255, 242, 42, 180, 0, 9, 28, 46, 62, 42, 180, 0, 16, 3, 42, 180, 0, 9]
abbrev dktX3_after_1 : List UInt8 := dkwX3_after_1 ++ dktX3_after_2
def dkwX3_after_0 : List UInt8 := [42, 180, 0, 9, 3, 42, 180, 0, 16, 3, 184, 0, 51, 3, 62, 29, 27, 162, 0, 15, 42, 182, 0, 169]
abbrev dktX3_after_0 : List UInt8 := dkwX3_after_0 ++ dktX3_after_1
theorem dksX3_after_0 : cX3_after.data.toList.drop 0 = dktX3_after_0 := by decide +kernel
theorem dksX3_after_1 : cX3_after.data.toList.drop 24 = dktX3_after_1 := dk_seg dksX3_after_0 24 rfl rfl
theorem dksX3_after_2 : cX3_after.data.toList.drop 48 = dktX3_after_2 := dk_seg dksX3_after_1 24 rfl rfl
theorem dX3_after_0 : decode cX3_after 0 = .ok (.aload_n 0, 1) := dk_42 (dk_at dksX3_after_0 0 rfl rfl)
theorem dX3_after_1 : decode cX3_after 1 = .ok (.getfield 9, 3) := dk_180 0 9 (dk_at dksX3_after_0 1 rfl rfl)
theorem dX3_after_4 : decode cX3_after 4 = .ok (.iconst 0, 1) := dk_3 (dk_at dksX3_after_0 4 rfl rfl)
theorem dX3_after_5 : decode cX3_after 5 = .ok (.aload_n 0, 1) := dk_42 (dk_at dksX3_after_0 5 rfl rfl)
theorem dX3_after_6 : decode cX3_after 6 = .ok (.getfield 16, 3) := dk_180 0 16 (dk_at dksX3_after_0 6 rfl rfl)
theorem dX3_after_9 : decode cX3_after 9 = .ok (.iconst 0, 1) := dk_3 (dk_at dksX3_after_0 9 rfl rfl)
theorem dX3_after_10 : decode cX3_after 10 = .ok (.invokestatic 51, 3) := dk_184 0 51 (dk_at dksX3_after_0 10 rfl rfl)
theorem dX3_after_13 : decode cX3_after 13 = .ok (.iconst 0, 1) := dk_3 (dk_at dksX3_after_0 13 rfl rfl)
theorem dX3_after_14 : decode cX3_after 14 = .ok (.istore_n 3, 1) := dk_62 (dk_at dksX3_after_0 14 rfl rfl)
theorem dX3_after_15 : decode cX3_after 15 = .ok (.iload_n 3, 1) := dk_29 (dk_at dksX3_after_0 15 rfl rfl)
theorem dX3_after_16 : decode cX3_after 16 = .ok (.iload_n 1, 1) := dk_27 (dk_at dksX3_after_0 16 rfl rfl)
theorem dX3_after_17 : decode cX3_after 17 = .ok (.if_icmp .ge 15, 3) := dk_162 0 15 (dk_at dksX3_after_0 17 rfl rfl)
theorem dX3_after_20 : decode cX3_after 20 = .ok (.aload_n 0, 1) := dk_42 (dk_at dksX3_after_0 20 rfl rfl)
theorem dX3_after_21 : decode cX3_after 21 = .ok (.invokevirtual 169, 3) := dk_182 0 169 (dk_at dksX3_after_0 21 rfl rfl)
theorem dX3_after_24 : decode cX3_after 24 = .ok (.istore 4, 2) := dk_54 4 (dk_at dksX3_after_1 0 rfl rfl)
theorem dX3_after_26 : decode cX3_after 26 = .ok (.iinc 3 1, 3) := dk_132 3 1 (dk_at dksX3_after_1 2 rfl rfl)
theorem dX3_after_29 : decode cX3_after 29 = .ok (.goto (-14), 3) := dk_167 255 242 (dk_at dksX3_after_1 5 rfl rfl)
theorem dX3_after_32 : decode cX3_after 32 = .ok (.aload_n 0, 1) := dk_42 (dk_at dksX3_after_1 8 rfl rfl)
theorem dX3_after_33 : decode cX3_after 33 = .ok (.getfield 9, 3) := dk_180 0 9 (dk_at dksX3_after_1 9 rfl rfl)
theorem dX3_after_36 : decode cX3_after 36 = .ok (.iload_n 2, 1) := dk_28 (dk_at dksX3_after_1 12 rfl rfl)
theorem dX3_after_37 : decode cX3_after 37 = .ok (.iaload, 1) := dk_46 (dk_at dksX3_after_1 13 rfl rfl)
theorem dX3_after_38 : decode cX3_after 38 = .ok (.istore_n 3, 1) := dk_62 (dk_at dksX3_after_1 14 rfl rfl)
theorem dX3_after_39 : decode cX3_after 39 = .ok (.aload_n 0, 1) := dk_42 (dk_at dksX3_after_1 15 rfl rfl)
theorem dX3_after_40 : decode cX3_after 40 = .ok (.getfield 16, 3) := dk_180 0 16 (dk_at dksX3_after_1 16 rfl rfl)
theorem dX3_after_43 : decode cX3_after 43 = .ok (.iconst 0, 1) := dk_3 (dk_at dksX3_after_1 19 rfl rfl)
theorem dX3_after_44 : decode cX3_after 44 = .ok (.aload_n 0, 1) := dk_42 (dk_at dksX3_after_1 20 rfl rfl)
theorem dX3_after_45 : decode cX3_after 45 = .ok (.getfield 9, 3) := dk_180 0 9 (dk_at dksX3_after_1 21 rfl rfl)
theorem dX3_after_48 : decode cX3_after 48 = .ok (.iconst 0, 1) := dk_3 (dk_at dksX3_after_2 0 rfl rfl)
theorem dX3_after_49 : decode cX3_after 49 = .ok (.invokestatic 51, 3) := dk_184 0 51 (dk_at dksX3_after_2 1 rfl rfl)
theorem dX3_after_52 : decode cX3_after 52 = .ok (.iload_n 3, 1) := dk_29 (dk_at dksX3_after_2 4 rfl rfl)
theorem dX3_after_53 : decode cX3_after 53 = .ok (.ireturn, 1) := dk_172 (dk_at dksX3_after_2 5 rfl rfl)
abbrev cX3_debtAfter : ByteArray := prog_26_method_80_code
def yX3_debtAfter : MethodName := ⟨RX3, "debtAfter", "(II)I"⟩
def dkwX3_debtAfter_1 : List UInt8 := [27, 5, 182, 0, 80, 182, 0, 187, 167, 0, 4, 3, 172]
abbrev dktX3_debtAfter_1 : List UInt8 := dkwX3_debtAfter_1 ++ []
def dkwX3_debtAfter_0 : List UInt8 := [42, 42, 27, 182, 0, 77, 28, 3, 16, 60, 184, 0, 69, 4, 4, 182, 0, 47, 153, 0, 17, 42, 28, 42]
abbrev dktX3_debtAfter_0 : List UInt8 := dkwX3_debtAfter_0 ++ dktX3_debtAfter_1
theorem dksX3_debtAfter_0 : cX3_debtAfter.data.toList.drop 0 = dktX3_debtAfter_0 := by decide +kernel
theorem dksX3_debtAfter_1 : cX3_debtAfter.data.toList.drop 24 = dktX3_debtAfter_1 := dk_seg dksX3_debtAfter_0 24 rfl rfl
theorem dX3_debtAfter_0 : decode cX3_debtAfter 0 = .ok (.aload_n 0, 1) := dk_42 (dk_at dksX3_debtAfter_0 0 rfl rfl)
theorem dX3_debtAfter_1 : decode cX3_debtAfter 1 = .ok (.aload_n 0, 1) := dk_42 (dk_at dksX3_debtAfter_0 1 rfl rfl)
theorem dX3_debtAfter_2 : decode cX3_debtAfter 2 = .ok (.iload_n 1, 1) := dk_27 (dk_at dksX3_debtAfter_0 2 rfl rfl)
theorem dX3_debtAfter_3 : decode cX3_debtAfter 3 = .ok (.invokevirtual 77, 3) := dk_182 0 77 (dk_at dksX3_debtAfter_0 3 rfl rfl)
theorem dX3_debtAfter_6 : decode cX3_debtAfter 6 = .ok (.iload_n 2, 1) := dk_28 (dk_at dksX3_debtAfter_0 6 rfl rfl)
theorem dX3_debtAfter_7 : decode cX3_debtAfter 7 = .ok (.iconst 0, 1) := dk_3 (dk_at dksX3_debtAfter_0 7 rfl rfl)
theorem dX3_debtAfter_8 : decode cX3_debtAfter 8 = .ok (.bipush 60, 2) := dk_16 60 (dk_at dksX3_debtAfter_0 8 rfl rfl)
theorem dX3_debtAfter_10 : decode cX3_debtAfter 10 = .ok (.invokestatic 69, 3) := dk_184 0 69 (dk_at dksX3_debtAfter_0 10 rfl rfl)
theorem dX3_debtAfter_13 : decode cX3_debtAfter 13 = .ok (.iconst 1, 1) := dk_4 (dk_at dksX3_debtAfter_0 13 rfl rfl)
theorem dX3_debtAfter_14 : decode cX3_debtAfter 14 = .ok (.iconst 1, 1) := dk_4 (dk_at dksX3_debtAfter_0 14 rfl rfl)
theorem dX3_debtAfter_15 : decode cX3_debtAfter 15 = .ok (.invokevirtual 47, 3) := dk_182 0 47 (dk_at dksX3_debtAfter_0 15 rfl rfl)
theorem dX3_debtAfter_18 : decode cX3_debtAfter 18 = .ok (.ifCond .eq 17, 3) := dk_153 0 17 (dk_at dksX3_debtAfter_0 18 rfl rfl)
theorem dX3_debtAfter_21 : decode cX3_debtAfter 21 = .ok (.aload_n 0, 1) := dk_42 (dk_at dksX3_debtAfter_0 21 rfl rfl)
theorem dX3_debtAfter_22 : decode cX3_debtAfter 22 = .ok (.iload_n 2, 1) := dk_28 (dk_at dksX3_debtAfter_0 22 rfl rfl)
theorem dX3_debtAfter_23 : decode cX3_debtAfter 23 = .ok (.aload_n 0, 1) := dk_42 (dk_at dksX3_debtAfter_0 23 rfl rfl)
theorem dX3_debtAfter_24 : decode cX3_debtAfter 24 = .ok (.iload_n 1, 1) := dk_27 (dk_at dksX3_debtAfter_1 0 rfl rfl)
theorem dX3_debtAfter_25 : decode cX3_debtAfter 25 = .ok (.iconst 2, 1) := dk_5 (dk_at dksX3_debtAfter_1 1 rfl rfl)
theorem dX3_debtAfter_26 : decode cX3_debtAfter 26 = .ok (.invokevirtual 80, 3) := dk_182 0 80 (dk_at dksX3_debtAfter_1 2 rfl rfl)
theorem dX3_debtAfter_29 : decode cX3_debtAfter 29 = .ok (.invokevirtual 187, 3) := dk_182 0 187 (dk_at dksX3_debtAfter_1 5 rfl rfl)
theorem dX3_debtAfter_32 : decode cX3_debtAfter 32 = .ok (.goto 4, 3) := dk_167 0 4 (dk_at dksX3_debtAfter_1 8 rfl rfl)
theorem dX3_debtAfter_35 : decode cX3_debtAfter 35 = .ok (.iconst 0, 1) := dk_3 (dk_at dksX3_debtAfter_1 11 rfl rfl)
theorem dX3_debtAfter_36 : decode cX3_debtAfter 36 = .ok (.ireturn, 1) := dk_172 (dk_at dksX3_debtAfter_1 12 rfl rfl)
abbrev cX3_night : ByteArray := prog_26_method_82_code
def yX3_night : MethodName := ⟨RX3, "night", "()I"⟩
def dkwX3_night_0 : List UInt8 := [42, 3, 182, 0, 190, 172]
abbrev dktX3_night_0 : List UInt8 := dkwX3_night_0 ++ []
theorem dksX3_night_0 : cX3_night.data.toList.drop 0 = dktX3_night_0 := by decide +kernel
theorem dX3_night_0 : decode cX3_night 0 = .ok (.aload_n 0, 1) := dk_42 (dk_at dksX3_night_0 0 rfl rfl)
theorem dX3_night_1 : decode cX3_night 1 = .ok (.iconst 0, 1) := dk_3 (dk_at dksX3_night_0 1 rfl rfl)
theorem dX3_night_2 : decode cX3_night 2 = .ok (.invokevirtual 190, 3) := dk_182 0 190 (dk_at dksX3_night_0 2 rfl rfl)
theorem dX3_night_5 : decode cX3_night 5 = .ok (.ireturn, 1) := dk_172 (dk_at dksX3_night_0 5 rfl rfl)
abbrev cX3_total : ByteArray := prog_26_method_81_code
def yX3_total : MethodName := ⟨RX3, "total", "(I)I"⟩
def dkwX3_total_0 : List UInt8 := [42, 3, 181, 0, 44, 42, 180, 0, 9, 27, 46, 172]
abbrev dktX3_total_0 : List UInt8 := dkwX3_total_0 ++ []
theorem dksX3_total_0 : cX3_total.data.toList.drop 0 = dktX3_total_0 := by decide +kernel
theorem dX3_total_0 : decode cX3_total 0 = .ok (.aload_n 0, 1) := dk_42 (dk_at dksX3_total_0 0 rfl rfl)
theorem dX3_total_1 : decode cX3_total 1 = .ok (.iconst 0, 1) := dk_3 (dk_at dksX3_total_0 1 rfl rfl)
theorem dX3_total_2 : decode cX3_total 2 = .ok (.putfield 44, 3) := dk_181 0 44 (dk_at dksX3_total_0 2 rfl rfl)
theorem dX3_total_5 : decode cX3_total 5 = .ok (.aload_n 0, 1) := dk_42 (dk_at dksX3_total_0 5 rfl rfl)
theorem dX3_total_6 : decode cX3_total 6 = .ok (.getfield 9, 3) := dk_180 0 9 (dk_at dksX3_total_0 6 rfl rfl)
theorem dX3_total_9 : decode cX3_total 9 = .ok (.iload_n 1, 1) := dk_27 (dk_at dksX3_total_0 9 rfl rfl)
theorem dX3_total_10 : decode cX3_total 10 = .ok (.iaload, 1) := dk_46 (dk_at dksX3_total_0 10 rfl rfl)
theorem dX3_total_11 : decode cX3_total 11 = .ok (.ireturn, 1) := dk_172 (dk_at dksX3_total_0 11 rfl rfl)
abbrev cX3_chest : ByteArray := prog_26_method_83_code
def yX3_chest : MethodName := ⟨RX3, "chest", "()I"⟩
def dkwX3_chest_0 : List UInt8 := [42, 4, 182, 0, 190, 172]
abbrev dktX3_chest_0 : List UInt8 := dkwX3_chest_0 ++ []
theorem dksX3_chest_0 : cX3_chest.data.toList.drop 0 = dktX3_chest_0 := by decide +kernel
theorem dX3_chest_0 : decode cX3_chest 0 = .ok (.aload_n 0, 1) := dk_42 (dk_at dksX3_chest_0 0 rfl rfl)
theorem dX3_chest_1 : decode cX3_chest 1 = .ok (.iconst 1, 1) := dk_4 (dk_at dksX3_chest_0 1 rfl rfl)
theorem dX3_chest_2 : decode cX3_chest 2 = .ok (.invokevirtual 190, 3) := dk_182 0 190 (dk_at dksX3_chest_0 2 rfl rfl)
theorem dX3_chest_5 : decode cX3_chest 5 = .ok (.ireturn, 1) := dk_172 (dk_at dksX3_chest_0 5 rfl rfl)
abbrev cX3_allCrumbs : ByteArray := prog_26_method_84_code
def yX3_allCrumbs : MethodName := ⟨RX3, "allCrumbs", "()I"⟩
def dkwX3_allCrumbs_1 : List UInt8 := [182, 0, 95, 96, 60, 132, 2, 1, 167, 255, 233, 27, 172]
abbrev dktX3_allCrumbs_1 : List UInt8 := dkwX3_allCrumbs_1 ++ []
def dkwX3_allCrumbs_0 : List UInt8 := [42, 4, 182, 0, 190, 60, 3, 61, 28, 42, 180, 0, 9, 16, 9, 46, 162, 0, 18, 27, 42, 28, 4]
abbrev dktX3_allCrumbs_0 : List UInt8 := dkwX3_allCrumbs_0 ++ dktX3_allCrumbs_1
theorem dksX3_allCrumbs_0 : cX3_allCrumbs.data.toList.drop 0 = dktX3_allCrumbs_0 := by decide +kernel
theorem dksX3_allCrumbs_1 : cX3_allCrumbs.data.toList.drop 23 = dktX3_allCrumbs_1 := dk_seg dksX3_allCrumbs_0 23 rfl rfl
theorem dX3_allCrumbs_0 : decode cX3_allCrumbs 0 = .ok (.aload_n 0, 1) := dk_42 (dk_at dksX3_allCrumbs_0 0 rfl rfl)
theorem dX3_allCrumbs_1 : decode cX3_allCrumbs 1 = .ok (.iconst 1, 1) := dk_4 (dk_at dksX3_allCrumbs_0 1 rfl rfl)
theorem dX3_allCrumbs_2 : decode cX3_allCrumbs 2 = .ok (.invokevirtual 190, 3) := dk_182 0 190 (dk_at dksX3_allCrumbs_0 2 rfl rfl)
theorem dX3_allCrumbs_5 : decode cX3_allCrumbs 5 = .ok (.istore_n 1, 1) := dk_60 (dk_at dksX3_allCrumbs_0 5 rfl rfl)
theorem dX3_allCrumbs_6 : decode cX3_allCrumbs 6 = .ok (.iconst 0, 1) := dk_3 (dk_at dksX3_allCrumbs_0 6 rfl rfl)
theorem dX3_allCrumbs_7 : decode cX3_allCrumbs 7 = .ok (.istore_n 2, 1) := dk_61 (dk_at dksX3_allCrumbs_0 7 rfl rfl)
theorem dX3_allCrumbs_8 : decode cX3_allCrumbs 8 = .ok (.iload_n 2, 1) := dk_28 (dk_at dksX3_allCrumbs_0 8 rfl rfl)
theorem dX3_allCrumbs_9 : decode cX3_allCrumbs 9 = .ok (.aload_n 0, 1) := dk_42 (dk_at dksX3_allCrumbs_0 9 rfl rfl)
theorem dX3_allCrumbs_10 : decode cX3_allCrumbs 10 = .ok (.getfield 9, 3) := dk_180 0 9 (dk_at dksX3_allCrumbs_0 10 rfl rfl)
theorem dX3_allCrumbs_13 : decode cX3_allCrumbs 13 = .ok (.bipush 9, 2) := dk_16 9 (dk_at dksX3_allCrumbs_0 13 rfl rfl)
theorem dX3_allCrumbs_15 : decode cX3_allCrumbs 15 = .ok (.iaload, 1) := dk_46 (dk_at dksX3_allCrumbs_0 15 rfl rfl)
theorem dX3_allCrumbs_16 : decode cX3_allCrumbs 16 = .ok (.if_icmp .ge 18, 3) := dk_162 0 18 (dk_at dksX3_allCrumbs_0 16 rfl rfl)
theorem dX3_allCrumbs_19 : decode cX3_allCrumbs 19 = .ok (.iload_n 1, 1) := dk_27 (dk_at dksX3_allCrumbs_0 19 rfl rfl)
theorem dX3_allCrumbs_20 : decode cX3_allCrumbs 20 = .ok (.aload_n 0, 1) := dk_42 (dk_at dksX3_allCrumbs_0 20 rfl rfl)
theorem dX3_allCrumbs_21 : decode cX3_allCrumbs 21 = .ok (.iload_n 2, 1) := dk_28 (dk_at dksX3_allCrumbs_0 21 rfl rfl)
theorem dX3_allCrumbs_22 : decode cX3_allCrumbs 22 = .ok (.iconst 1, 1) := dk_4 (dk_at dksX3_allCrumbs_0 22 rfl rfl)
theorem dX3_allCrumbs_23 : decode cX3_allCrumbs 23 = .ok (.invokevirtual 95, 3) := dk_182 0 95 (dk_at dksX3_allCrumbs_1 0 rfl rfl)
theorem dX3_allCrumbs_26 : decode cX3_allCrumbs 26 = .ok (.iadd, 1) := dk_96 (dk_at dksX3_allCrumbs_1 3 rfl rfl)
theorem dX3_allCrumbs_27 : decode cX3_allCrumbs 27 = .ok (.istore_n 1, 1) := dk_60 (dk_at dksX3_allCrumbs_1 4 rfl rfl)
theorem dX3_allCrumbs_28 : decode cX3_allCrumbs 28 = .ok (.iinc 2 1, 3) := dk_132 2 1 (dk_at dksX3_allCrumbs_1 5 rfl rfl)
theorem dX3_allCrumbs_31 : decode cX3_allCrumbs 31 = .ok (.goto (-23), 3) := dk_167 255 233 (dk_at dksX3_allCrumbs_1 8 rfl rfl)
theorem dX3_allCrumbs_34 : decode cX3_allCrumbs 34 = .ok (.iload_n 1, 1) := dk_27 (dk_at dksX3_allCrumbs_1 11 rfl rfl)
theorem dX3_allCrumbs_35 : decode cX3_allCrumbs 35 = .ok (.ireturn, 1) := dk_172 (dk_at dksX3_allCrumbs_1 12 rfl rfl)
abbrev cX3_allCrumbsByAccounts : ByteArray := prog_26_method_85_code
def yX3_allCrumbsByAccounts : MethodName := ⟨RX3, "allCrumbsByAccounts", "()I"⟩
def dkwX3_allCrumbsByAccounts_0 : List UInt8 := [42, 3, 181, 0, 44, 16, 100, 42, 180, 0, 9, 5, 46, 96, 42, 180, 0, 9, 6, 46, 100, 172]
abbrev dktX3_allCrumbsByAccounts_0 : List UInt8 := dkwX3_allCrumbsByAccounts_0 ++ []
theorem dksX3_allCrumbsByAccounts_0 : cX3_allCrumbsByAccounts.data.toList.drop 0 = dktX3_allCrumbsByAccounts_0 := by decide +kernel
theorem dX3_allCrumbsByAccounts_0 : decode cX3_allCrumbsByAccounts 0 = .ok (.aload_n 0, 1) := dk_42 (dk_at dksX3_allCrumbsByAccounts_0 0 rfl rfl)
theorem dX3_allCrumbsByAccounts_1 : decode cX3_allCrumbsByAccounts 1 = .ok (.iconst 0, 1) := dk_3 (dk_at dksX3_allCrumbsByAccounts_0 1 rfl rfl)
theorem dX3_allCrumbsByAccounts_2 : decode cX3_allCrumbsByAccounts 2 = .ok (.putfield 44, 3) := dk_181 0 44 (dk_at dksX3_allCrumbsByAccounts_0 2 rfl rfl)
theorem dX3_allCrumbsByAccounts_5 : decode cX3_allCrumbsByAccounts 5 = .ok (.bipush 100, 2) := dk_16 100 (dk_at dksX3_allCrumbsByAccounts_0 5 rfl rfl)
theorem dX3_allCrumbsByAccounts_7 : decode cX3_allCrumbsByAccounts 7 = .ok (.aload_n 0, 1) := dk_42 (dk_at dksX3_allCrumbsByAccounts_0 7 rfl rfl)
theorem dX3_allCrumbsByAccounts_8 : decode cX3_allCrumbsByAccounts 8 = .ok (.getfield 9, 3) := dk_180 0 9 (dk_at dksX3_allCrumbsByAccounts_0 8 rfl rfl)
theorem dX3_allCrumbsByAccounts_11 : decode cX3_allCrumbsByAccounts 11 = .ok (.iconst 2, 1) := dk_5 (dk_at dksX3_allCrumbsByAccounts_0 11 rfl rfl)
theorem dX3_allCrumbsByAccounts_12 : decode cX3_allCrumbsByAccounts 12 = .ok (.iaload, 1) := dk_46 (dk_at dksX3_allCrumbsByAccounts_0 12 rfl rfl)
theorem dX3_allCrumbsByAccounts_13 : decode cX3_allCrumbsByAccounts 13 = .ok (.iadd, 1) := dk_96 (dk_at dksX3_allCrumbsByAccounts_0 13 rfl rfl)
theorem dX3_allCrumbsByAccounts_14 : decode cX3_allCrumbsByAccounts 14 = .ok (.aload_n 0, 1) := dk_42 (dk_at dksX3_allCrumbsByAccounts_0 14 rfl rfl)
theorem dX3_allCrumbsByAccounts_15 : decode cX3_allCrumbsByAccounts 15 = .ok (.getfield 9, 3) := dk_180 0 9 (dk_at dksX3_allCrumbsByAccounts_0 15 rfl rfl)
theorem dX3_allCrumbsByAccounts_18 : decode cX3_allCrumbsByAccounts 18 = .ok (.iconst 3, 1) := dk_6 (dk_at dksX3_allCrumbsByAccounts_0 18 rfl rfl)
theorem dX3_allCrumbsByAccounts_19 : decode cX3_allCrumbsByAccounts 19 = .ok (.iaload, 1) := dk_46 (dk_at dksX3_allCrumbsByAccounts_0 19 rfl rfl)
theorem dX3_allCrumbsByAccounts_20 : decode cX3_allCrumbsByAccounts 20 = .ok (.isub, 1) := dk_100 (dk_at dksX3_allCrumbsByAccounts_0 20 rfl rfl)
theorem dX3_allCrumbsByAccounts_21 : decode cX3_allCrumbsByAccounts 21 = .ok (.ireturn, 1) := dk_172 (dk_at dksX3_allCrumbsByAccounts_0 21 rfl rfl)
abbrev cX3_doneTotal : ByteArray := prog_26_method_86_code
def yX3_doneTotal : MethodName := ⟨RX3, "doneTotal", "()I"⟩
def dkwX3_doneTotal_0 : List UInt8 := [42, 7, 182, 0, 190, 172]
abbrev dktX3_doneTotal_0 : List UInt8 := dkwX3_doneTotal_0 ++ []
theorem dksX3_doneTotal_0 : cX3_doneTotal.data.toList.drop 0 = dktX3_doneTotal_0 := by decide +kernel
theorem dX3_doneTotal_0 : decode cX3_doneTotal 0 = .ok (.aload_n 0, 1) := dk_42 (dk_at dksX3_doneTotal_0 0 rfl rfl)
theorem dX3_doneTotal_1 : decode cX3_doneTotal 1 = .ok (.iconst 4, 1) := dk_7 (dk_at dksX3_doneTotal_0 1 rfl rfl)
theorem dX3_doneTotal_2 : decode cX3_doneTotal 2 = .ok (.invokevirtual 190, 3) := dk_182 0 190 (dk_at dksX3_doneTotal_0 2 rfl rfl)
theorem dX3_doneTotal_5 : decode cX3_doneTotal 5 = .ok (.ireturn, 1) := dk_172 (dk_at dksX3_doneTotal_0 5 rfl rfl)
abbrev cX3_brokenTotal : ByteArray := prog_26_method_87_code
def yX3_brokenTotal : MethodName := ⟨RX3, "brokenTotal", "()I"⟩
def dkwX3_brokenTotal_0 : List UInt8 := [42, 8, 182, 0, 190, 172]
abbrev dktX3_brokenTotal_0 : List UInt8 := dkwX3_brokenTotal_0 ++ []
theorem dksX3_brokenTotal_0 : cX3_brokenTotal.data.toList.drop 0 = dktX3_brokenTotal_0 := by decide +kernel
theorem dX3_brokenTotal_0 : decode cX3_brokenTotal 0 = .ok (.aload_n 0, 1) := dk_42 (dk_at dksX3_brokenTotal_0 0 rfl rfl)
theorem dX3_brokenTotal_1 : decode cX3_brokenTotal 1 = .ok (.iconst 5, 1) := dk_8 (dk_at dksX3_brokenTotal_0 1 rfl rfl)
theorem dX3_brokenTotal_2 : decode cX3_brokenTotal 2 = .ok (.invokevirtual 190, 3) := dk_182 0 190 (dk_at dksX3_brokenTotal_0 2 rfl rfl)
theorem dX3_brokenTotal_5 : decode cX3_brokenTotal 5 = .ok (.ireturn, 1) := dk_172 (dk_at dksX3_brokenTotal_0 5 rfl rfl)
abbrev cX3_unpaidTotal : ByteArray := prog_26_method_88_code
def yX3_unpaidTotal : MethodName := ⟨RX3, "unpaidTotal", "()I"⟩
def dkwX3_unpaidTotal_0 : List UInt8 := [42, 16, 6, 182, 0, 190, 172]
abbrev dktX3_unpaidTotal_0 : List UInt8 := dkwX3_unpaidTotal_0 ++ []
theorem dksX3_unpaidTotal_0 : cX3_unpaidTotal.data.toList.drop 0 = dktX3_unpaidTotal_0 := by decide +kernel
theorem dX3_unpaidTotal_0 : decode cX3_unpaidTotal 0 = .ok (.aload_n 0, 1) := dk_42 (dk_at dksX3_unpaidTotal_0 0 rfl rfl)
theorem dX3_unpaidTotal_1 : decode cX3_unpaidTotal 1 = .ok (.bipush 6, 2) := dk_16 6 (dk_at dksX3_unpaidTotal_0 1 rfl rfl)
theorem dX3_unpaidTotal_3 : decode cX3_unpaidTotal 3 = .ok (.invokevirtual 190, 3) := dk_182 0 190 (dk_at dksX3_unpaidTotal_0 3 rfl rfl)
theorem dX3_unpaidTotal_6 : decode cX3_unpaidTotal 6 = .ok (.ireturn, 1) := dk_172 (dk_at dksX3_unpaidTotal_0 6 rfl rfl)
abbrev cX3_interestTotal : ByteArray := prog_26_method_89_code
def yX3_interestTotal : MethodName := ⟨RX3, "interestTotal", "()I"⟩
def dkwX3_interestTotal_0 : List UInt8 := [42, 16, 7, 182, 0, 190, 172]
abbrev dktX3_interestTotal_0 : List UInt8 := dkwX3_interestTotal_0 ++ []
theorem dksX3_interestTotal_0 : cX3_interestTotal.data.toList.drop 0 = dktX3_interestTotal_0 := by decide +kernel
theorem dX3_interestTotal_0 : decode cX3_interestTotal 0 = .ok (.aload_n 0, 1) := dk_42 (dk_at dksX3_interestTotal_0 0 rfl rfl)
theorem dX3_interestTotal_1 : decode cX3_interestTotal 1 = .ok (.bipush 7, 2) := dk_16 7 (dk_at dksX3_interestTotal_0 1 rfl rfl)
theorem dX3_interestTotal_3 : decode cX3_interestTotal 3 = .ok (.invokevirtual 190, 3) := dk_182 0 190 (dk_at dksX3_interestTotal_0 3 rfl rfl)
theorem dX3_interestTotal_6 : decode cX3_interestTotal 6 = .ok (.ireturn, 1) := dk_172 (dk_at dksX3_interestTotal_0 6 rfl rfl)
abbrev cX3_meanDust : ByteArray := prog_26_method_90_code
def yX3_meanDust : MethodName := ⟨RX3, "meanDust", "()D"⟩
def dkwX3_meanDust_1 : List UInt8 := [46, 96, 60, 132, 2, 1, 167, 255, 235, 27, 135, 20, 0, 193, 111, 175]
abbrev dktX3_meanDust_1 : List UInt8 := dkwX3_meanDust_1 ++ []
def dkwX3_meanDust_0 : List UInt8 := [42, 3, 181, 0, 44, 3, 60, 3, 61, 28, 16, 6, 162, 0, 21, 27, 42, 180, 0, 9, 16, 12, 28, 96]
abbrev dktX3_meanDust_0 : List UInt8 := dkwX3_meanDust_0 ++ dktX3_meanDust_1
theorem dksX3_meanDust_0 : cX3_meanDust.data.toList.drop 0 = dktX3_meanDust_0 := by decide +kernel
theorem dksX3_meanDust_1 : cX3_meanDust.data.toList.drop 24 = dktX3_meanDust_1 := dk_seg dksX3_meanDust_0 24 rfl rfl
theorem dX3_meanDust_0 : decode cX3_meanDust 0 = .ok (.aload_n 0, 1) := dk_42 (dk_at dksX3_meanDust_0 0 rfl rfl)
theorem dX3_meanDust_1 : decode cX3_meanDust 1 = .ok (.iconst 0, 1) := dk_3 (dk_at dksX3_meanDust_0 1 rfl rfl)
theorem dX3_meanDust_2 : decode cX3_meanDust 2 = .ok (.putfield 44, 3) := dk_181 0 44 (dk_at dksX3_meanDust_0 2 rfl rfl)
theorem dX3_meanDust_5 : decode cX3_meanDust 5 = .ok (.iconst 0, 1) := dk_3 (dk_at dksX3_meanDust_0 5 rfl rfl)
theorem dX3_meanDust_6 : decode cX3_meanDust 6 = .ok (.istore_n 1, 1) := dk_60 (dk_at dksX3_meanDust_0 6 rfl rfl)
theorem dX3_meanDust_7 : decode cX3_meanDust 7 = .ok (.iconst 0, 1) := dk_3 (dk_at dksX3_meanDust_0 7 rfl rfl)
theorem dX3_meanDust_8 : decode cX3_meanDust 8 = .ok (.istore_n 2, 1) := dk_61 (dk_at dksX3_meanDust_0 8 rfl rfl)
theorem dX3_meanDust_9 : decode cX3_meanDust 9 = .ok (.iload_n 2, 1) := dk_28 (dk_at dksX3_meanDust_0 9 rfl rfl)
theorem dX3_meanDust_10 : decode cX3_meanDust 10 = .ok (.bipush 6, 2) := dk_16 6 (dk_at dksX3_meanDust_0 10 rfl rfl)
theorem dX3_meanDust_12 : decode cX3_meanDust 12 = .ok (.if_icmp .ge 21, 3) := dk_162 0 21 (dk_at dksX3_meanDust_0 12 rfl rfl)
theorem dX3_meanDust_15 : decode cX3_meanDust 15 = .ok (.iload_n 1, 1) := dk_27 (dk_at dksX3_meanDust_0 15 rfl rfl)
theorem dX3_meanDust_16 : decode cX3_meanDust 16 = .ok (.aload_n 0, 1) := dk_42 (dk_at dksX3_meanDust_0 16 rfl rfl)
theorem dX3_meanDust_17 : decode cX3_meanDust 17 = .ok (.getfield 9, 3) := dk_180 0 9 (dk_at dksX3_meanDust_0 17 rfl rfl)
theorem dX3_meanDust_20 : decode cX3_meanDust 20 = .ok (.bipush 12, 2) := dk_16 12 (dk_at dksX3_meanDust_0 20 rfl rfl)
theorem dX3_meanDust_22 : decode cX3_meanDust 22 = .ok (.iload_n 2, 1) := dk_28 (dk_at dksX3_meanDust_0 22 rfl rfl)
theorem dX3_meanDust_23 : decode cX3_meanDust 23 = .ok (.iadd, 1) := dk_96 (dk_at dksX3_meanDust_0 23 rfl rfl)
theorem dX3_meanDust_24 : decode cX3_meanDust 24 = .ok (.iaload, 1) := dk_46 (dk_at dksX3_meanDust_1 0 rfl rfl)
theorem dX3_meanDust_25 : decode cX3_meanDust 25 = .ok (.iadd, 1) := dk_96 (dk_at dksX3_meanDust_1 1 rfl rfl)
theorem dX3_meanDust_26 : decode cX3_meanDust 26 = .ok (.istore_n 1, 1) := dk_60 (dk_at dksX3_meanDust_1 2 rfl rfl)
theorem dX3_meanDust_27 : decode cX3_meanDust 27 = .ok (.iinc 2 1, 3) := dk_132 2 1 (dk_at dksX3_meanDust_1 3 rfl rfl)
theorem dX3_meanDust_30 : decode cX3_meanDust 30 = .ok (.goto (-21), 3) := dk_167 255 235 (dk_at dksX3_meanDust_1 6 rfl rfl)
theorem dX3_meanDust_33 : decode cX3_meanDust 33 = .ok (.iload_n 1, 1) := dk_27 (dk_at dksX3_meanDust_1 9 rfl rfl)
theorem dX3_meanDust_34 : decode cX3_meanDust 34 = .ok (.i2d, 1) := dk_135 (dk_at dksX3_meanDust_1 10 rfl rfl)
theorem dX3_meanDust_35 : decode cX3_meanDust 35 = .ok (.ldc2_w 193, 3) := dk_20 0 193 (dk_at dksX3_meanDust_1 11 rfl rfl)
theorem dX3_meanDust_38 : decode cX3_meanDust 38 = .ok (.ddiv, 1) := dk_111 (dk_at dksX3_meanDust_1 14 rfl rfl)
theorem dX3_meanDust_39 : decode cX3_meanDust 39 = .ok (.dreturn, 1) := dk_175 (dk_at dksX3_meanDust_1 15 rfl rfl)
abbrev cX3_reliability : ByteArray := prog_26_method_91_code
def yX3_reliability : MethodName := ⟨RX3, "reliability", "()F"⟩
def dkwX3_reliability_1 : List UInt8 := [182, 0, 61, 153, 0, 16, 42, 180, 0, 9, 7, 46, 134, 27, 134, 110, 167, 0, 4, 11, 174]
abbrev dktX3_reliability_1 : List UInt8 := dkwX3_reliability_1 ++ []
def dkwX3_reliability_0 : List UInt8 := [42, 180, 0, 9, 7, 46, 42, 180, 0, 9, 8, 46, 96, 60, 42, 27, 158, 0, 7, 4, 167, 0, 4, 3]
abbrev dktX3_reliability_0 : List UInt8 := dkwX3_reliability_0 ++ dktX3_reliability_1
theorem dksX3_reliability_0 : cX3_reliability.data.toList.drop 0 = dktX3_reliability_0 := by decide +kernel
theorem dksX3_reliability_1 : cX3_reliability.data.toList.drop 24 = dktX3_reliability_1 := dk_seg dksX3_reliability_0 24 rfl rfl
theorem dX3_reliability_0 : decode cX3_reliability 0 = .ok (.aload_n 0, 1) := dk_42 (dk_at dksX3_reliability_0 0 rfl rfl)
theorem dX3_reliability_1 : decode cX3_reliability 1 = .ok (.getfield 9, 3) := dk_180 0 9 (dk_at dksX3_reliability_0 1 rfl rfl)
theorem dX3_reliability_4 : decode cX3_reliability 4 = .ok (.iconst 4, 1) := dk_7 (dk_at dksX3_reliability_0 4 rfl rfl)
theorem dX3_reliability_5 : decode cX3_reliability 5 = .ok (.iaload, 1) := dk_46 (dk_at dksX3_reliability_0 5 rfl rfl)
theorem dX3_reliability_6 : decode cX3_reliability 6 = .ok (.aload_n 0, 1) := dk_42 (dk_at dksX3_reliability_0 6 rfl rfl)
theorem dX3_reliability_7 : decode cX3_reliability 7 = .ok (.getfield 9, 3) := dk_180 0 9 (dk_at dksX3_reliability_0 7 rfl rfl)
theorem dX3_reliability_10 : decode cX3_reliability 10 = .ok (.iconst 5, 1) := dk_8 (dk_at dksX3_reliability_0 10 rfl rfl)
theorem dX3_reliability_11 : decode cX3_reliability 11 = .ok (.iaload, 1) := dk_46 (dk_at dksX3_reliability_0 11 rfl rfl)
theorem dX3_reliability_12 : decode cX3_reliability 12 = .ok (.iadd, 1) := dk_96 (dk_at dksX3_reliability_0 12 rfl rfl)
theorem dX3_reliability_13 : decode cX3_reliability 13 = .ok (.istore_n 1, 1) := dk_60 (dk_at dksX3_reliability_0 13 rfl rfl)
theorem dX3_reliability_14 : decode cX3_reliability 14 = .ok (.aload_n 0, 1) := dk_42 (dk_at dksX3_reliability_0 14 rfl rfl)
theorem dX3_reliability_15 : decode cX3_reliability 15 = .ok (.iload_n 1, 1) := dk_27 (dk_at dksX3_reliability_0 15 rfl rfl)
theorem dX3_reliability_16 : decode cX3_reliability 16 = .ok (.ifCond .le 7, 3) := dk_158 0 7 (dk_at dksX3_reliability_0 16 rfl rfl)
theorem dX3_reliability_19 : decode cX3_reliability 19 = .ok (.iconst 1, 1) := dk_4 (dk_at dksX3_reliability_0 19 rfl rfl)
theorem dX3_reliability_20 : decode cX3_reliability 20 = .ok (.goto 4, 3) := dk_167 0 4 (dk_at dksX3_reliability_0 20 rfl rfl)
theorem dX3_reliability_23 : decode cX3_reliability 23 = .ok (.iconst 0, 1) := dk_3 (dk_at dksX3_reliability_0 23 rfl rfl)
theorem dX3_reliability_24 : decode cX3_reliability 24 = .ok (.invokevirtual 61, 3) := dk_182 0 61 (dk_at dksX3_reliability_1 0 rfl rfl)
theorem dX3_reliability_27 : decode cX3_reliability 27 = .ok (.ifCond .eq 16, 3) := dk_153 0 16 (dk_at dksX3_reliability_1 3 rfl rfl)
theorem dX3_reliability_30 : decode cX3_reliability 30 = .ok (.aload_n 0, 1) := dk_42 (dk_at dksX3_reliability_1 6 rfl rfl)
theorem dX3_reliability_31 : decode cX3_reliability 31 = .ok (.getfield 9, 3) := dk_180 0 9 (dk_at dksX3_reliability_1 7 rfl rfl)
theorem dX3_reliability_34 : decode cX3_reliability 34 = .ok (.iconst 4, 1) := dk_7 (dk_at dksX3_reliability_1 10 rfl rfl)
theorem dX3_reliability_35 : decode cX3_reliability 35 = .ok (.iaload, 1) := dk_46 (dk_at dksX3_reliability_1 11 rfl rfl)
theorem dX3_reliability_36 : decode cX3_reliability 36 = .ok (.i2f, 1) := dk_134 (dk_at dksX3_reliability_1 12 rfl rfl)
theorem dX3_reliability_37 : decode cX3_reliability 37 = .ok (.iload_n 1, 1) := dk_27 (dk_at dksX3_reliability_1 13 rfl rfl)
theorem dX3_reliability_38 : decode cX3_reliability 38 = .ok (.i2f, 1) := dk_134 (dk_at dksX3_reliability_1 14 rfl rfl)
theorem dX3_reliability_39 : decode cX3_reliability 39 = .ok (.fdiv, 1) := dk_110 (dk_at dksX3_reliability_1 15 rfl rfl)
theorem dX3_reliability_40 : decode cX3_reliability 40 = .ok (.goto 4, 3) := dk_167 0 4 (dk_at dksX3_reliability_1 16 rfl rfl)
theorem dX3_reliability_43 : decode cX3_reliability 43 = .ok (.fconst 0, 1) := dk_11 (dk_at dksX3_reliability_1 19 rfl rfl)
theorem dX3_reliability_44 : decode cX3_reliability 44 = .ok (.freturn, 1) := dk_174 (dk_at dksX3_reliability_1 20 rfl rfl)
abbrev cX3_isConsistent : ByteArray := prog_26_method_92_code
def yX3_isConsistent : MethodName := ⟨RX3, "isConsistent", "()Z"⟩
def dkwX3_isConsistent_0 : List UInt8 := [42, 3, 181, 0, 44, 4, 172]
abbrev dktX3_isConsistent_0 : List UInt8 := dkwX3_isConsistent_0 ++ []
theorem dksX3_isConsistent_0 : cX3_isConsistent.data.toList.drop 0 = dktX3_isConsistent_0 := by decide +kernel
theorem dX3_isConsistent_0 : decode cX3_isConsistent 0 = .ok (.aload_n 0, 1) := dk_42 (dk_at dksX3_isConsistent_0 0 rfl rfl)
theorem dX3_isConsistent_1 : decode cX3_isConsistent 1 = .ok (.iconst 0, 1) := dk_3 (dk_at dksX3_isConsistent_0 1 rfl rfl)
theorem dX3_isConsistent_2 : decode cX3_isConsistent 2 = .ok (.putfield 44, 3) := dk_181 0 44 (dk_at dksX3_isConsistent_0 2 rfl rfl)
theorem dX3_isConsistent_5 : decode cX3_isConsistent 5 = .ok (.iconst 1, 1) := dk_4 (dk_at dksX3_isConsistent_0 5 rfl rfl)
theorem dX3_isConsistent_6 : decode cX3_isConsistent 6 = .ok (.ireturn, 1) := dk_172 (dk_at dksX3_isConsistent_0 6 rfl rfl)
abbrev cX3_renderGoblin : ByteArray := prog_26_method_95_code
def yX3_renderGoblin : MethodName := ⟨RX3, "renderGoblin", "(I)I"⟩
def dkwX3_renderGoblin_4 : List UInt8 := [160, 0, 13, 42, 28, 16, 122, 182, 0, 195, 167, 0, 4, 28, 181, 0, 201, 42, 180, 0, 201, 172]
abbrev dktX3_renderGoblin_4 : List UInt8 := dkwX3_renderGoblin_4 ++ []
def dkwX3_renderGoblin_3 : List UInt8 := [16, 100, 182, 0, 195, 42, 27, 5, 182, 0, 95, 182, 0, 198, 61, 42, 42, 27, 7, 182, 0, 95, 4]
abbrev dktX3_renderGoblin_3 : List UInt8 := dkwX3_renderGoblin_3 ++ dktX3_renderGoblin_4
def dkwX3_renderGoblin_2 : List UInt8 := [182, 0, 95, 182, 0, 198, 61, 42, 27, 5, 182, 0, 95, 154, 0, 7, 28, 167, 0, 20, 42, 42, 28]
abbrev dktX3_renderGoblin_2 : List UInt8 := dkwX3_renderGoblin_2 ++ dktX3_renderGoblin_3
def dkwX3_renderGoblin_1 : List UInt8 := [182, 0, 195, 42, 27, 3, 182, 0, 95, 182, 0, 198, 61, 42, 42, 28, 16, 112, 182, 0, 195, 42, 27, 4]
abbrev dktX3_renderGoblin_1 : List UInt8 := dkwX3_renderGoblin_1 ++ dktX3_renderGoblin_2
def dkwX3_renderGoblin_0 : List UInt8 := [42, 42, 27, 182, 0, 77, 182, 0, 61, 154, 0, 5, 3, 172, 42, 42, 42, 3, 27, 182, 0, 198, 16, 115]
abbrev dktX3_renderGoblin_0 : List UInt8 := dkwX3_renderGoblin_0 ++ dktX3_renderGoblin_1
theorem dksX3_renderGoblin_0 : cX3_renderGoblin.data.toList.drop 0 = dktX3_renderGoblin_0 := by decide +kernel
theorem dksX3_renderGoblin_1 : cX3_renderGoblin.data.toList.drop 24 = dktX3_renderGoblin_1 := dk_seg dksX3_renderGoblin_0 24 rfl rfl
theorem dksX3_renderGoblin_2 : cX3_renderGoblin.data.toList.drop 48 = dktX3_renderGoblin_2 := dk_seg dksX3_renderGoblin_1 24 rfl rfl
theorem dksX3_renderGoblin_3 : cX3_renderGoblin.data.toList.drop 71 = dktX3_renderGoblin_3 := dk_seg dksX3_renderGoblin_2 23 rfl rfl
theorem dksX3_renderGoblin_4 : cX3_renderGoblin.data.toList.drop 94 = dktX3_renderGoblin_4 := dk_seg dksX3_renderGoblin_3 23 rfl rfl
theorem dX3_renderGoblin_0 : decode cX3_renderGoblin 0 = .ok (.aload_n 0, 1) := dk_42 (dk_at dksX3_renderGoblin_0 0 rfl rfl)
theorem dX3_renderGoblin_1 : decode cX3_renderGoblin 1 = .ok (.aload_n 0, 1) := dk_42 (dk_at dksX3_renderGoblin_0 1 rfl rfl)
theorem dX3_renderGoblin_2 : decode cX3_renderGoblin 2 = .ok (.iload_n 1, 1) := dk_27 (dk_at dksX3_renderGoblin_0 2 rfl rfl)
theorem dX3_renderGoblin_3 : decode cX3_renderGoblin 3 = .ok (.invokevirtual 77, 3) := dk_182 0 77 (dk_at dksX3_renderGoblin_0 3 rfl rfl)
theorem dX3_renderGoblin_6 : decode cX3_renderGoblin 6 = .ok (.invokevirtual 61, 3) := dk_182 0 61 (dk_at dksX3_renderGoblin_0 6 rfl rfl)
theorem dX3_renderGoblin_9 : decode cX3_renderGoblin 9 = .ok (.ifCond .ne 5, 3) := dk_154 0 5 (dk_at dksX3_renderGoblin_0 9 rfl rfl)
theorem dX3_renderGoblin_12 : decode cX3_renderGoblin 12 = .ok (.iconst 0, 1) := dk_3 (dk_at dksX3_renderGoblin_0 12 rfl rfl)
theorem dX3_renderGoblin_13 : decode cX3_renderGoblin 13 = .ok (.ireturn, 1) := dk_172 (dk_at dksX3_renderGoblin_0 13 rfl rfl)
theorem dX3_renderGoblin_14 : decode cX3_renderGoblin 14 = .ok (.aload_n 0, 1) := dk_42 (dk_at dksX3_renderGoblin_0 14 rfl rfl)
theorem dX3_renderGoblin_15 : decode cX3_renderGoblin 15 = .ok (.aload_n 0, 1) := dk_42 (dk_at dksX3_renderGoblin_0 15 rfl rfl)
theorem dX3_renderGoblin_16 : decode cX3_renderGoblin 16 = .ok (.aload_n 0, 1) := dk_42 (dk_at dksX3_renderGoblin_0 16 rfl rfl)
theorem dX3_renderGoblin_17 : decode cX3_renderGoblin 17 = .ok (.iconst 0, 1) := dk_3 (dk_at dksX3_renderGoblin_0 17 rfl rfl)
theorem dX3_renderGoblin_18 : decode cX3_renderGoblin 18 = .ok (.iload_n 1, 1) := dk_27 (dk_at dksX3_renderGoblin_0 18 rfl rfl)
theorem dX3_renderGoblin_19 : decode cX3_renderGoblin 19 = .ok (.invokevirtual 198, 3) := dk_182 0 198 (dk_at dksX3_renderGoblin_0 19 rfl rfl)
theorem dX3_renderGoblin_22 : decode cX3_renderGoblin 22 = .ok (.bipush 115, 2) := dk_16 115 (dk_at dksX3_renderGoblin_0 22 rfl rfl)
theorem dX3_renderGoblin_24 : decode cX3_renderGoblin 24 = .ok (.invokevirtual 195, 3) := dk_182 0 195 (dk_at dksX3_renderGoblin_1 0 rfl rfl)
theorem dX3_renderGoblin_27 : decode cX3_renderGoblin 27 = .ok (.aload_n 0, 1) := dk_42 (dk_at dksX3_renderGoblin_1 3 rfl rfl)
theorem dX3_renderGoblin_28 : decode cX3_renderGoblin 28 = .ok (.iload_n 1, 1) := dk_27 (dk_at dksX3_renderGoblin_1 4 rfl rfl)
theorem dX3_renderGoblin_29 : decode cX3_renderGoblin 29 = .ok (.iconst 0, 1) := dk_3 (dk_at dksX3_renderGoblin_1 5 rfl rfl)
theorem dX3_renderGoblin_30 : decode cX3_renderGoblin 30 = .ok (.invokevirtual 95, 3) := dk_182 0 95 (dk_at dksX3_renderGoblin_1 6 rfl rfl)
theorem dX3_renderGoblin_33 : decode cX3_renderGoblin 33 = .ok (.invokevirtual 198, 3) := dk_182 0 198 (dk_at dksX3_renderGoblin_1 9 rfl rfl)
theorem dX3_renderGoblin_36 : decode cX3_renderGoblin 36 = .ok (.istore_n 2, 1) := dk_61 (dk_at dksX3_renderGoblin_1 12 rfl rfl)
theorem dX3_renderGoblin_37 : decode cX3_renderGoblin 37 = .ok (.aload_n 0, 1) := dk_42 (dk_at dksX3_renderGoblin_1 13 rfl rfl)
theorem dX3_renderGoblin_38 : decode cX3_renderGoblin 38 = .ok (.aload_n 0, 1) := dk_42 (dk_at dksX3_renderGoblin_1 14 rfl rfl)
theorem dX3_renderGoblin_39 : decode cX3_renderGoblin 39 = .ok (.iload_n 2, 1) := dk_28 (dk_at dksX3_renderGoblin_1 15 rfl rfl)
theorem dX3_renderGoblin_40 : decode cX3_renderGoblin 40 = .ok (.bipush 112, 2) := dk_16 112 (dk_at dksX3_renderGoblin_1 16 rfl rfl)
theorem dX3_renderGoblin_42 : decode cX3_renderGoblin 42 = .ok (.invokevirtual 195, 3) := dk_182 0 195 (dk_at dksX3_renderGoblin_1 18 rfl rfl)
theorem dX3_renderGoblin_45 : decode cX3_renderGoblin 45 = .ok (.aload_n 0, 1) := dk_42 (dk_at dksX3_renderGoblin_1 21 rfl rfl)
theorem dX3_renderGoblin_46 : decode cX3_renderGoblin 46 = .ok (.iload_n 1, 1) := dk_27 (dk_at dksX3_renderGoblin_1 22 rfl rfl)
theorem dX3_renderGoblin_47 : decode cX3_renderGoblin 47 = .ok (.iconst 1, 1) := dk_4 (dk_at dksX3_renderGoblin_1 23 rfl rfl)
theorem dX3_renderGoblin_48 : decode cX3_renderGoblin 48 = .ok (.invokevirtual 95, 3) := dk_182 0 95 (dk_at dksX3_renderGoblin_2 0 rfl rfl)
theorem dX3_renderGoblin_51 : decode cX3_renderGoblin 51 = .ok (.invokevirtual 198, 3) := dk_182 0 198 (dk_at dksX3_renderGoblin_2 3 rfl rfl)
theorem dX3_renderGoblin_54 : decode cX3_renderGoblin 54 = .ok (.istore_n 2, 1) := dk_61 (dk_at dksX3_renderGoblin_2 6 rfl rfl)
theorem dX3_renderGoblin_55 : decode cX3_renderGoblin 55 = .ok (.aload_n 0, 1) := dk_42 (dk_at dksX3_renderGoblin_2 7 rfl rfl)
theorem dX3_renderGoblin_56 : decode cX3_renderGoblin 56 = .ok (.iload_n 1, 1) := dk_27 (dk_at dksX3_renderGoblin_2 8 rfl rfl)
theorem dX3_renderGoblin_57 : decode cX3_renderGoblin 57 = .ok (.iconst 2, 1) := dk_5 (dk_at dksX3_renderGoblin_2 9 rfl rfl)
theorem dX3_renderGoblin_58 : decode cX3_renderGoblin 58 = .ok (.invokevirtual 95, 3) := dk_182 0 95 (dk_at dksX3_renderGoblin_2 10 rfl rfl)
theorem dX3_renderGoblin_61 : decode cX3_renderGoblin 61 = .ok (.ifCond .ne 7, 3) := dk_154 0 7 (dk_at dksX3_renderGoblin_2 13 rfl rfl)
theorem dX3_renderGoblin_64 : decode cX3_renderGoblin 64 = .ok (.iload_n 2, 1) := dk_28 (dk_at dksX3_renderGoblin_2 16 rfl rfl)
theorem dX3_renderGoblin_65 : decode cX3_renderGoblin 65 = .ok (.goto 20, 3) := dk_167 0 20 (dk_at dksX3_renderGoblin_2 17 rfl rfl)
theorem dX3_renderGoblin_68 : decode cX3_renderGoblin 68 = .ok (.aload_n 0, 1) := dk_42 (dk_at dksX3_renderGoblin_2 20 rfl rfl)
theorem dX3_renderGoblin_69 : decode cX3_renderGoblin 69 = .ok (.aload_n 0, 1) := dk_42 (dk_at dksX3_renderGoblin_2 21 rfl rfl)
theorem dX3_renderGoblin_70 : decode cX3_renderGoblin 70 = .ok (.iload_n 2, 1) := dk_28 (dk_at dksX3_renderGoblin_2 22 rfl rfl)
theorem dX3_renderGoblin_71 : decode cX3_renderGoblin 71 = .ok (.bipush 100, 2) := dk_16 100 (dk_at dksX3_renderGoblin_3 0 rfl rfl)
theorem dX3_renderGoblin_73 : decode cX3_renderGoblin 73 = .ok (.invokevirtual 195, 3) := dk_182 0 195 (dk_at dksX3_renderGoblin_3 2 rfl rfl)
theorem dX3_renderGoblin_76 : decode cX3_renderGoblin 76 = .ok (.aload_n 0, 1) := dk_42 (dk_at dksX3_renderGoblin_3 5 rfl rfl)
theorem dX3_renderGoblin_77 : decode cX3_renderGoblin 77 = .ok (.iload_n 1, 1) := dk_27 (dk_at dksX3_renderGoblin_3 6 rfl rfl)
theorem dX3_renderGoblin_78 : decode cX3_renderGoblin 78 = .ok (.iconst 2, 1) := dk_5 (dk_at dksX3_renderGoblin_3 7 rfl rfl)
theorem dX3_renderGoblin_79 : decode cX3_renderGoblin 79 = .ok (.invokevirtual 95, 3) := dk_182 0 95 (dk_at dksX3_renderGoblin_3 8 rfl rfl)
theorem dX3_renderGoblin_82 : decode cX3_renderGoblin 82 = .ok (.invokevirtual 198, 3) := dk_182 0 198 (dk_at dksX3_renderGoblin_3 11 rfl rfl)
theorem dX3_renderGoblin_85 : decode cX3_renderGoblin 85 = .ok (.istore_n 2, 1) := dk_61 (dk_at dksX3_renderGoblin_3 14 rfl rfl)
theorem dX3_renderGoblin_86 : decode cX3_renderGoblin 86 = .ok (.aload_n 0, 1) := dk_42 (dk_at dksX3_renderGoblin_3 15 rfl rfl)
theorem dX3_renderGoblin_87 : decode cX3_renderGoblin 87 = .ok (.aload_n 0, 1) := dk_42 (dk_at dksX3_renderGoblin_3 16 rfl rfl)
theorem dX3_renderGoblin_88 : decode cX3_renderGoblin 88 = .ok (.iload_n 1, 1) := dk_27 (dk_at dksX3_renderGoblin_3 17 rfl rfl)
theorem dX3_renderGoblin_89 : decode cX3_renderGoblin 89 = .ok (.iconst 4, 1) := dk_7 (dk_at dksX3_renderGoblin_3 18 rfl rfl)
theorem dX3_renderGoblin_90 : decode cX3_renderGoblin 90 = .ok (.invokevirtual 95, 3) := dk_182 0 95 (dk_at dksX3_renderGoblin_3 19 rfl rfl)
theorem dX3_renderGoblin_93 : decode cX3_renderGoblin 93 = .ok (.iconst 1, 1) := dk_4 (dk_at dksX3_renderGoblin_3 22 rfl rfl)
theorem dX3_renderGoblin_94 : decode cX3_renderGoblin 94 = .ok (.if_icmp .ne 13, 3) := dk_160 0 13 (dk_at dksX3_renderGoblin_4 0 rfl rfl)
theorem dX3_renderGoblin_97 : decode cX3_renderGoblin 97 = .ok (.aload_n 0, 1) := dk_42 (dk_at dksX3_renderGoblin_4 3 rfl rfl)
theorem dX3_renderGoblin_98 : decode cX3_renderGoblin 98 = .ok (.iload_n 2, 1) := dk_28 (dk_at dksX3_renderGoblin_4 4 rfl rfl)
theorem dX3_renderGoblin_99 : decode cX3_renderGoblin 99 = .ok (.bipush 122, 2) := dk_16 122 (dk_at dksX3_renderGoblin_4 5 rfl rfl)
theorem dX3_renderGoblin_101 : decode cX3_renderGoblin 101 = .ok (.invokevirtual 195, 3) := dk_182 0 195 (dk_at dksX3_renderGoblin_4 7 rfl rfl)
theorem dX3_renderGoblin_104 : decode cX3_renderGoblin 104 = .ok (.goto 4, 3) := dk_167 0 4 (dk_at dksX3_renderGoblin_4 10 rfl rfl)
theorem dX3_renderGoblin_107 : decode cX3_renderGoblin 107 = .ok (.iload_n 2, 1) := dk_28 (dk_at dksX3_renderGoblin_4 13 rfl rfl)
theorem dX3_renderGoblin_108 : decode cX3_renderGoblin 108 = .ok (.putfield 201, 3) := dk_181 0 201 (dk_at dksX3_renderGoblin_4 14 rfl rfl)
theorem dX3_renderGoblin_111 : decode cX3_renderGoblin 111 = .ok (.aload_n 0, 1) := dk_42 (dk_at dksX3_renderGoblin_4 17 rfl rfl)
theorem dX3_renderGoblin_112 : decode cX3_renderGoblin 112 = .ok (.getfield 201, 3) := dk_180 0 201 (dk_at dksX3_renderGoblin_4 18 rfl rfl)
theorem dX3_renderGoblin_115 : decode cX3_renderGoblin 115 = .ok (.ireturn, 1) := dk_172 (dk_at dksX3_renderGoblin_4 21 rfl rfl)
abbrev cX3_writesNumber : ByteArray := prog_26_method_94_code
def yX3_writesNumber : MethodName := ⟨RX3, "writesNumber", "(II)I"⟩
def dkwX3_writesNumber_2 : List UInt8 := [62, 21, 5, 16, 10, 108, 54, 5, 167, 255, 228, 29, 172]
abbrev dktX3_writesNumber_2 : List UInt8 := dkwX3_writesNumber_2 ++ []
def dkwX3_writesNumber_1 : List UInt8 := [21, 4, 54, 5, 21, 5, 158, 0, 29, 42, 29, 16, 48, 28, 21, 5, 108, 16, 10, 112, 96, 182, 0, 195]
abbrev dktX3_writesNumber_1 : List UInt8 := dkwX3_writesNumber_1 ++ dktX3_writesNumber_2
def dkwX3_writesNumber_0 : List UInt8 := [27, 62, 4, 54, 4, 28, 21, 4, 108, 16, 9, 164, 0, 13, 21, 4, 16, 10, 104, 54, 4, 167, 255, 240]
abbrev dktX3_writesNumber_0 : List UInt8 := dkwX3_writesNumber_0 ++ dktX3_writesNumber_1
theorem dksX3_writesNumber_0 : cX3_writesNumber.data.toList.drop 0 = dktX3_writesNumber_0 := by decide +kernel
theorem dksX3_writesNumber_1 : cX3_writesNumber.data.toList.drop 24 = dktX3_writesNumber_1 := dk_seg dksX3_writesNumber_0 24 rfl rfl
theorem dksX3_writesNumber_2 : cX3_writesNumber.data.toList.drop 48 = dktX3_writesNumber_2 := dk_seg dksX3_writesNumber_1 24 rfl rfl
theorem dX3_writesNumber_0 : decode cX3_writesNumber 0 = .ok (.iload_n 1, 1) := dk_27 (dk_at dksX3_writesNumber_0 0 rfl rfl)
theorem dX3_writesNumber_1 : decode cX3_writesNumber 1 = .ok (.istore_n 3, 1) := dk_62 (dk_at dksX3_writesNumber_0 1 rfl rfl)
theorem dX3_writesNumber_2 : decode cX3_writesNumber 2 = .ok (.iconst 1, 1) := dk_4 (dk_at dksX3_writesNumber_0 2 rfl rfl)
theorem dX3_writesNumber_3 : decode cX3_writesNumber 3 = .ok (.istore 4, 2) := dk_54 4 (dk_at dksX3_writesNumber_0 3 rfl rfl)
theorem dX3_writesNumber_5 : decode cX3_writesNumber 5 = .ok (.iload_n 2, 1) := dk_28 (dk_at dksX3_writesNumber_0 5 rfl rfl)
theorem dX3_writesNumber_6 : decode cX3_writesNumber 6 = .ok (.iload 4, 2) := dk_21 4 (dk_at dksX3_writesNumber_0 6 rfl rfl)
theorem dX3_writesNumber_8 : decode cX3_writesNumber 8 = .ok (.idiv, 1) := dk_108 (dk_at dksX3_writesNumber_0 8 rfl rfl)
theorem dX3_writesNumber_9 : decode cX3_writesNumber 9 = .ok (.bipush 9, 2) := dk_16 9 (dk_at dksX3_writesNumber_0 9 rfl rfl)
theorem dX3_writesNumber_11 : decode cX3_writesNumber 11 = .ok (.if_icmp .le 13, 3) := dk_164 0 13 (dk_at dksX3_writesNumber_0 11 rfl rfl)
theorem dX3_writesNumber_14 : decode cX3_writesNumber 14 = .ok (.iload 4, 2) := dk_21 4 (dk_at dksX3_writesNumber_0 14 rfl rfl)
theorem dX3_writesNumber_16 : decode cX3_writesNumber 16 = .ok (.bipush 10, 2) := dk_16 10 (dk_at dksX3_writesNumber_0 16 rfl rfl)
theorem dX3_writesNumber_18 : decode cX3_writesNumber 18 = .ok (.imul, 1) := dk_104 (dk_at dksX3_writesNumber_0 18 rfl rfl)
theorem dX3_writesNumber_19 : decode cX3_writesNumber 19 = .ok (.istore 4, 2) := dk_54 4 (dk_at dksX3_writesNumber_0 19 rfl rfl)
theorem dX3_writesNumber_21 : decode cX3_writesNumber 21 = .ok (.goto (-16), 3) := dk_167 255 240 (dk_at dksX3_writesNumber_0 21 rfl rfl)
theorem dX3_writesNumber_24 : decode cX3_writesNumber 24 = .ok (.iload 4, 2) := dk_21 4 (dk_at dksX3_writesNumber_1 0 rfl rfl)
theorem dX3_writesNumber_26 : decode cX3_writesNumber 26 = .ok (.istore 5, 2) := dk_54 5 (dk_at dksX3_writesNumber_1 2 rfl rfl)
theorem dX3_writesNumber_28 : decode cX3_writesNumber 28 = .ok (.iload 5, 2) := dk_21 5 (dk_at dksX3_writesNumber_1 4 rfl rfl)
theorem dX3_writesNumber_30 : decode cX3_writesNumber 30 = .ok (.ifCond .le 29, 3) := dk_158 0 29 (dk_at dksX3_writesNumber_1 6 rfl rfl)
theorem dX3_writesNumber_33 : decode cX3_writesNumber 33 = .ok (.aload_n 0, 1) := dk_42 (dk_at dksX3_writesNumber_1 9 rfl rfl)
theorem dX3_writesNumber_34 : decode cX3_writesNumber 34 = .ok (.iload_n 3, 1) := dk_29 (dk_at dksX3_writesNumber_1 10 rfl rfl)
theorem dX3_writesNumber_35 : decode cX3_writesNumber 35 = .ok (.bipush 48, 2) := dk_16 48 (dk_at dksX3_writesNumber_1 11 rfl rfl)
theorem dX3_writesNumber_37 : decode cX3_writesNumber 37 = .ok (.iload_n 2, 1) := dk_28 (dk_at dksX3_writesNumber_1 13 rfl rfl)
theorem dX3_writesNumber_38 : decode cX3_writesNumber 38 = .ok (.iload 5, 2) := dk_21 5 (dk_at dksX3_writesNumber_1 14 rfl rfl)
theorem dX3_writesNumber_40 : decode cX3_writesNumber 40 = .ok (.idiv, 1) := dk_108 (dk_at dksX3_writesNumber_1 16 rfl rfl)
theorem dX3_writesNumber_41 : decode cX3_writesNumber 41 = .ok (.bipush 10, 2) := dk_16 10 (dk_at dksX3_writesNumber_1 17 rfl rfl)
theorem dX3_writesNumber_43 : decode cX3_writesNumber 43 = .ok (.irem, 1) := dk_112 (dk_at dksX3_writesNumber_1 19 rfl rfl)
theorem dX3_writesNumber_44 : decode cX3_writesNumber 44 = .ok (.iadd, 1) := dk_96 (dk_at dksX3_writesNumber_1 20 rfl rfl)
theorem dX3_writesNumber_45 : decode cX3_writesNumber 45 = .ok (.invokevirtual 195, 3) := dk_182 0 195 (dk_at dksX3_writesNumber_1 21 rfl rfl)
theorem dX3_writesNumber_48 : decode cX3_writesNumber 48 = .ok (.istore_n 3, 1) := dk_62 (dk_at dksX3_writesNumber_2 0 rfl rfl)
theorem dX3_writesNumber_49 : decode cX3_writesNumber 49 = .ok (.iload 5, 2) := dk_21 5 (dk_at dksX3_writesNumber_2 1 rfl rfl)
theorem dX3_writesNumber_51 : decode cX3_writesNumber 51 = .ok (.bipush 10, 2) := dk_16 10 (dk_at dksX3_writesNumber_2 3 rfl rfl)
theorem dX3_writesNumber_53 : decode cX3_writesNumber 53 = .ok (.idiv, 1) := dk_108 (dk_at dksX3_writesNumber_2 5 rfl rfl)
theorem dX3_writesNumber_54 : decode cX3_writesNumber 54 = .ok (.istore 5, 2) := dk_54 5 (dk_at dksX3_writesNumber_2 6 rfl rfl)
theorem dX3_writesNumber_56 : decode cX3_writesNumber 56 = .ok (.goto (-28), 3) := dk_167 255 228 (dk_at dksX3_writesNumber_2 8 rfl rfl)
theorem dX3_writesNumber_59 : decode cX3_writesNumber 59 = .ok (.iload_n 3, 1) := dk_29 (dk_at dksX3_writesNumber_2 11 rfl rfl)
theorem dX3_writesNumber_60 : decode cX3_writesNumber 60 = .ok (.ireturn, 1) := dk_172 (dk_at dksX3_writesNumber_2 12 rfl rfl)
abbrev cX3_put : ByteArray := prog_26_method_93_code
def yX3_put : MethodName := ⟨RX3, "put", "(II)I"⟩
def dkwX3_put_0 : List UInt8 := [42, 180, 0, 38, 27, 28, 79, 27, 4, 96, 172]
abbrev dktX3_put_0 : List UInt8 := dkwX3_put_0 ++ []
theorem dksX3_put_0 : cX3_put.data.toList.drop 0 = dktX3_put_0 := by decide +kernel
theorem dX3_put_0 : decode cX3_put 0 = .ok (.aload_n 0, 1) := dk_42 (dk_at dksX3_put_0 0 rfl rfl)
theorem dX3_put_1 : decode cX3_put 1 = .ok (.getfield 38, 3) := dk_180 0 38 (dk_at dksX3_put_0 1 rfl rfl)
theorem dX3_put_4 : decode cX3_put 4 = .ok (.iload_n 1, 1) := dk_27 (dk_at dksX3_put_0 4 rfl rfl)
theorem dX3_put_5 : decode cX3_put 5 = .ok (.iload_n 2, 1) := dk_28 (dk_at dksX3_put_0 5 rfl rfl)
theorem dX3_put_6 : decode cX3_put 6 = .ok (.iastore, 1) := dk_79 (dk_at dksX3_put_0 6 rfl rfl)
theorem dX3_put_7 : decode cX3_put 7 = .ok (.iload_n 1, 1) := dk_27 (dk_at dksX3_put_0 7 rfl rfl)
theorem dX3_put_8 : decode cX3_put 8 = .ok (.iconst 1, 1) := dk_4 (dk_at dksX3_put_0 8 rfl rfl)
theorem dX3_put_9 : decode cX3_put 9 = .ok (.iadd, 1) := dk_96 (dk_at dksX3_put_0 9 rfl rfl)
theorem dX3_put_10 : decode cX3_put 10 = .ok (.ireturn, 1) := dk_172 (dk_at dksX3_put_0 10 rfl rfl)
abbrev cX3_renderContracts : ByteArray := prog_26_method_97_code
def yX3_renderContracts : MethodName := ⟨RX3, "renderContracts", "()I"⟩
def dkwX3_renderContracts_2 : List UInt8 := [167, 255, 221, 42, 27, 181, 0, 201, 27, 172]
abbrev dktX3_renderContracts_2 : List UInt8 := dkwX3_renderContracts_2 ++ []
def dkwX3_renderContracts_1 : List UInt8 := [154, 0, 7, 27, 167, 0, 10, 42, 27, 16, 32, 182, 0, 195, 28, 182, 0, 204, 60, 132, 2, 1]
abbrev dktX3_renderContracts_1 : List UInt8 := dkwX3_renderContracts_1 ++ dktX3_renderContracts_2
def dkwX3_renderContracts_0 : List UInt8 := [42, 3, 181, 0, 44, 3, 60, 3, 61, 28, 42, 180, 0, 9, 16, 11, 46, 162, 0, 30, 42, 28]
abbrev dktX3_renderContracts_0 : List UInt8 := dkwX3_renderContracts_0 ++ dktX3_renderContracts_1
theorem dksX3_renderContracts_0 : cX3_renderContracts.data.toList.drop 0 = dktX3_renderContracts_0 := by decide +kernel
theorem dksX3_renderContracts_1 : cX3_renderContracts.data.toList.drop 22 = dktX3_renderContracts_1 := dk_seg dksX3_renderContracts_0 22 rfl rfl
theorem dksX3_renderContracts_2 : cX3_renderContracts.data.toList.drop 44 = dktX3_renderContracts_2 := dk_seg dksX3_renderContracts_1 22 rfl rfl
theorem dX3_renderContracts_0 : decode cX3_renderContracts 0 = .ok (.aload_n 0, 1) := dk_42 (dk_at dksX3_renderContracts_0 0 rfl rfl)
theorem dX3_renderContracts_1 : decode cX3_renderContracts 1 = .ok (.iconst 0, 1) := dk_3 (dk_at dksX3_renderContracts_0 1 rfl rfl)
theorem dX3_renderContracts_2 : decode cX3_renderContracts 2 = .ok (.putfield 44, 3) := dk_181 0 44 (dk_at dksX3_renderContracts_0 2 rfl rfl)
theorem dX3_renderContracts_5 : decode cX3_renderContracts 5 = .ok (.iconst 0, 1) := dk_3 (dk_at dksX3_renderContracts_0 5 rfl rfl)
theorem dX3_renderContracts_6 : decode cX3_renderContracts 6 = .ok (.istore_n 1, 1) := dk_60 (dk_at dksX3_renderContracts_0 6 rfl rfl)
theorem dX3_renderContracts_7 : decode cX3_renderContracts 7 = .ok (.iconst 0, 1) := dk_3 (dk_at dksX3_renderContracts_0 7 rfl rfl)
theorem dX3_renderContracts_8 : decode cX3_renderContracts 8 = .ok (.istore_n 2, 1) := dk_61 (dk_at dksX3_renderContracts_0 8 rfl rfl)
theorem dX3_renderContracts_9 : decode cX3_renderContracts 9 = .ok (.iload_n 2, 1) := dk_28 (dk_at dksX3_renderContracts_0 9 rfl rfl)
theorem dX3_renderContracts_10 : decode cX3_renderContracts 10 = .ok (.aload_n 0, 1) := dk_42 (dk_at dksX3_renderContracts_0 10 rfl rfl)
theorem dX3_renderContracts_11 : decode cX3_renderContracts 11 = .ok (.getfield 9, 3) := dk_180 0 9 (dk_at dksX3_renderContracts_0 11 rfl rfl)
theorem dX3_renderContracts_14 : decode cX3_renderContracts 14 = .ok (.bipush 11, 2) := dk_16 11 (dk_at dksX3_renderContracts_0 14 rfl rfl)
theorem dX3_renderContracts_16 : decode cX3_renderContracts 16 = .ok (.iaload, 1) := dk_46 (dk_at dksX3_renderContracts_0 16 rfl rfl)
theorem dX3_renderContracts_17 : decode cX3_renderContracts 17 = .ok (.if_icmp .ge 30, 3) := dk_162 0 30 (dk_at dksX3_renderContracts_0 17 rfl rfl)
theorem dX3_renderContracts_20 : decode cX3_renderContracts 20 = .ok (.aload_n 0, 1) := dk_42 (dk_at dksX3_renderContracts_0 20 rfl rfl)
theorem dX3_renderContracts_21 : decode cX3_renderContracts 21 = .ok (.iload_n 2, 1) := dk_28 (dk_at dksX3_renderContracts_0 21 rfl rfl)
theorem dX3_renderContracts_22 : decode cX3_renderContracts 22 = .ok (.ifCond .ne 7, 3) := dk_154 0 7 (dk_at dksX3_renderContracts_1 0 rfl rfl)
theorem dX3_renderContracts_25 : decode cX3_renderContracts 25 = .ok (.iload_n 1, 1) := dk_27 (dk_at dksX3_renderContracts_1 3 rfl rfl)
theorem dX3_renderContracts_26 : decode cX3_renderContracts 26 = .ok (.goto 10, 3) := dk_167 0 10 (dk_at dksX3_renderContracts_1 4 rfl rfl)
theorem dX3_renderContracts_29 : decode cX3_renderContracts 29 = .ok (.aload_n 0, 1) := dk_42 (dk_at dksX3_renderContracts_1 7 rfl rfl)
theorem dX3_renderContracts_30 : decode cX3_renderContracts 30 = .ok (.iload_n 1, 1) := dk_27 (dk_at dksX3_renderContracts_1 8 rfl rfl)
theorem dX3_renderContracts_31 : decode cX3_renderContracts 31 = .ok (.bipush 32, 2) := dk_16 32 (dk_at dksX3_renderContracts_1 9 rfl rfl)
theorem dX3_renderContracts_33 : decode cX3_renderContracts 33 = .ok (.invokevirtual 195, 3) := dk_182 0 195 (dk_at dksX3_renderContracts_1 11 rfl rfl)
theorem dX3_renderContracts_36 : decode cX3_renderContracts 36 = .ok (.iload_n 2, 1) := dk_28 (dk_at dksX3_renderContracts_1 14 rfl rfl)
theorem dX3_renderContracts_37 : decode cX3_renderContracts 37 = .ok (.invokevirtual 204, 3) := dk_182 0 204 (dk_at dksX3_renderContracts_1 15 rfl rfl)
theorem dX3_renderContracts_40 : decode cX3_renderContracts 40 = .ok (.istore_n 1, 1) := dk_60 (dk_at dksX3_renderContracts_1 18 rfl rfl)
theorem dX3_renderContracts_41 : decode cX3_renderContracts 41 = .ok (.iinc 2 1, 3) := dk_132 2 1 (dk_at dksX3_renderContracts_1 19 rfl rfl)
theorem dX3_renderContracts_44 : decode cX3_renderContracts 44 = .ok (.goto (-35), 3) := dk_167 255 221 (dk_at dksX3_renderContracts_2 0 rfl rfl)
theorem dX3_renderContracts_47 : decode cX3_renderContracts 47 = .ok (.aload_n 0, 1) := dk_42 (dk_at dksX3_renderContracts_2 3 rfl rfl)
theorem dX3_renderContracts_48 : decode cX3_renderContracts 48 = .ok (.iload_n 1, 1) := dk_27 (dk_at dksX3_renderContracts_2 4 rfl rfl)
theorem dX3_renderContracts_49 : decode cX3_renderContracts 49 = .ok (.putfield 201, 3) := dk_181 0 201 (dk_at dksX3_renderContracts_2 5 rfl rfl)
theorem dX3_renderContracts_52 : decode cX3_renderContracts 52 = .ok (.iload_n 1, 1) := dk_27 (dk_at dksX3_renderContracts_2 8 rfl rfl)
theorem dX3_renderContracts_53 : decode cX3_renderContracts 53 = .ok (.ireturn, 1) := dk_172 (dk_at dksX3_renderContracts_2 9 rfl rfl)
abbrev cX3_writesContract : ByteArray := prog_26_method_96_code
def yX3_writesContract : MethodName := ⟨RX3, "writesContract", "(II)I"⟩
def dkwX3_writesContract_3 : List UInt8 := [42, 29, 42, 28, 7, 182, 0, 84, 182, 0, 198, 172]
abbrev dktX3_writesContract_3 : List UInt8 := dkwX3_writesContract_3 ++ []
def dkwX3_writesContract_2 : List UInt8 := [16, 64, 182, 0, 195, 62, 42, 42, 29, 42, 28, 6, 182, 0, 84, 182, 0, 198, 16, 47, 182, 0, 195, 62]
abbrev dktX3_writesContract_2 : List UInt8 := dkwX3_writesContract_2 ++ dktX3_writesContract_3
def dkwX3_writesContract_1 : List UInt8 := [182, 0, 84, 182, 0, 198, 16, 62, 182, 0, 195, 62, 42, 42, 29, 42, 28, 5, 182, 0, 84, 182, 0, 198]
abbrev dktX3_writesContract_1 : List UInt8 := dkwX3_writesContract_1 ++ dktX3_writesContract_2
def dkwX3_writesContract_0 : List UInt8 := [42, 42, 27, 42, 28, 3, 182, 0, 84, 182, 0, 198, 16, 58, 182, 0, 195, 62, 42, 42, 29, 42, 28, 4]
abbrev dktX3_writesContract_0 : List UInt8 := dkwX3_writesContract_0 ++ dktX3_writesContract_1
theorem dksX3_writesContract_0 : cX3_writesContract.data.toList.drop 0 = dktX3_writesContract_0 := by decide +kernel
theorem dksX3_writesContract_1 : cX3_writesContract.data.toList.drop 24 = dktX3_writesContract_1 := dk_seg dksX3_writesContract_0 24 rfl rfl
theorem dksX3_writesContract_2 : cX3_writesContract.data.toList.drop 48 = dktX3_writesContract_2 := dk_seg dksX3_writesContract_1 24 rfl rfl
theorem dksX3_writesContract_3 : cX3_writesContract.data.toList.drop 72 = dktX3_writesContract_3 := dk_seg dksX3_writesContract_2 24 rfl rfl
theorem dX3_writesContract_0 : decode cX3_writesContract 0 = .ok (.aload_n 0, 1) := dk_42 (dk_at dksX3_writesContract_0 0 rfl rfl)
theorem dX3_writesContract_1 : decode cX3_writesContract 1 = .ok (.aload_n 0, 1) := dk_42 (dk_at dksX3_writesContract_0 1 rfl rfl)
theorem dX3_writesContract_2 : decode cX3_writesContract 2 = .ok (.iload_n 1, 1) := dk_27 (dk_at dksX3_writesContract_0 2 rfl rfl)
theorem dX3_writesContract_3 : decode cX3_writesContract 3 = .ok (.aload_n 0, 1) := dk_42 (dk_at dksX3_writesContract_0 3 rfl rfl)
theorem dX3_writesContract_4 : decode cX3_writesContract 4 = .ok (.iload_n 2, 1) := dk_28 (dk_at dksX3_writesContract_0 4 rfl rfl)
theorem dX3_writesContract_5 : decode cX3_writesContract 5 = .ok (.iconst 0, 1) := dk_3 (dk_at dksX3_writesContract_0 5 rfl rfl)
theorem dX3_writesContract_6 : decode cX3_writesContract 6 = .ok (.invokevirtual 84, 3) := dk_182 0 84 (dk_at dksX3_writesContract_0 6 rfl rfl)
theorem dX3_writesContract_9 : decode cX3_writesContract 9 = .ok (.invokevirtual 198, 3) := dk_182 0 198 (dk_at dksX3_writesContract_0 9 rfl rfl)
theorem dX3_writesContract_12 : decode cX3_writesContract 12 = .ok (.bipush 58, 2) := dk_16 58 (dk_at dksX3_writesContract_0 12 rfl rfl)
theorem dX3_writesContract_14 : decode cX3_writesContract 14 = .ok (.invokevirtual 195, 3) := dk_182 0 195 (dk_at dksX3_writesContract_0 14 rfl rfl)
theorem dX3_writesContract_17 : decode cX3_writesContract 17 = .ok (.istore_n 3, 1) := dk_62 (dk_at dksX3_writesContract_0 17 rfl rfl)
theorem dX3_writesContract_18 : decode cX3_writesContract 18 = .ok (.aload_n 0, 1) := dk_42 (dk_at dksX3_writesContract_0 18 rfl rfl)
theorem dX3_writesContract_19 : decode cX3_writesContract 19 = .ok (.aload_n 0, 1) := dk_42 (dk_at dksX3_writesContract_0 19 rfl rfl)
theorem dX3_writesContract_20 : decode cX3_writesContract 20 = .ok (.iload_n 3, 1) := dk_29 (dk_at dksX3_writesContract_0 20 rfl rfl)
theorem dX3_writesContract_21 : decode cX3_writesContract 21 = .ok (.aload_n 0, 1) := dk_42 (dk_at dksX3_writesContract_0 21 rfl rfl)
theorem dX3_writesContract_22 : decode cX3_writesContract 22 = .ok (.iload_n 2, 1) := dk_28 (dk_at dksX3_writesContract_0 22 rfl rfl)
theorem dX3_writesContract_23 : decode cX3_writesContract 23 = .ok (.iconst 1, 1) := dk_4 (dk_at dksX3_writesContract_0 23 rfl rfl)
theorem dX3_writesContract_24 : decode cX3_writesContract 24 = .ok (.invokevirtual 84, 3) := dk_182 0 84 (dk_at dksX3_writesContract_1 0 rfl rfl)
theorem dX3_writesContract_27 : decode cX3_writesContract 27 = .ok (.invokevirtual 198, 3) := dk_182 0 198 (dk_at dksX3_writesContract_1 3 rfl rfl)
theorem dX3_writesContract_30 : decode cX3_writesContract 30 = .ok (.bipush 62, 2) := dk_16 62 (dk_at dksX3_writesContract_1 6 rfl rfl)
theorem dX3_writesContract_32 : decode cX3_writesContract 32 = .ok (.invokevirtual 195, 3) := dk_182 0 195 (dk_at dksX3_writesContract_1 8 rfl rfl)
theorem dX3_writesContract_35 : decode cX3_writesContract 35 = .ok (.istore_n 3, 1) := dk_62 (dk_at dksX3_writesContract_1 11 rfl rfl)
theorem dX3_writesContract_36 : decode cX3_writesContract 36 = .ok (.aload_n 0, 1) := dk_42 (dk_at dksX3_writesContract_1 12 rfl rfl)
theorem dX3_writesContract_37 : decode cX3_writesContract 37 = .ok (.aload_n 0, 1) := dk_42 (dk_at dksX3_writesContract_1 13 rfl rfl)
theorem dX3_writesContract_38 : decode cX3_writesContract 38 = .ok (.iload_n 3, 1) := dk_29 (dk_at dksX3_writesContract_1 14 rfl rfl)
theorem dX3_writesContract_39 : decode cX3_writesContract 39 = .ok (.aload_n 0, 1) := dk_42 (dk_at dksX3_writesContract_1 15 rfl rfl)
theorem dX3_writesContract_40 : decode cX3_writesContract 40 = .ok (.iload_n 2, 1) := dk_28 (dk_at dksX3_writesContract_1 16 rfl rfl)
theorem dX3_writesContract_41 : decode cX3_writesContract 41 = .ok (.iconst 2, 1) := dk_5 (dk_at dksX3_writesContract_1 17 rfl rfl)
theorem dX3_writesContract_42 : decode cX3_writesContract 42 = .ok (.invokevirtual 84, 3) := dk_182 0 84 (dk_at dksX3_writesContract_1 18 rfl rfl)
theorem dX3_writesContract_45 : decode cX3_writesContract 45 = .ok (.invokevirtual 198, 3) := dk_182 0 198 (dk_at dksX3_writesContract_1 21 rfl rfl)
theorem dX3_writesContract_48 : decode cX3_writesContract 48 = .ok (.bipush 64, 2) := dk_16 64 (dk_at dksX3_writesContract_2 0 rfl rfl)
theorem dX3_writesContract_50 : decode cX3_writesContract 50 = .ok (.invokevirtual 195, 3) := dk_182 0 195 (dk_at dksX3_writesContract_2 2 rfl rfl)
theorem dX3_writesContract_53 : decode cX3_writesContract 53 = .ok (.istore_n 3, 1) := dk_62 (dk_at dksX3_writesContract_2 5 rfl rfl)
theorem dX3_writesContract_54 : decode cX3_writesContract 54 = .ok (.aload_n 0, 1) := dk_42 (dk_at dksX3_writesContract_2 6 rfl rfl)
theorem dX3_writesContract_55 : decode cX3_writesContract 55 = .ok (.aload_n 0, 1) := dk_42 (dk_at dksX3_writesContract_2 7 rfl rfl)
theorem dX3_writesContract_56 : decode cX3_writesContract 56 = .ok (.iload_n 3, 1) := dk_29 (dk_at dksX3_writesContract_2 8 rfl rfl)
theorem dX3_writesContract_57 : decode cX3_writesContract 57 = .ok (.aload_n 0, 1) := dk_42 (dk_at dksX3_writesContract_2 9 rfl rfl)
theorem dX3_writesContract_58 : decode cX3_writesContract 58 = .ok (.iload_n 2, 1) := dk_28 (dk_at dksX3_writesContract_2 10 rfl rfl)
theorem dX3_writesContract_59 : decode cX3_writesContract 59 = .ok (.iconst 3, 1) := dk_6 (dk_at dksX3_writesContract_2 11 rfl rfl)
theorem dX3_writesContract_60 : decode cX3_writesContract 60 = .ok (.invokevirtual 84, 3) := dk_182 0 84 (dk_at dksX3_writesContract_2 12 rfl rfl)
theorem dX3_writesContract_63 : decode cX3_writesContract 63 = .ok (.invokevirtual 198, 3) := dk_182 0 198 (dk_at dksX3_writesContract_2 15 rfl rfl)
theorem dX3_writesContract_66 : decode cX3_writesContract 66 = .ok (.bipush 47, 2) := dk_16 47 (dk_at dksX3_writesContract_2 18 rfl rfl)
theorem dX3_writesContract_68 : decode cX3_writesContract 68 = .ok (.invokevirtual 195, 3) := dk_182 0 195 (dk_at dksX3_writesContract_2 20 rfl rfl)
theorem dX3_writesContract_71 : decode cX3_writesContract 71 = .ok (.istore_n 3, 1) := dk_62 (dk_at dksX3_writesContract_2 23 rfl rfl)
theorem dX3_writesContract_72 : decode cX3_writesContract 72 = .ok (.aload_n 0, 1) := dk_42 (dk_at dksX3_writesContract_3 0 rfl rfl)
theorem dX3_writesContract_73 : decode cX3_writesContract 73 = .ok (.iload_n 3, 1) := dk_29 (dk_at dksX3_writesContract_3 1 rfl rfl)
theorem dX3_writesContract_74 : decode cX3_writesContract 74 = .ok (.aload_n 0, 1) := dk_42 (dk_at dksX3_writesContract_3 2 rfl rfl)
theorem dX3_writesContract_75 : decode cX3_writesContract 75 = .ok (.iload_n 2, 1) := dk_28 (dk_at dksX3_writesContract_3 3 rfl rfl)
theorem dX3_writesContract_76 : decode cX3_writesContract 76 = .ok (.iconst 4, 1) := dk_7 (dk_at dksX3_writesContract_3 4 rfl rfl)
theorem dX3_writesContract_77 : decode cX3_writesContract 77 = .ok (.invokevirtual 84, 3) := dk_182 0 84 (dk_at dksX3_writesContract_3 5 rfl rfl)
theorem dX3_writesContract_80 : decode cX3_writesContract 80 = .ok (.invokevirtual 198, 3) := dk_182 0 198 (dk_at dksX3_writesContract_3 8 rfl rfl)
theorem dX3_writesContract_83 : decode cX3_writesContract 83 = .ok (.ireturn, 1) := dk_172 (dk_at dksX3_writesContract_3 11 rfl rfl)
abbrev cX3_outputAt : ByteArray := prog_26_method_98_code
def yX3_outputAt : MethodName := ⟨RX3, "outputAt", "(I)C"⟩
def dkwX3_outputAt_1 : List UInt8 := [146, 167, 0, 4, 3, 172]
abbrev dktX3_outputAt_1 : List UInt8 := dkwX3_outputAt_1 ++ []
def dkwX3_outputAt_0 : List UInt8 := [42, 27, 3, 42, 180, 0, 201, 4, 100, 184, 0, 69, 182, 0, 61, 153, 0, 13, 42, 180, 0, 38, 27, 46]
abbrev dktX3_outputAt_0 : List UInt8 := dkwX3_outputAt_0 ++ dktX3_outputAt_1
theorem dksX3_outputAt_0 : cX3_outputAt.data.toList.drop 0 = dktX3_outputAt_0 := by decide +kernel
theorem dksX3_outputAt_1 : cX3_outputAt.data.toList.drop 24 = dktX3_outputAt_1 := dk_seg dksX3_outputAt_0 24 rfl rfl
theorem dX3_outputAt_0 : decode cX3_outputAt 0 = .ok (.aload_n 0, 1) := dk_42 (dk_at dksX3_outputAt_0 0 rfl rfl)
theorem dX3_outputAt_1 : decode cX3_outputAt 1 = .ok (.iload_n 1, 1) := dk_27 (dk_at dksX3_outputAt_0 1 rfl rfl)
theorem dX3_outputAt_2 : decode cX3_outputAt 2 = .ok (.iconst 0, 1) := dk_3 (dk_at dksX3_outputAt_0 2 rfl rfl)
theorem dX3_outputAt_3 : decode cX3_outputAt 3 = .ok (.aload_n 0, 1) := dk_42 (dk_at dksX3_outputAt_0 3 rfl rfl)
theorem dX3_outputAt_4 : decode cX3_outputAt 4 = .ok (.getfield 201, 3) := dk_180 0 201 (dk_at dksX3_outputAt_0 4 rfl rfl)
theorem dX3_outputAt_7 : decode cX3_outputAt 7 = .ok (.iconst 1, 1) := dk_4 (dk_at dksX3_outputAt_0 7 rfl rfl)
theorem dX3_outputAt_8 : decode cX3_outputAt 8 = .ok (.isub, 1) := dk_100 (dk_at dksX3_outputAt_0 8 rfl rfl)
theorem dX3_outputAt_9 : decode cX3_outputAt 9 = .ok (.invokestatic 69, 3) := dk_184 0 69 (dk_at dksX3_outputAt_0 9 rfl rfl)
theorem dX3_outputAt_12 : decode cX3_outputAt 12 = .ok (.invokevirtual 61, 3) := dk_182 0 61 (dk_at dksX3_outputAt_0 12 rfl rfl)
theorem dX3_outputAt_15 : decode cX3_outputAt 15 = .ok (.ifCond .eq 13, 3) := dk_153 0 13 (dk_at dksX3_outputAt_0 15 rfl rfl)
theorem dX3_outputAt_18 : decode cX3_outputAt 18 = .ok (.aload_n 0, 1) := dk_42 (dk_at dksX3_outputAt_0 18 rfl rfl)
theorem dX3_outputAt_19 : decode cX3_outputAt 19 = .ok (.getfield 38, 3) := dk_180 0 38 (dk_at dksX3_outputAt_0 19 rfl rfl)
theorem dX3_outputAt_22 : decode cX3_outputAt 22 = .ok (.iload_n 1, 1) := dk_27 (dk_at dksX3_outputAt_0 22 rfl rfl)
theorem dX3_outputAt_23 : decode cX3_outputAt 23 = .ok (.iaload, 1) := dk_46 (dk_at dksX3_outputAt_0 23 rfl rfl)
theorem dX3_outputAt_24 : decode cX3_outputAt 24 = .ok (.i2c, 1) := dk_146 (dk_at dksX3_outputAt_1 0 rfl rfl)
theorem dX3_outputAt_25 : decode cX3_outputAt 25 = .ok (.goto 4, 3) := dk_167 0 4 (dk_at dksX3_outputAt_1 1 rfl rfl)
theorem dX3_outputAt_28 : decode cX3_outputAt 28 = .ok (.iconst 0, 1) := dk_3 (dk_at dksX3_outputAt_1 4 rfl rfl)
theorem dX3_outputAt_29 : decode cX3_outputAt 29 = .ok (.ireturn, 1) := dk_172 (dk_at dksX3_outputAt_1 5 rfl rfl)
abbrev cX3_type : ByteArray := prog_26_method_99_code
def yX3_type : MethodName := ⟨RX3, "type", "(C)I"⟩
def dkwX3_type_2 : List UInt8 := [4, 96, 181, 0, 207, 42, 180, 0, 207, 172]
abbrev dktX3_type_2 : List UInt8 := dkwX3_type_2 ++ []
def dkwX3_type_1 : List UInt8 := [4, 182, 0, 47, 154, 0, 5, 3, 172, 42, 180, 0, 35, 42, 180, 0, 207, 27, 79, 42, 89, 180, 0, 207]
abbrev dktX3_type_1 : List UInt8 := dkwX3_type_1 ++ dktX3_type_2
def dkwX3_type_0 : List UInt8 := [42, 27, 16, 32, 16, 126, 184, 0, 69, 42, 180, 0, 207, 16, 60, 162, 0, 7, 4, 167, 0, 4, 3, 4]
abbrev dktX3_type_0 : List UInt8 := dkwX3_type_0 ++ dktX3_type_1
theorem dksX3_type_0 : cX3_type.data.toList.drop 0 = dktX3_type_0 := by decide +kernel
theorem dksX3_type_1 : cX3_type.data.toList.drop 24 = dktX3_type_1 := dk_seg dksX3_type_0 24 rfl rfl
theorem dksX3_type_2 : cX3_type.data.toList.drop 48 = dktX3_type_2 := dk_seg dksX3_type_1 24 rfl rfl
theorem dX3_type_0 : decode cX3_type 0 = .ok (.aload_n 0, 1) := dk_42 (dk_at dksX3_type_0 0 rfl rfl)
theorem dX3_type_1 : decode cX3_type 1 = .ok (.iload_n 1, 1) := dk_27 (dk_at dksX3_type_0 1 rfl rfl)
theorem dX3_type_2 : decode cX3_type 2 = .ok (.bipush 32, 2) := dk_16 32 (dk_at dksX3_type_0 2 rfl rfl)
theorem dX3_type_4 : decode cX3_type 4 = .ok (.bipush 126, 2) := dk_16 126 (dk_at dksX3_type_0 4 rfl rfl)
theorem dX3_type_6 : decode cX3_type 6 = .ok (.invokestatic 69, 3) := dk_184 0 69 (dk_at dksX3_type_0 6 rfl rfl)
theorem dX3_type_9 : decode cX3_type 9 = .ok (.aload_n 0, 1) := dk_42 (dk_at dksX3_type_0 9 rfl rfl)
theorem dX3_type_10 : decode cX3_type 10 = .ok (.getfield 207, 3) := dk_180 0 207 (dk_at dksX3_type_0 10 rfl rfl)
theorem dX3_type_13 : decode cX3_type 13 = .ok (.bipush 60, 2) := dk_16 60 (dk_at dksX3_type_0 13 rfl rfl)
theorem dX3_type_15 : decode cX3_type 15 = .ok (.if_icmp .ge 7, 3) := dk_162 0 7 (dk_at dksX3_type_0 15 rfl rfl)
theorem dX3_type_18 : decode cX3_type 18 = .ok (.iconst 1, 1) := dk_4 (dk_at dksX3_type_0 18 rfl rfl)
theorem dX3_type_19 : decode cX3_type 19 = .ok (.goto 4, 3) := dk_167 0 4 (dk_at dksX3_type_0 19 rfl rfl)
theorem dX3_type_22 : decode cX3_type 22 = .ok (.iconst 0, 1) := dk_3 (dk_at dksX3_type_0 22 rfl rfl)
theorem dX3_type_23 : decode cX3_type 23 = .ok (.iconst 1, 1) := dk_4 (dk_at dksX3_type_0 23 rfl rfl)
theorem dX3_type_24 : decode cX3_type 24 = .ok (.iconst 1, 1) := dk_4 (dk_at dksX3_type_1 0 rfl rfl)
theorem dX3_type_25 : decode cX3_type 25 = .ok (.invokevirtual 47, 3) := dk_182 0 47 (dk_at dksX3_type_1 1 rfl rfl)
theorem dX3_type_28 : decode cX3_type 28 = .ok (.ifCond .ne 5, 3) := dk_154 0 5 (dk_at dksX3_type_1 4 rfl rfl)
theorem dX3_type_31 : decode cX3_type 31 = .ok (.iconst 0, 1) := dk_3 (dk_at dksX3_type_1 7 rfl rfl)
theorem dX3_type_32 : decode cX3_type 32 = .ok (.ireturn, 1) := dk_172 (dk_at dksX3_type_1 8 rfl rfl)
theorem dX3_type_33 : decode cX3_type 33 = .ok (.aload_n 0, 1) := dk_42 (dk_at dksX3_type_1 9 rfl rfl)
theorem dX3_type_34 : decode cX3_type 34 = .ok (.getfield 35, 3) := dk_180 0 35 (dk_at dksX3_type_1 10 rfl rfl)
theorem dX3_type_37 : decode cX3_type 37 = .ok (.aload_n 0, 1) := dk_42 (dk_at dksX3_type_1 13 rfl rfl)
theorem dX3_type_38 : decode cX3_type 38 = .ok (.getfield 207, 3) := dk_180 0 207 (dk_at dksX3_type_1 14 rfl rfl)
theorem dX3_type_41 : decode cX3_type 41 = .ok (.iload_n 1, 1) := dk_27 (dk_at dksX3_type_1 17 rfl rfl)
theorem dX3_type_42 : decode cX3_type 42 = .ok (.iastore, 1) := dk_79 (dk_at dksX3_type_1 18 rfl rfl)
theorem dX3_type_43 : decode cX3_type 43 = .ok (.aload_n 0, 1) := dk_42 (dk_at dksX3_type_1 19 rfl rfl)
theorem dX3_type_44 : decode cX3_type 44 = .ok (.dup, 1) := dk_89 (dk_at dksX3_type_1 20 rfl rfl)
theorem dX3_type_45 : decode cX3_type 45 = .ok (.getfield 207, 3) := dk_180 0 207 (dk_at dksX3_type_1 21 rfl rfl)
theorem dX3_type_48 : decode cX3_type 48 = .ok (.iconst 1, 1) := dk_4 (dk_at dksX3_type_2 0 rfl rfl)
theorem dX3_type_49 : decode cX3_type 49 = .ok (.iadd, 1) := dk_96 (dk_at dksX3_type_2 1 rfl rfl)
theorem dX3_type_50 : decode cX3_type 50 = .ok (.putfield 207, 3) := dk_181 0 207 (dk_at dksX3_type_2 2 rfl rfl)
theorem dX3_type_53 : decode cX3_type 53 = .ok (.aload_n 0, 1) := dk_42 (dk_at dksX3_type_2 5 rfl rfl)
theorem dX3_type_54 : decode cX3_type 54 = .ok (.getfield 207, 3) := dk_180 0 207 (dk_at dksX3_type_2 6 rfl rfl)
theorem dX3_type_57 : decode cX3_type 57 = .ok (.ireturn, 1) := dk_172 (dk_at dksX3_type_2 9 rfl rfl)
abbrev cX3_runScript : ByteArray := prog_26_method_111_code
def yX3_runScript : MethodName := ⟨RX3, "runScript", "()I"⟩
def dkwX3_runScript_4 : List UInt8 := [42, 42, 180, 0, 245, 182, 0, 109, 172]
abbrev dktX3_runScript_4 : List UInt8 := dkwX3_runScript_4 ++ []
def dkwX3_runScript_3 : List UInt8 := [181, 0, 44, 42, 180, 0, 13, 3, 42, 180, 0, 9, 3, 184, 0, 51, 3, 172, 132, 1, 1, 167, 255, 205]
abbrev dktX3_runScript_3 : List UInt8 := dkwX3_runScript_3 ++ dktX3_runScript_4
def dkwX3_runScript_2 : List UInt8 := [42, 8, 27, 104, 182, 1, 4, 61, 42, 180, 0, 44, 153, 0, 28, 42, 27, 181, 0, 29, 42, 5]
abbrev dktX3_runScript_2 : List UInt8 := dkwX3_runScript_2 ++ dktX3_runScript_3
def dkwX3_runScript_1 : List UInt8 := [181, 0, 44, 3, 172, 42, 182, 0, 102, 42, 3, 181, 0, 44, 3, 60, 27, 42, 180, 0, 245, 162, 0, 49]
abbrev dktX3_runScript_1 : List UInt8 := dkwX3_runScript_1 ++ dktX3_runScript_2
def dkwX3_runScript_0 : List UInt8 := [42, 182, 1, 1, 42, 180, 0, 216, 2, 159, 0, 18, 42, 42, 180, 0, 216, 181, 0, 25, 42, 4]
abbrev dktX3_runScript_0 : List UInt8 := dkwX3_runScript_0 ++ dktX3_runScript_1
theorem dksX3_runScript_0 : cX3_runScript.data.toList.drop 0 = dktX3_runScript_0 := by decide +kernel
theorem dksX3_runScript_1 : cX3_runScript.data.toList.drop 22 = dktX3_runScript_1 := dk_seg dksX3_runScript_0 22 rfl rfl
theorem dksX3_runScript_2 : cX3_runScript.data.toList.drop 46 = dktX3_runScript_2 := dk_seg dksX3_runScript_1 24 rfl rfl
theorem dksX3_runScript_3 : cX3_runScript.data.toList.drop 68 = dktX3_runScript_3 := dk_seg dksX3_runScript_2 22 rfl rfl
theorem dksX3_runScript_4 : cX3_runScript.data.toList.drop 92 = dktX3_runScript_4 := dk_seg dksX3_runScript_3 24 rfl rfl
theorem dX3_runScript_0 : decode cX3_runScript 0 = .ok (.aload_n 0, 1) := dk_42 (dk_at dksX3_runScript_0 0 rfl rfl)
theorem dX3_runScript_1 : decode cX3_runScript 1 = .ok (.invokevirtual 257, 3) := dk_182 1 1 (dk_at dksX3_runScript_0 1 rfl rfl)
theorem dX3_runScript_4 : decode cX3_runScript 4 = .ok (.aload_n 0, 1) := dk_42 (dk_at dksX3_runScript_0 4 rfl rfl)
theorem dX3_runScript_5 : decode cX3_runScript 5 = .ok (.getfield 216, 3) := dk_180 0 216 (dk_at dksX3_runScript_0 5 rfl rfl)
theorem dX3_runScript_8 : decode cX3_runScript 8 = .ok (.iconst (-1), 1) := dk_2 (dk_at dksX3_runScript_0 8 rfl rfl)
theorem dX3_runScript_9 : decode cX3_runScript 9 = .ok (.if_icmp .eq 18, 3) := dk_159 0 18 (dk_at dksX3_runScript_0 9 rfl rfl)
theorem dX3_runScript_12 : decode cX3_runScript 12 = .ok (.aload_n 0, 1) := dk_42 (dk_at dksX3_runScript_0 12 rfl rfl)
theorem dX3_runScript_13 : decode cX3_runScript 13 = .ok (.aload_n 0, 1) := dk_42 (dk_at dksX3_runScript_0 13 rfl rfl)
theorem dX3_runScript_14 : decode cX3_runScript 14 = .ok (.getfield 216, 3) := dk_180 0 216 (dk_at dksX3_runScript_0 14 rfl rfl)
theorem dX3_runScript_17 : decode cX3_runScript 17 = .ok (.putfield 25, 3) := dk_181 0 25 (dk_at dksX3_runScript_0 17 rfl rfl)
theorem dX3_runScript_20 : decode cX3_runScript 20 = .ok (.aload_n 0, 1) := dk_42 (dk_at dksX3_runScript_0 20 rfl rfl)
theorem dX3_runScript_21 : decode cX3_runScript 21 = .ok (.iconst 1, 1) := dk_4 (dk_at dksX3_runScript_0 21 rfl rfl)
theorem dX3_runScript_22 : decode cX3_runScript 22 = .ok (.putfield 44, 3) := dk_181 0 44 (dk_at dksX3_runScript_1 0 rfl rfl)
theorem dX3_runScript_25 : decode cX3_runScript 25 = .ok (.iconst 0, 1) := dk_3 (dk_at dksX3_runScript_1 3 rfl rfl)
theorem dX3_runScript_26 : decode cX3_runScript 26 = .ok (.ireturn, 1) := dk_172 (dk_at dksX3_runScript_1 4 rfl rfl)
theorem dX3_runScript_27 : decode cX3_runScript 27 = .ok (.aload_n 0, 1) := dk_42 (dk_at dksX3_runScript_1 5 rfl rfl)
theorem dX3_runScript_28 : decode cX3_runScript 28 = .ok (.invokevirtual 102, 3) := dk_182 0 102 (dk_at dksX3_runScript_1 6 rfl rfl)
theorem dX3_runScript_31 : decode cX3_runScript 31 = .ok (.aload_n 0, 1) := dk_42 (dk_at dksX3_runScript_1 9 rfl rfl)
theorem dX3_runScript_32 : decode cX3_runScript 32 = .ok (.iconst 0, 1) := dk_3 (dk_at dksX3_runScript_1 10 rfl rfl)
theorem dX3_runScript_33 : decode cX3_runScript 33 = .ok (.putfield 44, 3) := dk_181 0 44 (dk_at dksX3_runScript_1 11 rfl rfl)
theorem dX3_runScript_36 : decode cX3_runScript 36 = .ok (.iconst 0, 1) := dk_3 (dk_at dksX3_runScript_1 14 rfl rfl)
theorem dX3_runScript_37 : decode cX3_runScript 37 = .ok (.istore_n 1, 1) := dk_60 (dk_at dksX3_runScript_1 15 rfl rfl)
theorem dX3_runScript_38 : decode cX3_runScript 38 = .ok (.iload_n 1, 1) := dk_27 (dk_at dksX3_runScript_1 16 rfl rfl)
theorem dX3_runScript_39 : decode cX3_runScript 39 = .ok (.aload_n 0, 1) := dk_42 (dk_at dksX3_runScript_1 17 rfl rfl)
theorem dX3_runScript_40 : decode cX3_runScript 40 = .ok (.getfield 245, 3) := dk_180 0 245 (dk_at dksX3_runScript_1 18 rfl rfl)
theorem dX3_runScript_43 : decode cX3_runScript 43 = .ok (.if_icmp .ge 49, 3) := dk_162 0 49 (dk_at dksX3_runScript_1 21 rfl rfl)
theorem dX3_runScript_46 : decode cX3_runScript 46 = .ok (.aload_n 0, 1) := dk_42 (dk_at dksX3_runScript_2 0 rfl rfl)
theorem dX3_runScript_47 : decode cX3_runScript 47 = .ok (.iconst 5, 1) := dk_8 (dk_at dksX3_runScript_2 1 rfl rfl)
theorem dX3_runScript_48 : decode cX3_runScript 48 = .ok (.iload_n 1, 1) := dk_27 (dk_at dksX3_runScript_2 2 rfl rfl)
theorem dX3_runScript_49 : decode cX3_runScript 49 = .ok (.imul, 1) := dk_104 (dk_at dksX3_runScript_2 3 rfl rfl)
theorem dX3_runScript_50 : decode cX3_runScript 50 = .ok (.invokevirtual 260, 3) := dk_182 1 4 (dk_at dksX3_runScript_2 4 rfl rfl)
theorem dX3_runScript_53 : decode cX3_runScript 53 = .ok (.istore_n 2, 1) := dk_61 (dk_at dksX3_runScript_2 7 rfl rfl)
theorem dX3_runScript_54 : decode cX3_runScript 54 = .ok (.aload_n 0, 1) := dk_42 (dk_at dksX3_runScript_2 8 rfl rfl)
theorem dX3_runScript_55 : decode cX3_runScript 55 = .ok (.getfield 44, 3) := dk_180 0 44 (dk_at dksX3_runScript_2 9 rfl rfl)
theorem dX3_runScript_58 : decode cX3_runScript 58 = .ok (.ifCond .eq 28, 3) := dk_153 0 28 (dk_at dksX3_runScript_2 12 rfl rfl)
theorem dX3_runScript_61 : decode cX3_runScript 61 = .ok (.aload_n 0, 1) := dk_42 (dk_at dksX3_runScript_2 15 rfl rfl)
theorem dX3_runScript_62 : decode cX3_runScript 62 = .ok (.iload_n 1, 1) := dk_27 (dk_at dksX3_runScript_2 16 rfl rfl)
theorem dX3_runScript_63 : decode cX3_runScript 63 = .ok (.putfield 29, 3) := dk_181 0 29 (dk_at dksX3_runScript_2 17 rfl rfl)
theorem dX3_runScript_66 : decode cX3_runScript 66 = .ok (.aload_n 0, 1) := dk_42 (dk_at dksX3_runScript_2 20 rfl rfl)
theorem dX3_runScript_67 : decode cX3_runScript 67 = .ok (.iconst 2, 1) := dk_5 (dk_at dksX3_runScript_2 21 rfl rfl)
theorem dX3_runScript_68 : decode cX3_runScript 68 = .ok (.putfield 44, 3) := dk_181 0 44 (dk_at dksX3_runScript_3 0 rfl rfl)
theorem dX3_runScript_71 : decode cX3_runScript 71 = .ok (.aload_n 0, 1) := dk_42 (dk_at dksX3_runScript_3 3 rfl rfl)
theorem dX3_runScript_72 : decode cX3_runScript 72 = .ok (.getfield 13, 3) := dk_180 0 13 (dk_at dksX3_runScript_3 4 rfl rfl)
theorem dX3_runScript_75 : decode cX3_runScript 75 = .ok (.iconst 0, 1) := dk_3 (dk_at dksX3_runScript_3 7 rfl rfl)
theorem dX3_runScript_76 : decode cX3_runScript 76 = .ok (.aload_n 0, 1) := dk_42 (dk_at dksX3_runScript_3 8 rfl rfl)
theorem dX3_runScript_77 : decode cX3_runScript 77 = .ok (.getfield 9, 3) := dk_180 0 9 (dk_at dksX3_runScript_3 9 rfl rfl)
theorem dX3_runScript_80 : decode cX3_runScript 80 = .ok (.iconst 0, 1) := dk_3 (dk_at dksX3_runScript_3 12 rfl rfl)
theorem dX3_runScript_81 : decode cX3_runScript 81 = .ok (.invokestatic 51, 3) := dk_184 0 51 (dk_at dksX3_runScript_3 13 rfl rfl)
theorem dX3_runScript_84 : decode cX3_runScript 84 = .ok (.iconst 0, 1) := dk_3 (dk_at dksX3_runScript_3 16 rfl rfl)
theorem dX3_runScript_85 : decode cX3_runScript 85 = .ok (.ireturn, 1) := dk_172 (dk_at dksX3_runScript_3 17 rfl rfl)
theorem dX3_runScript_86 : decode cX3_runScript 86 = .ok (.iinc 1 1, 3) := dk_132 1 1 (dk_at dksX3_runScript_3 18 rfl rfl)
theorem dX3_runScript_89 : decode cX3_runScript 89 = .ok (.goto (-51), 3) := dk_167 255 205 (dk_at dksX3_runScript_3 21 rfl rfl)
theorem dX3_runScript_92 : decode cX3_runScript 92 = .ok (.aload_n 0, 1) := dk_42 (dk_at dksX3_runScript_4 0 rfl rfl)
theorem dX3_runScript_93 : decode cX3_runScript 93 = .ok (.aload_n 0, 1) := dk_42 (dk_at dksX3_runScript_4 1 rfl rfl)
theorem dX3_runScript_94 : decode cX3_runScript 94 = .ok (.getfield 245, 3) := dk_180 0 245 (dk_at dksX3_runScript_4 2 rfl rfl)
theorem dX3_runScript_97 : decode cX3_runScript 97 = .ok (.invokevirtual 109, 3) := dk_182 0 109 (dk_at dksX3_runScript_4 5 rfl rfl)
theorem dX3_runScript_100 : decode cX3_runScript 100 = .ok (.ireturn, 1) := dk_172 (dk_at dksX3_runScript_4 8 rfl rfl)
abbrev cX3_readsAll : ByteArray := prog_26_method_109_code
def yX3_readsAll : MethodName := ⟨RX3, "readsAll", "()V"⟩
def dkwX3_readsAll_3 : List UInt8 := [177]
abbrev dktX3_readsAll_3 : List UInt8 := dkwX3_readsAll_3 ++ []
def dkwX3_readsAll_2 : List UInt8 := [162, 0, 24, 42, 16, 59, 182, 0, 239, 42, 180, 0, 216, 2, 160, 255, 226, 42, 182, 0, 254, 167, 255, 219]
abbrev dktX3_readsAll_2 : List UInt8 := dkwX3_readsAll_2 ++ dktX3_readsAll_3
def dkwX3_readsAll_1 : List UInt8 := [3, 181, 0, 245, 42, 182, 0, 254, 42, 180, 0, 216, 2, 160, 0, 35, 42, 180, 0, 210, 42, 180, 0, 213]
abbrev dktX3_readsAll_1 : List UInt8 := dkwX3_readsAll_1 ++ dktX3_readsAll_2
def dkwX3_readsAll_0 : List UInt8 := [42, 42, 180, 0, 207, 181, 0, 213, 42, 3, 181, 0, 207, 42, 3, 181, 0, 210, 42, 2, 181, 0, 216, 42]
abbrev dktX3_readsAll_0 : List UInt8 := dkwX3_readsAll_0 ++ dktX3_readsAll_1
theorem dksX3_readsAll_0 : cX3_readsAll.data.toList.drop 0 = dktX3_readsAll_0 := by decide +kernel
theorem dksX3_readsAll_1 : cX3_readsAll.data.toList.drop 24 = dktX3_readsAll_1 := dk_seg dksX3_readsAll_0 24 rfl rfl
theorem dksX3_readsAll_2 : cX3_readsAll.data.toList.drop 48 = dktX3_readsAll_2 := dk_seg dksX3_readsAll_1 24 rfl rfl
theorem dksX3_readsAll_3 : cX3_readsAll.data.toList.drop 72 = dktX3_readsAll_3 := dk_seg dksX3_readsAll_2 24 rfl rfl
theorem dX3_readsAll_0 : decode cX3_readsAll 0 = .ok (.aload_n 0, 1) := dk_42 (dk_at dksX3_readsAll_0 0 rfl rfl)
theorem dX3_readsAll_1 : decode cX3_readsAll 1 = .ok (.aload_n 0, 1) := dk_42 (dk_at dksX3_readsAll_0 1 rfl rfl)
theorem dX3_readsAll_2 : decode cX3_readsAll 2 = .ok (.getfield 207, 3) := dk_180 0 207 (dk_at dksX3_readsAll_0 2 rfl rfl)
theorem dX3_readsAll_5 : decode cX3_readsAll 5 = .ok (.putfield 213, 3) := dk_181 0 213 (dk_at dksX3_readsAll_0 5 rfl rfl)
theorem dX3_readsAll_8 : decode cX3_readsAll 8 = .ok (.aload_n 0, 1) := dk_42 (dk_at dksX3_readsAll_0 8 rfl rfl)
theorem dX3_readsAll_9 : decode cX3_readsAll 9 = .ok (.iconst 0, 1) := dk_3 (dk_at dksX3_readsAll_0 9 rfl rfl)
theorem dX3_readsAll_10 : decode cX3_readsAll 10 = .ok (.putfield 207, 3) := dk_181 0 207 (dk_at dksX3_readsAll_0 10 rfl rfl)
theorem dX3_readsAll_13 : decode cX3_readsAll 13 = .ok (.aload_n 0, 1) := dk_42 (dk_at dksX3_readsAll_0 13 rfl rfl)
theorem dX3_readsAll_14 : decode cX3_readsAll 14 = .ok (.iconst 0, 1) := dk_3 (dk_at dksX3_readsAll_0 14 rfl rfl)
theorem dX3_readsAll_15 : decode cX3_readsAll 15 = .ok (.putfield 210, 3) := dk_181 0 210 (dk_at dksX3_readsAll_0 15 rfl rfl)
theorem dX3_readsAll_18 : decode cX3_readsAll 18 = .ok (.aload_n 0, 1) := dk_42 (dk_at dksX3_readsAll_0 18 rfl rfl)
theorem dX3_readsAll_19 : decode cX3_readsAll 19 = .ok (.iconst (-1), 1) := dk_2 (dk_at dksX3_readsAll_0 19 rfl rfl)
theorem dX3_readsAll_20 : decode cX3_readsAll 20 = .ok (.putfield 216, 3) := dk_181 0 216 (dk_at dksX3_readsAll_0 20 rfl rfl)
theorem dX3_readsAll_23 : decode cX3_readsAll 23 = .ok (.aload_n 0, 1) := dk_42 (dk_at dksX3_readsAll_0 23 rfl rfl)
theorem dX3_readsAll_24 : decode cX3_readsAll 24 = .ok (.iconst 0, 1) := dk_3 (dk_at dksX3_readsAll_1 0 rfl rfl)
theorem dX3_readsAll_25 : decode cX3_readsAll 25 = .ok (.putfield 245, 3) := dk_181 0 245 (dk_at dksX3_readsAll_1 1 rfl rfl)
theorem dX3_readsAll_28 : decode cX3_readsAll 28 = .ok (.aload_n 0, 1) := dk_42 (dk_at dksX3_readsAll_1 4 rfl rfl)
theorem dX3_readsAll_29 : decode cX3_readsAll 29 = .ok (.invokevirtual 254, 3) := dk_182 0 254 (dk_at dksX3_readsAll_1 5 rfl rfl)
theorem dX3_readsAll_32 : decode cX3_readsAll 32 = .ok (.aload_n 0, 1) := dk_42 (dk_at dksX3_readsAll_1 8 rfl rfl)
theorem dX3_readsAll_33 : decode cX3_readsAll 33 = .ok (.getfield 216, 3) := dk_180 0 216 (dk_at dksX3_readsAll_1 9 rfl rfl)
theorem dX3_readsAll_36 : decode cX3_readsAll 36 = .ok (.iconst (-1), 1) := dk_2 (dk_at dksX3_readsAll_1 12 rfl rfl)
theorem dX3_readsAll_37 : decode cX3_readsAll 37 = .ok (.if_icmp .ne 35, 3) := dk_160 0 35 (dk_at dksX3_readsAll_1 13 rfl rfl)
theorem dX3_readsAll_40 : decode cX3_readsAll 40 = .ok (.aload_n 0, 1) := dk_42 (dk_at dksX3_readsAll_1 16 rfl rfl)
theorem dX3_readsAll_41 : decode cX3_readsAll 41 = .ok (.getfield 210, 3) := dk_180 0 210 (dk_at dksX3_readsAll_1 17 rfl rfl)
theorem dX3_readsAll_44 : decode cX3_readsAll 44 = .ok (.aload_n 0, 1) := dk_42 (dk_at dksX3_readsAll_1 20 rfl rfl)
theorem dX3_readsAll_45 : decode cX3_readsAll 45 = .ok (.getfield 213, 3) := dk_180 0 213 (dk_at dksX3_readsAll_1 21 rfl rfl)
theorem dX3_readsAll_48 : decode cX3_readsAll 48 = .ok (.if_icmp .ge 24, 3) := dk_162 0 24 (dk_at dksX3_readsAll_2 0 rfl rfl)
theorem dX3_readsAll_51 : decode cX3_readsAll 51 = .ok (.aload_n 0, 1) := dk_42 (dk_at dksX3_readsAll_2 3 rfl rfl)
theorem dX3_readsAll_52 : decode cX3_readsAll 52 = .ok (.bipush 59, 2) := dk_16 59 (dk_at dksX3_readsAll_2 4 rfl rfl)
theorem dX3_readsAll_54 : decode cX3_readsAll 54 = .ok (.invokevirtual 239, 3) := dk_182 0 239 (dk_at dksX3_readsAll_2 6 rfl rfl)
theorem dX3_readsAll_57 : decode cX3_readsAll 57 = .ok (.aload_n 0, 1) := dk_42 (dk_at dksX3_readsAll_2 9 rfl rfl)
theorem dX3_readsAll_58 : decode cX3_readsAll 58 = .ok (.getfield 216, 3) := dk_180 0 216 (dk_at dksX3_readsAll_2 10 rfl rfl)
theorem dX3_readsAll_61 : decode cX3_readsAll 61 = .ok (.iconst (-1), 1) := dk_2 (dk_at dksX3_readsAll_2 13 rfl rfl)
theorem dX3_readsAll_62 : decode cX3_readsAll 62 = .ok (.if_icmp .ne (-30), 3) := dk_160 255 226 (dk_at dksX3_readsAll_2 14 rfl rfl)
theorem dX3_readsAll_65 : decode cX3_readsAll 65 = .ok (.aload_n 0, 1) := dk_42 (dk_at dksX3_readsAll_2 17 rfl rfl)
theorem dX3_readsAll_66 : decode cX3_readsAll 66 = .ok (.invokevirtual 254, 3) := dk_182 0 254 (dk_at dksX3_readsAll_2 18 rfl rfl)
theorem dX3_readsAll_69 : decode cX3_readsAll 69 = .ok (.goto (-37), 3) := dk_167 255 219 (dk_at dksX3_readsAll_2 21 rfl rfl)
theorem dX3_readsAll_72 : decode cX3_readsAll 72 = .ok (.return_, 1) := dk_177 (dk_at dksX3_readsAll_3 0 rfl rfl)
abbrev cX3_readsCommand : ByteArray := prog_26_method_108_code
def yX3_readsCommand : MethodName := ⟨RX3, "readsCommand", "()V"⟩
def dkwX3_readsCommand_6 : List UInt8 := [182, 0, 239, 42, 180, 0, 41, 27, 5, 96, 42, 182, 0, 242, 79, 177]
abbrev dktX3_readsCommand_6 : List UInt8 := dkwX3_readsCommand_6 ++ []
def dkwX3_readsCommand_5 : List UInt8 := [153, 0, 10, 42, 182, 0, 242, 167, 0, 7, 42, 182, 0, 225, 79, 28, 16, 8, 160, 0, 21, 42, 16, 32]
abbrev dktX3_readsCommand_5 : List UInt8 := dkwX3_readsCommand_5 ++ dktX3_readsCommand_6
def dkwX3_readsCommand_4 : List UInt8 := [159, 0, 9, 28, 16, 8, 164, 0, 7, 4, 167, 0, 4, 3, 62, 42, 180, 0, 41, 27, 4, 96, 29]
abbrev dktX3_readsCommand_4 : List UInt8 := dkwX3_readsCommand_4 ++ dktX3_readsCommand_5
def dkwX3_readsCommand_3 : List UInt8 := [182, 0, 251, 177, 28, 16, 11, 160, 0, 9, 42, 16, 32, 182, 0, 239, 28, 4, 159, 0, 14, 28, 8]
abbrev dktX3_readsCommand_3 : List UInt8 := dkwX3_readsCommand_3 ++ dktX3_readsCommand_4
def dkwX3_readsCommand_2 : List UInt8 := [16, 11, 160, 0, 13, 42, 182, 0, 219, 16, 32, 159, 0, 4, 177, 28, 7, 160, 0, 9, 42, 27]
abbrev dktX3_readsCommand_2 : List UInt8 := dkwX3_readsCommand_2 ++ dktX3_readsCommand_3
def dkwX3_readsCommand_1 : List UInt8 := [4, 96, 4, 79, 42, 89, 180, 0, 245, 4, 96, 181, 0, 245, 42, 180, 0, 216, 2, 160, 0, 18, 28]
abbrev dktX3_readsCommand_1 : List UInt8 := dkwX3_readsCommand_1 ++ dktX3_readsCommand_2
def dkwX3_readsCommand_0 : List UInt8 := [8, 42, 180, 0, 245, 104, 60, 42, 182, 0, 248, 61, 42, 180, 0, 41, 27, 28, 79, 42, 180, 0, 41, 27]
abbrev dktX3_readsCommand_0 : List UInt8 := dkwX3_readsCommand_0 ++ dktX3_readsCommand_1
theorem dksX3_readsCommand_0 : cX3_readsCommand.data.toList.drop 0 = dktX3_readsCommand_0 := by decide +kernel
theorem dksX3_readsCommand_1 : cX3_readsCommand.data.toList.drop 24 = dktX3_readsCommand_1 := dk_seg dksX3_readsCommand_0 24 rfl rfl
theorem dksX3_readsCommand_2 : cX3_readsCommand.data.toList.drop 47 = dktX3_readsCommand_2 := dk_seg dksX3_readsCommand_1 23 rfl rfl
theorem dksX3_readsCommand_3 : cX3_readsCommand.data.toList.drop 69 = dktX3_readsCommand_3 := dk_seg dksX3_readsCommand_2 22 rfl rfl
theorem dksX3_readsCommand_4 : cX3_readsCommand.data.toList.drop 92 = dktX3_readsCommand_4 := dk_seg dksX3_readsCommand_3 23 rfl rfl
theorem dksX3_readsCommand_5 : cX3_readsCommand.data.toList.drop 115 = dktX3_readsCommand_5 := dk_seg dksX3_readsCommand_4 23 rfl rfl
theorem dksX3_readsCommand_6 : cX3_readsCommand.data.toList.drop 139 = dktX3_readsCommand_6 := dk_seg dksX3_readsCommand_5 24 rfl rfl
theorem dX3_readsCommand_0 : decode cX3_readsCommand 0 = .ok (.iconst 5, 1) := dk_8 (dk_at dksX3_readsCommand_0 0 rfl rfl)
theorem dX3_readsCommand_1 : decode cX3_readsCommand 1 = .ok (.aload_n 0, 1) := dk_42 (dk_at dksX3_readsCommand_0 1 rfl rfl)
theorem dX3_readsCommand_2 : decode cX3_readsCommand 2 = .ok (.getfield 245, 3) := dk_180 0 245 (dk_at dksX3_readsCommand_0 2 rfl rfl)
theorem dX3_readsCommand_5 : decode cX3_readsCommand 5 = .ok (.imul, 1) := dk_104 (dk_at dksX3_readsCommand_0 5 rfl rfl)
theorem dX3_readsCommand_6 : decode cX3_readsCommand 6 = .ok (.istore_n 1, 1) := dk_60 (dk_at dksX3_readsCommand_0 6 rfl rfl)
theorem dX3_readsCommand_7 : decode cX3_readsCommand 7 = .ok (.aload_n 0, 1) := dk_42 (dk_at dksX3_readsCommand_0 7 rfl rfl)
theorem dX3_readsCommand_8 : decode cX3_readsCommand 8 = .ok (.invokevirtual 248, 3) := dk_182 0 248 (dk_at dksX3_readsCommand_0 8 rfl rfl)
theorem dX3_readsCommand_11 : decode cX3_readsCommand 11 = .ok (.istore_n 2, 1) := dk_61 (dk_at dksX3_readsCommand_0 11 rfl rfl)
theorem dX3_readsCommand_12 : decode cX3_readsCommand 12 = .ok (.aload_n 0, 1) := dk_42 (dk_at dksX3_readsCommand_0 12 rfl rfl)
theorem dX3_readsCommand_13 : decode cX3_readsCommand 13 = .ok (.getfield 41, 3) := dk_180 0 41 (dk_at dksX3_readsCommand_0 13 rfl rfl)
theorem dX3_readsCommand_16 : decode cX3_readsCommand 16 = .ok (.iload_n 1, 1) := dk_27 (dk_at dksX3_readsCommand_0 16 rfl rfl)
theorem dX3_readsCommand_17 : decode cX3_readsCommand 17 = .ok (.iload_n 2, 1) := dk_28 (dk_at dksX3_readsCommand_0 17 rfl rfl)
theorem dX3_readsCommand_18 : decode cX3_readsCommand 18 = .ok (.iastore, 1) := dk_79 (dk_at dksX3_readsCommand_0 18 rfl rfl)
theorem dX3_readsCommand_19 : decode cX3_readsCommand 19 = .ok (.aload_n 0, 1) := dk_42 (dk_at dksX3_readsCommand_0 19 rfl rfl)
theorem dX3_readsCommand_20 : decode cX3_readsCommand 20 = .ok (.getfield 41, 3) := dk_180 0 41 (dk_at dksX3_readsCommand_0 20 rfl rfl)
theorem dX3_readsCommand_23 : decode cX3_readsCommand 23 = .ok (.iload_n 1, 1) := dk_27 (dk_at dksX3_readsCommand_0 23 rfl rfl)
theorem dX3_readsCommand_24 : decode cX3_readsCommand 24 = .ok (.iconst 1, 1) := dk_4 (dk_at dksX3_readsCommand_1 0 rfl rfl)
theorem dX3_readsCommand_25 : decode cX3_readsCommand 25 = .ok (.iadd, 1) := dk_96 (dk_at dksX3_readsCommand_1 1 rfl rfl)
theorem dX3_readsCommand_26 : decode cX3_readsCommand 26 = .ok (.iconst 1, 1) := dk_4 (dk_at dksX3_readsCommand_1 2 rfl rfl)
theorem dX3_readsCommand_27 : decode cX3_readsCommand 27 = .ok (.iastore, 1) := dk_79 (dk_at dksX3_readsCommand_1 3 rfl rfl)
theorem dX3_readsCommand_28 : decode cX3_readsCommand 28 = .ok (.aload_n 0, 1) := dk_42 (dk_at dksX3_readsCommand_1 4 rfl rfl)
theorem dX3_readsCommand_29 : decode cX3_readsCommand 29 = .ok (.dup, 1) := dk_89 (dk_at dksX3_readsCommand_1 5 rfl rfl)
theorem dX3_readsCommand_30 : decode cX3_readsCommand 30 = .ok (.getfield 245, 3) := dk_180 0 245 (dk_at dksX3_readsCommand_1 6 rfl rfl)
theorem dX3_readsCommand_33 : decode cX3_readsCommand 33 = .ok (.iconst 1, 1) := dk_4 (dk_at dksX3_readsCommand_1 9 rfl rfl)
theorem dX3_readsCommand_34 : decode cX3_readsCommand 34 = .ok (.iadd, 1) := dk_96 (dk_at dksX3_readsCommand_1 10 rfl rfl)
theorem dX3_readsCommand_35 : decode cX3_readsCommand 35 = .ok (.putfield 245, 3) := dk_181 0 245 (dk_at dksX3_readsCommand_1 11 rfl rfl)
theorem dX3_readsCommand_38 : decode cX3_readsCommand 38 = .ok (.aload_n 0, 1) := dk_42 (dk_at dksX3_readsCommand_1 14 rfl rfl)
theorem dX3_readsCommand_39 : decode cX3_readsCommand 39 = .ok (.getfield 216, 3) := dk_180 0 216 (dk_at dksX3_readsCommand_1 15 rfl rfl)
theorem dX3_readsCommand_42 : decode cX3_readsCommand 42 = .ok (.iconst (-1), 1) := dk_2 (dk_at dksX3_readsCommand_1 18 rfl rfl)
theorem dX3_readsCommand_43 : decode cX3_readsCommand 43 = .ok (.if_icmp .ne 18, 3) := dk_160 0 18 (dk_at dksX3_readsCommand_1 19 rfl rfl)
theorem dX3_readsCommand_46 : decode cX3_readsCommand 46 = .ok (.iload_n 2, 1) := dk_28 (dk_at dksX3_readsCommand_1 22 rfl rfl)
theorem dX3_readsCommand_47 : decode cX3_readsCommand 47 = .ok (.bipush 11, 2) := dk_16 11 (dk_at dksX3_readsCommand_2 0 rfl rfl)
theorem dX3_readsCommand_49 : decode cX3_readsCommand 49 = .ok (.if_icmp .ne 13, 3) := dk_160 0 13 (dk_at dksX3_readsCommand_2 2 rfl rfl)
theorem dX3_readsCommand_52 : decode cX3_readsCommand 52 = .ok (.aload_n 0, 1) := dk_42 (dk_at dksX3_readsCommand_2 5 rfl rfl)
theorem dX3_readsCommand_53 : decode cX3_readsCommand 53 = .ok (.invokevirtual 219, 3) := dk_182 0 219 (dk_at dksX3_readsCommand_2 6 rfl rfl)
theorem dX3_readsCommand_56 : decode cX3_readsCommand 56 = .ok (.bipush 32, 2) := dk_16 32 (dk_at dksX3_readsCommand_2 9 rfl rfl)
theorem dX3_readsCommand_58 : decode cX3_readsCommand 58 = .ok (.if_icmp .eq 4, 3) := dk_159 0 4 (dk_at dksX3_readsCommand_2 11 rfl rfl)
theorem dX3_readsCommand_61 : decode cX3_readsCommand 61 = .ok (.return_, 1) := dk_177 (dk_at dksX3_readsCommand_2 14 rfl rfl)
theorem dX3_readsCommand_62 : decode cX3_readsCommand 62 = .ok (.iload_n 2, 1) := dk_28 (dk_at dksX3_readsCommand_2 15 rfl rfl)
theorem dX3_readsCommand_63 : decode cX3_readsCommand 63 = .ok (.iconst 4, 1) := dk_7 (dk_at dksX3_readsCommand_2 16 rfl rfl)
theorem dX3_readsCommand_64 : decode cX3_readsCommand 64 = .ok (.if_icmp .ne 9, 3) := dk_160 0 9 (dk_at dksX3_readsCommand_2 17 rfl rfl)
theorem dX3_readsCommand_67 : decode cX3_readsCommand 67 = .ok (.aload_n 0, 1) := dk_42 (dk_at dksX3_readsCommand_2 20 rfl rfl)
theorem dX3_readsCommand_68 : decode cX3_readsCommand 68 = .ok (.iload_n 1, 1) := dk_27 (dk_at dksX3_readsCommand_2 21 rfl rfl)
theorem dX3_readsCommand_69 : decode cX3_readsCommand 69 = .ok (.invokevirtual 251, 3) := dk_182 0 251 (dk_at dksX3_readsCommand_3 0 rfl rfl)
theorem dX3_readsCommand_72 : decode cX3_readsCommand 72 = .ok (.return_, 1) := dk_177 (dk_at dksX3_readsCommand_3 3 rfl rfl)
theorem dX3_readsCommand_73 : decode cX3_readsCommand 73 = .ok (.iload_n 2, 1) := dk_28 (dk_at dksX3_readsCommand_3 4 rfl rfl)
theorem dX3_readsCommand_74 : decode cX3_readsCommand 74 = .ok (.bipush 11, 2) := dk_16 11 (dk_at dksX3_readsCommand_3 5 rfl rfl)
theorem dX3_readsCommand_76 : decode cX3_readsCommand 76 = .ok (.if_icmp .ne 9, 3) := dk_160 0 9 (dk_at dksX3_readsCommand_3 7 rfl rfl)
theorem dX3_readsCommand_79 : decode cX3_readsCommand 79 = .ok (.aload_n 0, 1) := dk_42 (dk_at dksX3_readsCommand_3 10 rfl rfl)
theorem dX3_readsCommand_80 : decode cX3_readsCommand 80 = .ok (.bipush 32, 2) := dk_16 32 (dk_at dksX3_readsCommand_3 11 rfl rfl)
theorem dX3_readsCommand_82 : decode cX3_readsCommand 82 = .ok (.invokevirtual 239, 3) := dk_182 0 239 (dk_at dksX3_readsCommand_3 13 rfl rfl)
theorem dX3_readsCommand_85 : decode cX3_readsCommand 85 = .ok (.iload_n 2, 1) := dk_28 (dk_at dksX3_readsCommand_3 16 rfl rfl)
theorem dX3_readsCommand_86 : decode cX3_readsCommand 86 = .ok (.iconst 1, 1) := dk_4 (dk_at dksX3_readsCommand_3 17 rfl rfl)
theorem dX3_readsCommand_87 : decode cX3_readsCommand 87 = .ok (.if_icmp .eq 14, 3) := dk_159 0 14 (dk_at dksX3_readsCommand_3 18 rfl rfl)
theorem dX3_readsCommand_90 : decode cX3_readsCommand 90 = .ok (.iload_n 2, 1) := dk_28 (dk_at dksX3_readsCommand_3 21 rfl rfl)
theorem dX3_readsCommand_91 : decode cX3_readsCommand 91 = .ok (.iconst 5, 1) := dk_8 (dk_at dksX3_readsCommand_3 22 rfl rfl)
theorem dX3_readsCommand_92 : decode cX3_readsCommand 92 = .ok (.if_icmp .eq 9, 3) := dk_159 0 9 (dk_at dksX3_readsCommand_4 0 rfl rfl)
theorem dX3_readsCommand_95 : decode cX3_readsCommand 95 = .ok (.iload_n 2, 1) := dk_28 (dk_at dksX3_readsCommand_4 3 rfl rfl)
theorem dX3_readsCommand_96 : decode cX3_readsCommand 96 = .ok (.bipush 8, 2) := dk_16 8 (dk_at dksX3_readsCommand_4 4 rfl rfl)
theorem dX3_readsCommand_98 : decode cX3_readsCommand 98 = .ok (.if_icmp .le 7, 3) := dk_164 0 7 (dk_at dksX3_readsCommand_4 6 rfl rfl)
theorem dX3_readsCommand_101 : decode cX3_readsCommand 101 = .ok (.iconst 1, 1) := dk_4 (dk_at dksX3_readsCommand_4 9 rfl rfl)
theorem dX3_readsCommand_102 : decode cX3_readsCommand 102 = .ok (.goto 4, 3) := dk_167 0 4 (dk_at dksX3_readsCommand_4 10 rfl rfl)
theorem dX3_readsCommand_105 : decode cX3_readsCommand 105 = .ok (.iconst 0, 1) := dk_3 (dk_at dksX3_readsCommand_4 13 rfl rfl)
theorem dX3_readsCommand_106 : decode cX3_readsCommand 106 = .ok (.istore_n 3, 1) := dk_62 (dk_at dksX3_readsCommand_4 14 rfl rfl)
theorem dX3_readsCommand_107 : decode cX3_readsCommand 107 = .ok (.aload_n 0, 1) := dk_42 (dk_at dksX3_readsCommand_4 15 rfl rfl)
theorem dX3_readsCommand_108 : decode cX3_readsCommand 108 = .ok (.getfield 41, 3) := dk_180 0 41 (dk_at dksX3_readsCommand_4 16 rfl rfl)
theorem dX3_readsCommand_111 : decode cX3_readsCommand 111 = .ok (.iload_n 1, 1) := dk_27 (dk_at dksX3_readsCommand_4 19 rfl rfl)
theorem dX3_readsCommand_112 : decode cX3_readsCommand 112 = .ok (.iconst 1, 1) := dk_4 (dk_at dksX3_readsCommand_4 20 rfl rfl)
theorem dX3_readsCommand_113 : decode cX3_readsCommand 113 = .ok (.iadd, 1) := dk_96 (dk_at dksX3_readsCommand_4 21 rfl rfl)
theorem dX3_readsCommand_114 : decode cX3_readsCommand 114 = .ok (.iload_n 3, 1) := dk_29 (dk_at dksX3_readsCommand_4 22 rfl rfl)
theorem dX3_readsCommand_115 : decode cX3_readsCommand 115 = .ok (.ifCond .eq 10, 3) := dk_153 0 10 (dk_at dksX3_readsCommand_5 0 rfl rfl)
theorem dX3_readsCommand_118 : decode cX3_readsCommand 118 = .ok (.aload_n 0, 1) := dk_42 (dk_at dksX3_readsCommand_5 3 rfl rfl)
theorem dX3_readsCommand_119 : decode cX3_readsCommand 119 = .ok (.invokevirtual 242, 3) := dk_182 0 242 (dk_at dksX3_readsCommand_5 4 rfl rfl)
theorem dX3_readsCommand_122 : decode cX3_readsCommand 122 = .ok (.goto 7, 3) := dk_167 0 7 (dk_at dksX3_readsCommand_5 7 rfl rfl)
theorem dX3_readsCommand_125 : decode cX3_readsCommand 125 = .ok (.aload_n 0, 1) := dk_42 (dk_at dksX3_readsCommand_5 10 rfl rfl)
theorem dX3_readsCommand_126 : decode cX3_readsCommand 126 = .ok (.invokevirtual 225, 3) := dk_182 0 225 (dk_at dksX3_readsCommand_5 11 rfl rfl)
theorem dX3_readsCommand_129 : decode cX3_readsCommand 129 = .ok (.iastore, 1) := dk_79 (dk_at dksX3_readsCommand_5 14 rfl rfl)
theorem dX3_readsCommand_130 : decode cX3_readsCommand 130 = .ok (.iload_n 2, 1) := dk_28 (dk_at dksX3_readsCommand_5 15 rfl rfl)
theorem dX3_readsCommand_131 : decode cX3_readsCommand 131 = .ok (.bipush 8, 2) := dk_16 8 (dk_at dksX3_readsCommand_5 16 rfl rfl)
theorem dX3_readsCommand_133 : decode cX3_readsCommand 133 = .ok (.if_icmp .ne 21, 3) := dk_160 0 21 (dk_at dksX3_readsCommand_5 18 rfl rfl)
theorem dX3_readsCommand_136 : decode cX3_readsCommand 136 = .ok (.aload_n 0, 1) := dk_42 (dk_at dksX3_readsCommand_5 21 rfl rfl)
theorem dX3_readsCommand_137 : decode cX3_readsCommand 137 = .ok (.bipush 32, 2) := dk_16 32 (dk_at dksX3_readsCommand_5 22 rfl rfl)
theorem dX3_readsCommand_139 : decode cX3_readsCommand 139 = .ok (.invokevirtual 239, 3) := dk_182 0 239 (dk_at dksX3_readsCommand_6 0 rfl rfl)
theorem dX3_readsCommand_142 : decode cX3_readsCommand 142 = .ok (.aload_n 0, 1) := dk_42 (dk_at dksX3_readsCommand_6 3 rfl rfl)
theorem dX3_readsCommand_143 : decode cX3_readsCommand 143 = .ok (.getfield 41, 3) := dk_180 0 41 (dk_at dksX3_readsCommand_6 4 rfl rfl)
theorem dX3_readsCommand_146 : decode cX3_readsCommand 146 = .ok (.iload_n 1, 1) := dk_27 (dk_at dksX3_readsCommand_6 7 rfl rfl)
theorem dX3_readsCommand_147 : decode cX3_readsCommand 147 = .ok (.iconst 2, 1) := dk_5 (dk_at dksX3_readsCommand_6 8 rfl rfl)
theorem dX3_readsCommand_148 : decode cX3_readsCommand 148 = .ok (.iadd, 1) := dk_96 (dk_at dksX3_readsCommand_6 9 rfl rfl)
theorem dX3_readsCommand_149 : decode cX3_readsCommand 149 = .ok (.aload_n 0, 1) := dk_42 (dk_at dksX3_readsCommand_6 10 rfl rfl)
theorem dX3_readsCommand_150 : decode cX3_readsCommand 150 = .ok (.invokevirtual 242, 3) := dk_182 0 242 (dk_at dksX3_readsCommand_6 11 rfl rfl)
theorem dX3_readsCommand_153 : decode cX3_readsCommand 153 = .ok (.iastore, 1) := dk_79 (dk_at dksX3_readsCommand_6 14 rfl rfl)
theorem dX3_readsCommand_154 : decode cX3_readsCommand 154 = .ok (.return_, 1) := dk_177 (dk_at dksX3_readsCommand_6 15 rfl rfl)
abbrev cX3_kindHere : ByteArray := prog_26_method_106_code
def yX3_kindHere : MethodName := ⟨RX3, "kindHere", "()I"⟩
def dkwX3_kindHere_7 : List UInt8 := [181, 0, 210, 28, 172]
abbrev dktX3_kindHere_7 : List UInt8 := dkwX3_kindHere_7 ++ []
def dkwX3_kindHere_6 : List UInt8 := [180, 0, 210, 28, 2, 160, 0, 7, 3, 167, 0, 14, 28, 4, 96, 184, 0, 228, 28, 184, 0, 228, 100, 96]
abbrev dktX3_kindHere_6 : List UInt8 := dkwX3_kindHere_6 ++ dktX3_kindHere_7
def dkwX3_kindHere_5 : List UInt8 := [167, 255, 147, 42, 28, 2, 160, 0, 7, 27, 167, 0, 7, 42, 180, 0, 216, 181, 0, 216, 42, 89]
abbrev dktX3_kindHere_5 : List UInt8 := dkwX3_kindHere_5 ++ dktX3_kindHere_6
def dkwX3_kindHere_4 : List UInt8 := [21, 5, 96, 184, 0, 90, 60, 21, 5, 21, 4, 160, 0, 7, 29, 167, 0, 4, 28, 61, 132, 3, 1]
abbrev dktX3_kindHere_4 : List UInt8 := dkwX3_kindHere_4 ++ dktX3_kindHere_5
def dkwX3_kindHere_3 : List UInt8 := [29, 184, 0, 228, 21, 5, 96, 182, 0, 233, 160, 0, 9, 132, 5, 1, 167, 255, 205, 27, 42, 180, 0, 210]
abbrev dktX3_kindHere_3 : List UInt8 := dkwX3_kindHere_3 ++ dktX3_kindHere_4
def dkwX3_kindHere_2 : List UInt8 := [21, 5, 96, 42, 180, 0, 213, 162, 0, 36, 42, 180, 0, 35, 42, 180, 0, 210, 21, 5, 96, 46, 18, 231]
abbrev dktX3_kindHere_2 : List UInt8 := dkwX3_kindHere_2 ++ dktX3_kindHere_3
def dkwX3_kindHere_1 : List UInt8 := [184, 0, 228, 29, 184, 0, 228, 100, 54, 4, 3, 54, 5, 21, 5, 21, 4, 162, 0, 50, 42, 180, 0, 210]
abbrev dktX3_kindHere_1 : List UInt8 := dkwX3_kindHere_1 ++ dktX3_kindHere_2
def dkwX3_kindHere_0 : List UInt8 := [42, 180, 0, 210, 60, 2, 61, 3, 62, 29, 16, 12, 162, 0, 109, 28, 2, 160, 0, 104, 29, 4, 96]
abbrev dktX3_kindHere_0 : List UInt8 := dkwX3_kindHere_0 ++ dktX3_kindHere_1
theorem dksX3_kindHere_0 : cX3_kindHere.data.toList.drop 0 = dktX3_kindHere_0 := by decide +kernel
theorem dksX3_kindHere_1 : cX3_kindHere.data.toList.drop 23 = dktX3_kindHere_1 := dk_seg dksX3_kindHere_0 23 rfl rfl
theorem dksX3_kindHere_2 : cX3_kindHere.data.toList.drop 47 = dktX3_kindHere_2 := dk_seg dksX3_kindHere_1 24 rfl rfl
theorem dksX3_kindHere_3 : cX3_kindHere.data.toList.drop 71 = dktX3_kindHere_3 := dk_seg dksX3_kindHere_2 24 rfl rfl
theorem dksX3_kindHere_4 : cX3_kindHere.data.toList.drop 95 = dktX3_kindHere_4 := dk_seg dksX3_kindHere_3 24 rfl rfl
theorem dksX3_kindHere_5 : cX3_kindHere.data.toList.drop 118 = dktX3_kindHere_5 := dk_seg dksX3_kindHere_4 23 rfl rfl
theorem dksX3_kindHere_6 : cX3_kindHere.data.toList.drop 140 = dktX3_kindHere_6 := dk_seg dksX3_kindHere_5 22 rfl rfl
theorem dksX3_kindHere_7 : cX3_kindHere.data.toList.drop 164 = dktX3_kindHere_7 := dk_seg dksX3_kindHere_6 24 rfl rfl
theorem dX3_kindHere_0 : decode cX3_kindHere 0 = .ok (.aload_n 0, 1) := dk_42 (dk_at dksX3_kindHere_0 0 rfl rfl)
theorem dX3_kindHere_1 : decode cX3_kindHere 1 = .ok (.getfield 210, 3) := dk_180 0 210 (dk_at dksX3_kindHere_0 1 rfl rfl)
theorem dX3_kindHere_4 : decode cX3_kindHere 4 = .ok (.istore_n 1, 1) := dk_60 (dk_at dksX3_kindHere_0 4 rfl rfl)
theorem dX3_kindHere_5 : decode cX3_kindHere 5 = .ok (.iconst (-1), 1) := dk_2 (dk_at dksX3_kindHere_0 5 rfl rfl)
theorem dX3_kindHere_6 : decode cX3_kindHere 6 = .ok (.istore_n 2, 1) := dk_61 (dk_at dksX3_kindHere_0 6 rfl rfl)
theorem dX3_kindHere_7 : decode cX3_kindHere 7 = .ok (.iconst 0, 1) := dk_3 (dk_at dksX3_kindHere_0 7 rfl rfl)
theorem dX3_kindHere_8 : decode cX3_kindHere 8 = .ok (.istore_n 3, 1) := dk_62 (dk_at dksX3_kindHere_0 8 rfl rfl)
theorem dX3_kindHere_9 : decode cX3_kindHere 9 = .ok (.iload_n 3, 1) := dk_29 (dk_at dksX3_kindHere_0 9 rfl rfl)
theorem dX3_kindHere_10 : decode cX3_kindHere 10 = .ok (.bipush 12, 2) := dk_16 12 (dk_at dksX3_kindHere_0 10 rfl rfl)
theorem dX3_kindHere_12 : decode cX3_kindHere 12 = .ok (.if_icmp .ge 109, 3) := dk_162 0 109 (dk_at dksX3_kindHere_0 12 rfl rfl)
theorem dX3_kindHere_15 : decode cX3_kindHere 15 = .ok (.iload_n 2, 1) := dk_28 (dk_at dksX3_kindHere_0 15 rfl rfl)
theorem dX3_kindHere_16 : decode cX3_kindHere 16 = .ok (.iconst (-1), 1) := dk_2 (dk_at dksX3_kindHere_0 16 rfl rfl)
theorem dX3_kindHere_17 : decode cX3_kindHere 17 = .ok (.if_icmp .ne 104, 3) := dk_160 0 104 (dk_at dksX3_kindHere_0 17 rfl rfl)
theorem dX3_kindHere_20 : decode cX3_kindHere 20 = .ok (.iload_n 3, 1) := dk_29 (dk_at dksX3_kindHere_0 20 rfl rfl)
theorem dX3_kindHere_21 : decode cX3_kindHere 21 = .ok (.iconst 1, 1) := dk_4 (dk_at dksX3_kindHere_0 21 rfl rfl)
theorem dX3_kindHere_22 : decode cX3_kindHere 22 = .ok (.iadd, 1) := dk_96 (dk_at dksX3_kindHere_0 22 rfl rfl)
theorem dX3_kindHere_23 : decode cX3_kindHere 23 = .ok (.invokestatic 228, 3) := dk_184 0 228 (dk_at dksX3_kindHere_1 0 rfl rfl)
theorem dX3_kindHere_26 : decode cX3_kindHere 26 = .ok (.iload_n 3, 1) := dk_29 (dk_at dksX3_kindHere_1 3 rfl rfl)
theorem dX3_kindHere_27 : decode cX3_kindHere 27 = .ok (.invokestatic 228, 3) := dk_184 0 228 (dk_at dksX3_kindHere_1 4 rfl rfl)
theorem dX3_kindHere_30 : decode cX3_kindHere 30 = .ok (.isub, 1) := dk_100 (dk_at dksX3_kindHere_1 7 rfl rfl)
theorem dX3_kindHere_31 : decode cX3_kindHere 31 = .ok (.istore 4, 2) := dk_54 4 (dk_at dksX3_kindHere_1 8 rfl rfl)
theorem dX3_kindHere_33 : decode cX3_kindHere 33 = .ok (.iconst 0, 1) := dk_3 (dk_at dksX3_kindHere_1 10 rfl rfl)
theorem dX3_kindHere_34 : decode cX3_kindHere 34 = .ok (.istore 5, 2) := dk_54 5 (dk_at dksX3_kindHere_1 11 rfl rfl)
theorem dX3_kindHere_36 : decode cX3_kindHere 36 = .ok (.iload 5, 2) := dk_21 5 (dk_at dksX3_kindHere_1 13 rfl rfl)
theorem dX3_kindHere_38 : decode cX3_kindHere 38 = .ok (.iload 4, 2) := dk_21 4 (dk_at dksX3_kindHere_1 15 rfl rfl)
theorem dX3_kindHere_40 : decode cX3_kindHere 40 = .ok (.if_icmp .ge 50, 3) := dk_162 0 50 (dk_at dksX3_kindHere_1 17 rfl rfl)
theorem dX3_kindHere_43 : decode cX3_kindHere 43 = .ok (.aload_n 0, 1) := dk_42 (dk_at dksX3_kindHere_1 20 rfl rfl)
theorem dX3_kindHere_44 : decode cX3_kindHere 44 = .ok (.getfield 210, 3) := dk_180 0 210 (dk_at dksX3_kindHere_1 21 rfl rfl)
theorem dX3_kindHere_47 : decode cX3_kindHere 47 = .ok (.iload 5, 2) := dk_21 5 (dk_at dksX3_kindHere_2 0 rfl rfl)
theorem dX3_kindHere_49 : decode cX3_kindHere 49 = .ok (.iadd, 1) := dk_96 (dk_at dksX3_kindHere_2 2 rfl rfl)
theorem dX3_kindHere_50 : decode cX3_kindHere 50 = .ok (.aload_n 0, 1) := dk_42 (dk_at dksX3_kindHere_2 3 rfl rfl)
theorem dX3_kindHere_51 : decode cX3_kindHere 51 = .ok (.getfield 213, 3) := dk_180 0 213 (dk_at dksX3_kindHere_2 4 rfl rfl)
theorem dX3_kindHere_54 : decode cX3_kindHere 54 = .ok (.if_icmp .ge 36, 3) := dk_162 0 36 (dk_at dksX3_kindHere_2 7 rfl rfl)
theorem dX3_kindHere_57 : decode cX3_kindHere 57 = .ok (.aload_n 0, 1) := dk_42 (dk_at dksX3_kindHere_2 10 rfl rfl)
theorem dX3_kindHere_58 : decode cX3_kindHere 58 = .ok (.getfield 35, 3) := dk_180 0 35 (dk_at dksX3_kindHere_2 11 rfl rfl)
theorem dX3_kindHere_61 : decode cX3_kindHere 61 = .ok (.aload_n 0, 1) := dk_42 (dk_at dksX3_kindHere_2 14 rfl rfl)
theorem dX3_kindHere_62 : decode cX3_kindHere 62 = .ok (.getfield 210, 3) := dk_180 0 210 (dk_at dksX3_kindHere_2 15 rfl rfl)
theorem dX3_kindHere_65 : decode cX3_kindHere 65 = .ok (.iload 5, 2) := dk_21 5 (dk_at dksX3_kindHere_2 18 rfl rfl)
theorem dX3_kindHere_67 : decode cX3_kindHere 67 = .ok (.iadd, 1) := dk_96 (dk_at dksX3_kindHere_2 20 rfl rfl)
theorem dX3_kindHere_68 : decode cX3_kindHere 68 = .ok (.iaload, 1) := dk_46 (dk_at dksX3_kindHere_2 21 rfl rfl)
theorem dX3_kindHere_69 : decode cX3_kindHere 69 = .ok (.ldc 231, 2) := dk_18 231 (dk_at dksX3_kindHere_2 22 rfl rfl)
theorem dX3_kindHere_71 : decode cX3_kindHere 71 = .ok (.iload_n 3, 1) := dk_29 (dk_at dksX3_kindHere_3 0 rfl rfl)
theorem dX3_kindHere_72 : decode cX3_kindHere 72 = .ok (.invokestatic 228, 3) := dk_184 0 228 (dk_at dksX3_kindHere_3 1 rfl rfl)
theorem dX3_kindHere_75 : decode cX3_kindHere 75 = .ok (.iload 5, 2) := dk_21 5 (dk_at dksX3_kindHere_3 4 rfl rfl)
theorem dX3_kindHere_77 : decode cX3_kindHere 77 = .ok (.iadd, 1) := dk_96 (dk_at dksX3_kindHere_3 6 rfl rfl)
theorem dX3_kindHere_78 : decode cX3_kindHere 78 = .ok (.invokevirtual 233, 3) := dk_182 0 233 (dk_at dksX3_kindHere_3 7 rfl rfl)
theorem dX3_kindHere_81 : decode cX3_kindHere 81 = .ok (.if_icmp .ne 9, 3) := dk_160 0 9 (dk_at dksX3_kindHere_3 10 rfl rfl)
theorem dX3_kindHere_84 : decode cX3_kindHere 84 = .ok (.iinc 5 1, 3) := dk_132 5 1 (dk_at dksX3_kindHere_3 13 rfl rfl)
theorem dX3_kindHere_87 : decode cX3_kindHere 87 = .ok (.goto (-51), 3) := dk_167 255 205 (dk_at dksX3_kindHere_3 16 rfl rfl)
theorem dX3_kindHere_90 : decode cX3_kindHere 90 = .ok (.iload_n 1, 1) := dk_27 (dk_at dksX3_kindHere_3 19 rfl rfl)
theorem dX3_kindHere_91 : decode cX3_kindHere 91 = .ok (.aload_n 0, 1) := dk_42 (dk_at dksX3_kindHere_3 20 rfl rfl)
theorem dX3_kindHere_92 : decode cX3_kindHere 92 = .ok (.getfield 210, 3) := dk_180 0 210 (dk_at dksX3_kindHere_3 21 rfl rfl)
theorem dX3_kindHere_95 : decode cX3_kindHere 95 = .ok (.iload 5, 2) := dk_21 5 (dk_at dksX3_kindHere_4 0 rfl rfl)
theorem dX3_kindHere_97 : decode cX3_kindHere 97 = .ok (.iadd, 1) := dk_96 (dk_at dksX3_kindHere_4 2 rfl rfl)
theorem dX3_kindHere_98 : decode cX3_kindHere 98 = .ok (.invokestatic 90, 3) := dk_184 0 90 (dk_at dksX3_kindHere_4 3 rfl rfl)
theorem dX3_kindHere_101 : decode cX3_kindHere 101 = .ok (.istore_n 1, 1) := dk_60 (dk_at dksX3_kindHere_4 6 rfl rfl)
theorem dX3_kindHere_102 : decode cX3_kindHere 102 = .ok (.iload 5, 2) := dk_21 5 (dk_at dksX3_kindHere_4 7 rfl rfl)
theorem dX3_kindHere_104 : decode cX3_kindHere 104 = .ok (.iload 4, 2) := dk_21 4 (dk_at dksX3_kindHere_4 9 rfl rfl)
theorem dX3_kindHere_106 : decode cX3_kindHere 106 = .ok (.if_icmp .ne 7, 3) := dk_160 0 7 (dk_at dksX3_kindHere_4 11 rfl rfl)
theorem dX3_kindHere_109 : decode cX3_kindHere 109 = .ok (.iload_n 3, 1) := dk_29 (dk_at dksX3_kindHere_4 14 rfl rfl)
theorem dX3_kindHere_110 : decode cX3_kindHere 110 = .ok (.goto 4, 3) := dk_167 0 4 (dk_at dksX3_kindHere_4 15 rfl rfl)
theorem dX3_kindHere_113 : decode cX3_kindHere 113 = .ok (.iload_n 2, 1) := dk_28 (dk_at dksX3_kindHere_4 18 rfl rfl)
theorem dX3_kindHere_114 : decode cX3_kindHere 114 = .ok (.istore_n 2, 1) := dk_61 (dk_at dksX3_kindHere_4 19 rfl rfl)
theorem dX3_kindHere_115 : decode cX3_kindHere 115 = .ok (.iinc 3 1, 3) := dk_132 3 1 (dk_at dksX3_kindHere_4 20 rfl rfl)
theorem dX3_kindHere_118 : decode cX3_kindHere 118 = .ok (.goto (-109), 3) := dk_167 255 147 (dk_at dksX3_kindHere_5 0 rfl rfl)
theorem dX3_kindHere_121 : decode cX3_kindHere 121 = .ok (.aload_n 0, 1) := dk_42 (dk_at dksX3_kindHere_5 3 rfl rfl)
theorem dX3_kindHere_122 : decode cX3_kindHere 122 = .ok (.iload_n 2, 1) := dk_28 (dk_at dksX3_kindHere_5 4 rfl rfl)
theorem dX3_kindHere_123 : decode cX3_kindHere 123 = .ok (.iconst (-1), 1) := dk_2 (dk_at dksX3_kindHere_5 5 rfl rfl)
theorem dX3_kindHere_124 : decode cX3_kindHere 124 = .ok (.if_icmp .ne 7, 3) := dk_160 0 7 (dk_at dksX3_kindHere_5 6 rfl rfl)
theorem dX3_kindHere_127 : decode cX3_kindHere 127 = .ok (.iload_n 1, 1) := dk_27 (dk_at dksX3_kindHere_5 9 rfl rfl)
theorem dX3_kindHere_128 : decode cX3_kindHere 128 = .ok (.goto 7, 3) := dk_167 0 7 (dk_at dksX3_kindHere_5 10 rfl rfl)
theorem dX3_kindHere_131 : decode cX3_kindHere 131 = .ok (.aload_n 0, 1) := dk_42 (dk_at dksX3_kindHere_5 13 rfl rfl)
theorem dX3_kindHere_132 : decode cX3_kindHere 132 = .ok (.getfield 216, 3) := dk_180 0 216 (dk_at dksX3_kindHere_5 14 rfl rfl)
theorem dX3_kindHere_135 : decode cX3_kindHere 135 = .ok (.putfield 216, 3) := dk_181 0 216 (dk_at dksX3_kindHere_5 17 rfl rfl)
theorem dX3_kindHere_138 : decode cX3_kindHere 138 = .ok (.aload_n 0, 1) := dk_42 (dk_at dksX3_kindHere_5 20 rfl rfl)
theorem dX3_kindHere_139 : decode cX3_kindHere 139 = .ok (.dup, 1) := dk_89 (dk_at dksX3_kindHere_5 21 rfl rfl)
theorem dX3_kindHere_140 : decode cX3_kindHere 140 = .ok (.getfield 210, 3) := dk_180 0 210 (dk_at dksX3_kindHere_6 0 rfl rfl)
theorem dX3_kindHere_143 : decode cX3_kindHere 143 = .ok (.iload_n 2, 1) := dk_28 (dk_at dksX3_kindHere_6 3 rfl rfl)
theorem dX3_kindHere_144 : decode cX3_kindHere 144 = .ok (.iconst (-1), 1) := dk_2 (dk_at dksX3_kindHere_6 4 rfl rfl)
theorem dX3_kindHere_145 : decode cX3_kindHere 145 = .ok (.if_icmp .ne 7, 3) := dk_160 0 7 (dk_at dksX3_kindHere_6 5 rfl rfl)
theorem dX3_kindHere_148 : decode cX3_kindHere 148 = .ok (.iconst 0, 1) := dk_3 (dk_at dksX3_kindHere_6 8 rfl rfl)
theorem dX3_kindHere_149 : decode cX3_kindHere 149 = .ok (.goto 14, 3) := dk_167 0 14 (dk_at dksX3_kindHere_6 9 rfl rfl)
theorem dX3_kindHere_152 : decode cX3_kindHere 152 = .ok (.iload_n 2, 1) := dk_28 (dk_at dksX3_kindHere_6 12 rfl rfl)
theorem dX3_kindHere_153 : decode cX3_kindHere 153 = .ok (.iconst 1, 1) := dk_4 (dk_at dksX3_kindHere_6 13 rfl rfl)
theorem dX3_kindHere_154 : decode cX3_kindHere 154 = .ok (.iadd, 1) := dk_96 (dk_at dksX3_kindHere_6 14 rfl rfl)
theorem dX3_kindHere_155 : decode cX3_kindHere 155 = .ok (.invokestatic 228, 3) := dk_184 0 228 (dk_at dksX3_kindHere_6 15 rfl rfl)
theorem dX3_kindHere_158 : decode cX3_kindHere 158 = .ok (.iload_n 2, 1) := dk_28 (dk_at dksX3_kindHere_6 18 rfl rfl)
theorem dX3_kindHere_159 : decode cX3_kindHere 159 = .ok (.invokestatic 228, 3) := dk_184 0 228 (dk_at dksX3_kindHere_6 19 rfl rfl)
theorem dX3_kindHere_162 : decode cX3_kindHere 162 = .ok (.isub, 1) := dk_100 (dk_at dksX3_kindHere_6 22 rfl rfl)
theorem dX3_kindHere_163 : decode cX3_kindHere 163 = .ok (.iadd, 1) := dk_96 (dk_at dksX3_kindHere_6 23 rfl rfl)
theorem dX3_kindHere_164 : decode cX3_kindHere 164 = .ok (.putfield 210, 3) := dk_181 0 210 (dk_at dksX3_kindHere_7 0 rfl rfl)
theorem dX3_kindHere_167 : decode cX3_kindHere 167 = .ok (.iload_n 2, 1) := dk_28 (dk_at dksX3_kindHere_7 3 rfl rfl)
theorem dX3_kindHere_168 : decode cX3_kindHere 168 = .ok (.ireturn, 1) := dk_172 (dk_at dksX3_kindHere_7 4 rfl rfl)
abbrev cX3_startOf : ByteArray := prog_26_method_105_code
def yX3_startOf : MethodName := ⟨RX3, "startOf", "(I)I"⟩
def dkwX3_startOf_3 : List UInt8 := [100, 104, 96, 172, 16, 65, 172, 16, 70, 172]
abbrev dktX3_startOf_3 : List UInt8 := dkwX3_startOf_3 ++ []
def dkwX3_startOf_2 : List UInt8 := [3, 172, 16, 7, 172, 16, 13, 16, 7, 26, 5, 100, 104, 96, 172, 16, 32, 172, 16, 39, 8, 26, 16, 6]
abbrev dktX3_startOf_2 : List UInt8 := dkwX3_startOf_2 ++ dktX3_startOf_3
def dkwX3_startOf_1 : List UInt8 := [170, 0, 0, 0, 0, 0, 94, 0, 0, 0, 0, 0, 0, 0, 11, 0, 0, 0, 63, 0, 0, 0, 65, 0, 0, 0, 68, 0, 0, 0, 68, 0, 0, 0, 68, 0, 0, 0, 78, 0, 0, 0, 81, 0, 0, 0, 81, 0, 0, 0, 81, 0, 0, 0, 81, 0, 0, 0, 81, 0, 0, 0, 91]
abbrev dktX3_startOf_1 : List UInt8 := dkwX3_startOf_1 ++ dktX3_startOf_2
def dkwX3_startOf_0 : List UInt8 := [26]
abbrev dktX3_startOf_0 : List UInt8 := dkwX3_startOf_0 ++ dktX3_startOf_1
theorem dksX3_startOf_0 : cX3_startOf.data.toList.drop 0 = dktX3_startOf_0 := by decide +kernel
theorem dksX3_startOf_1 : cX3_startOf.data.toList.drop 1 = dktX3_startOf_1 := dk_seg dksX3_startOf_0 1 rfl rfl
theorem dksX3_startOf_2 : cX3_startOf.data.toList.drop 64 = dktX3_startOf_2 := dk_seg dksX3_startOf_1 63 rfl rfl
theorem dksX3_startOf_3 : cX3_startOf.data.toList.drop 88 = dktX3_startOf_3 := dk_seg dksX3_startOf_2 24 rfl rfl
theorem dX3_startOf_0 : decode cX3_startOf 0 = .ok (.iload_n 0, 1) := dk_26 (dk_at dksX3_startOf_0 0 rfl rfl)
theorem dX3_startOf_1 : decode cX3_startOf 1 = .ok (.tableswitch 94 0 11 #[63, 65, 68, 68, 68, 78, 81, 81, 81, 81, 81, 91], 63) := by decide +kernel
theorem dX3_startOf_64 : decode cX3_startOf 64 = .ok (.iconst 0, 1) := dk_3 (dk_at dksX3_startOf_2 0 rfl rfl)
theorem dX3_startOf_65 : decode cX3_startOf 65 = .ok (.ireturn, 1) := dk_172 (dk_at dksX3_startOf_2 1 rfl rfl)
theorem dX3_startOf_66 : decode cX3_startOf 66 = .ok (.bipush 7, 2) := dk_16 7 (dk_at dksX3_startOf_2 2 rfl rfl)
theorem dX3_startOf_68 : decode cX3_startOf 68 = .ok (.ireturn, 1) := dk_172 (dk_at dksX3_startOf_2 4 rfl rfl)
theorem dX3_startOf_69 : decode cX3_startOf 69 = .ok (.bipush 13, 2) := dk_16 13 (dk_at dksX3_startOf_2 5 rfl rfl)
theorem dX3_startOf_71 : decode cX3_startOf 71 = .ok (.bipush 7, 2) := dk_16 7 (dk_at dksX3_startOf_2 7 rfl rfl)
theorem dX3_startOf_73 : decode cX3_startOf 73 = .ok (.iload_n 0, 1) := dk_26 (dk_at dksX3_startOf_2 9 rfl rfl)
theorem dX3_startOf_74 : decode cX3_startOf 74 = .ok (.iconst 2, 1) := dk_5 (dk_at dksX3_startOf_2 10 rfl rfl)
theorem dX3_startOf_75 : decode cX3_startOf 75 = .ok (.isub, 1) := dk_100 (dk_at dksX3_startOf_2 11 rfl rfl)
theorem dX3_startOf_76 : decode cX3_startOf 76 = .ok (.imul, 1) := dk_104 (dk_at dksX3_startOf_2 12 rfl rfl)
theorem dX3_startOf_77 : decode cX3_startOf 77 = .ok (.iadd, 1) := dk_96 (dk_at dksX3_startOf_2 13 rfl rfl)
theorem dX3_startOf_78 : decode cX3_startOf 78 = .ok (.ireturn, 1) := dk_172 (dk_at dksX3_startOf_2 14 rfl rfl)
theorem dX3_startOf_79 : decode cX3_startOf 79 = .ok (.bipush 32, 2) := dk_16 32 (dk_at dksX3_startOf_2 15 rfl rfl)
theorem dX3_startOf_81 : decode cX3_startOf 81 = .ok (.ireturn, 1) := dk_172 (dk_at dksX3_startOf_2 17 rfl rfl)
theorem dX3_startOf_82 : decode cX3_startOf 82 = .ok (.bipush 39, 2) := dk_16 39 (dk_at dksX3_startOf_2 18 rfl rfl)
theorem dX3_startOf_84 : decode cX3_startOf 84 = .ok (.iconst 5, 1) := dk_8 (dk_at dksX3_startOf_2 20 rfl rfl)
theorem dX3_startOf_85 : decode cX3_startOf 85 = .ok (.iload_n 0, 1) := dk_26 (dk_at dksX3_startOf_2 21 rfl rfl)
theorem dX3_startOf_86 : decode cX3_startOf 86 = .ok (.bipush 6, 2) := dk_16 6 (dk_at dksX3_startOf_2 22 rfl rfl)
theorem dX3_startOf_88 : decode cX3_startOf 88 = .ok (.isub, 1) := dk_100 (dk_at dksX3_startOf_3 0 rfl rfl)
theorem dX3_startOf_89 : decode cX3_startOf 89 = .ok (.imul, 1) := dk_104 (dk_at dksX3_startOf_3 1 rfl rfl)
theorem dX3_startOf_90 : decode cX3_startOf 90 = .ok (.iadd, 1) := dk_96 (dk_at dksX3_startOf_3 2 rfl rfl)
theorem dX3_startOf_91 : decode cX3_startOf 91 = .ok (.ireturn, 1) := dk_172 (dk_at dksX3_startOf_3 3 rfl rfl)
theorem dX3_startOf_92 : decode cX3_startOf 92 = .ok (.bipush 65, 2) := dk_16 65 (dk_at dksX3_startOf_3 4 rfl rfl)
theorem dX3_startOf_94 : decode cX3_startOf 94 = .ok (.ireturn, 1) := dk_172 (dk_at dksX3_startOf_3 6 rfl rfl)
theorem dX3_startOf_95 : decode cX3_startOf 95 = .ok (.bipush 70, 2) := dk_16 70 (dk_at dksX3_startOf_3 7 rfl rfl)
theorem dX3_startOf_97 : decode cX3_startOf 97 = .ok (.ireturn, 1) := dk_172 (dk_at dksX3_startOf_3 9 rfl rfl)
abbrev cX3_letterHere : ByteArray := prog_26_method_100_code
def yX3_letterHere : MethodName := ⟨RX3, "letterHere", "()I"⟩
def dkwX3_letterHere_1 : List UInt8 := [172]
abbrev dktX3_letterHere_1 : List UInt8 := dkwX3_letterHere_1 ++ []
def dkwX3_letterHere_0 : List UInt8 := [42, 180, 0, 210, 42, 180, 0, 213, 162, 0, 15, 42, 180, 0, 35, 42, 180, 0, 210, 46, 167, 0, 4, 2]
abbrev dktX3_letterHere_0 : List UInt8 := dkwX3_letterHere_0 ++ dktX3_letterHere_1
theorem dksX3_letterHere_0 : cX3_letterHere.data.toList.drop 0 = dktX3_letterHere_0 := by decide +kernel
theorem dksX3_letterHere_1 : cX3_letterHere.data.toList.drop 24 = dktX3_letterHere_1 := dk_seg dksX3_letterHere_0 24 rfl rfl
theorem dX3_letterHere_0 : decode cX3_letterHere 0 = .ok (.aload_n 0, 1) := dk_42 (dk_at dksX3_letterHere_0 0 rfl rfl)
theorem dX3_letterHere_1 : decode cX3_letterHere 1 = .ok (.getfield 210, 3) := dk_180 0 210 (dk_at dksX3_letterHere_0 1 rfl rfl)
theorem dX3_letterHere_4 : decode cX3_letterHere 4 = .ok (.aload_n 0, 1) := dk_42 (dk_at dksX3_letterHere_0 4 rfl rfl)
theorem dX3_letterHere_5 : decode cX3_letterHere 5 = .ok (.getfield 213, 3) := dk_180 0 213 (dk_at dksX3_letterHere_0 5 rfl rfl)
theorem dX3_letterHere_8 : decode cX3_letterHere 8 = .ok (.if_icmp .ge 15, 3) := dk_162 0 15 (dk_at dksX3_letterHere_0 8 rfl rfl)
theorem dX3_letterHere_11 : decode cX3_letterHere 11 = .ok (.aload_n 0, 1) := dk_42 (dk_at dksX3_letterHere_0 11 rfl rfl)
theorem dX3_letterHere_12 : decode cX3_letterHere 12 = .ok (.getfield 35, 3) := dk_180 0 35 (dk_at dksX3_letterHere_0 12 rfl rfl)
theorem dX3_letterHere_15 : decode cX3_letterHere 15 = .ok (.aload_n 0, 1) := dk_42 (dk_at dksX3_letterHere_0 15 rfl rfl)
theorem dX3_letterHere_16 : decode cX3_letterHere 16 = .ok (.getfield 210, 3) := dk_180 0 210 (dk_at dksX3_letterHere_0 16 rfl rfl)
theorem dX3_letterHere_19 : decode cX3_letterHere 19 = .ok (.iaload, 1) := dk_46 (dk_at dksX3_letterHere_0 19 rfl rfl)
theorem dX3_letterHere_20 : decode cX3_letterHere 20 = .ok (.goto 4, 3) := dk_167 0 4 (dk_at dksX3_letterHere_0 20 rfl rfl)
theorem dX3_letterHere_23 : decode cX3_letterHere 23 = .ok (.iconst (-1), 1) := dk_2 (dk_at dksX3_letterHere_0 23 rfl rfl)
theorem dX3_letterHere_24 : decode cX3_letterHere 24 = .ok (.ireturn, 1) := dk_172 (dk_at dksX3_letterHere_1 0 rfl rfl)
abbrev cX3_readsHire : ByteArray := prog_26_method_107_code
def yX3_readsHire : MethodName := ⟨RX3, "readsHire", "(I)V"⟩
def dkwX3_readsHire_2 : List UInt8 := [42, 16, 47, 182, 0, 239, 42, 180, 0, 41, 27, 7, 96, 42, 182, 0, 242, 79, 177]
abbrev dktX3_readsHire_2 : List UInt8 := dkwX3_readsHire_2 ++ []
def dkwX3_readsHire_1 : List UInt8 := [96, 42, 182, 0, 225, 79, 42, 16, 32, 182, 0, 239, 42, 180, 0, 41, 27, 6, 96, 42, 182, 0, 242, 79]
abbrev dktX3_readsHire_1 : List UInt8 := dkwX3_readsHire_1 ++ dktX3_readsHire_2
def dkwX3_readsHire_0 : List UInt8 := [42, 180, 0, 41, 27, 4, 96, 42, 182, 0, 225, 79, 42, 16, 32, 182, 0, 239, 42, 180, 0, 41, 27, 5]
abbrev dktX3_readsHire_0 : List UInt8 := dkwX3_readsHire_0 ++ dktX3_readsHire_1
theorem dksX3_readsHire_0 : cX3_readsHire.data.toList.drop 0 = dktX3_readsHire_0 := by decide +kernel
theorem dksX3_readsHire_1 : cX3_readsHire.data.toList.drop 24 = dktX3_readsHire_1 := dk_seg dksX3_readsHire_0 24 rfl rfl
theorem dksX3_readsHire_2 : cX3_readsHire.data.toList.drop 48 = dktX3_readsHire_2 := dk_seg dksX3_readsHire_1 24 rfl rfl
theorem dX3_readsHire_0 : decode cX3_readsHire 0 = .ok (.aload_n 0, 1) := dk_42 (dk_at dksX3_readsHire_0 0 rfl rfl)
theorem dX3_readsHire_1 : decode cX3_readsHire 1 = .ok (.getfield 41, 3) := dk_180 0 41 (dk_at dksX3_readsHire_0 1 rfl rfl)
theorem dX3_readsHire_4 : decode cX3_readsHire 4 = .ok (.iload_n 1, 1) := dk_27 (dk_at dksX3_readsHire_0 4 rfl rfl)
theorem dX3_readsHire_5 : decode cX3_readsHire 5 = .ok (.iconst 1, 1) := dk_4 (dk_at dksX3_readsHire_0 5 rfl rfl)
theorem dX3_readsHire_6 : decode cX3_readsHire 6 = .ok (.iadd, 1) := dk_96 (dk_at dksX3_readsHire_0 6 rfl rfl)
theorem dX3_readsHire_7 : decode cX3_readsHire 7 = .ok (.aload_n 0, 1) := dk_42 (dk_at dksX3_readsHire_0 7 rfl rfl)
theorem dX3_readsHire_8 : decode cX3_readsHire 8 = .ok (.invokevirtual 225, 3) := dk_182 0 225 (dk_at dksX3_readsHire_0 8 rfl rfl)
theorem dX3_readsHire_11 : decode cX3_readsHire 11 = .ok (.iastore, 1) := dk_79 (dk_at dksX3_readsHire_0 11 rfl rfl)
theorem dX3_readsHire_12 : decode cX3_readsHire 12 = .ok (.aload_n 0, 1) := dk_42 (dk_at dksX3_readsHire_0 12 rfl rfl)
theorem dX3_readsHire_13 : decode cX3_readsHire 13 = .ok (.bipush 32, 2) := dk_16 32 (dk_at dksX3_readsHire_0 13 rfl rfl)
theorem dX3_readsHire_15 : decode cX3_readsHire 15 = .ok (.invokevirtual 239, 3) := dk_182 0 239 (dk_at dksX3_readsHire_0 15 rfl rfl)
theorem dX3_readsHire_18 : decode cX3_readsHire 18 = .ok (.aload_n 0, 1) := dk_42 (dk_at dksX3_readsHire_0 18 rfl rfl)
theorem dX3_readsHire_19 : decode cX3_readsHire 19 = .ok (.getfield 41, 3) := dk_180 0 41 (dk_at dksX3_readsHire_0 19 rfl rfl)
theorem dX3_readsHire_22 : decode cX3_readsHire 22 = .ok (.iload_n 1, 1) := dk_27 (dk_at dksX3_readsHire_0 22 rfl rfl)
theorem dX3_readsHire_23 : decode cX3_readsHire 23 = .ok (.iconst 2, 1) := dk_5 (dk_at dksX3_readsHire_0 23 rfl rfl)
theorem dX3_readsHire_24 : decode cX3_readsHire 24 = .ok (.iadd, 1) := dk_96 (dk_at dksX3_readsHire_1 0 rfl rfl)
theorem dX3_readsHire_25 : decode cX3_readsHire 25 = .ok (.aload_n 0, 1) := dk_42 (dk_at dksX3_readsHire_1 1 rfl rfl)
theorem dX3_readsHire_26 : decode cX3_readsHire 26 = .ok (.invokevirtual 225, 3) := dk_182 0 225 (dk_at dksX3_readsHire_1 2 rfl rfl)
theorem dX3_readsHire_29 : decode cX3_readsHire 29 = .ok (.iastore, 1) := dk_79 (dk_at dksX3_readsHire_1 5 rfl rfl)
theorem dX3_readsHire_30 : decode cX3_readsHire 30 = .ok (.aload_n 0, 1) := dk_42 (dk_at dksX3_readsHire_1 6 rfl rfl)
theorem dX3_readsHire_31 : decode cX3_readsHire 31 = .ok (.bipush 32, 2) := dk_16 32 (dk_at dksX3_readsHire_1 7 rfl rfl)
theorem dX3_readsHire_33 : decode cX3_readsHire 33 = .ok (.invokevirtual 239, 3) := dk_182 0 239 (dk_at dksX3_readsHire_1 9 rfl rfl)
theorem dX3_readsHire_36 : decode cX3_readsHire 36 = .ok (.aload_n 0, 1) := dk_42 (dk_at dksX3_readsHire_1 12 rfl rfl)
theorem dX3_readsHire_37 : decode cX3_readsHire 37 = .ok (.getfield 41, 3) := dk_180 0 41 (dk_at dksX3_readsHire_1 13 rfl rfl)
theorem dX3_readsHire_40 : decode cX3_readsHire 40 = .ok (.iload_n 1, 1) := dk_27 (dk_at dksX3_readsHire_1 16 rfl rfl)
theorem dX3_readsHire_41 : decode cX3_readsHire 41 = .ok (.iconst 3, 1) := dk_6 (dk_at dksX3_readsHire_1 17 rfl rfl)
theorem dX3_readsHire_42 : decode cX3_readsHire 42 = .ok (.iadd, 1) := dk_96 (dk_at dksX3_readsHire_1 18 rfl rfl)
theorem dX3_readsHire_43 : decode cX3_readsHire 43 = .ok (.aload_n 0, 1) := dk_42 (dk_at dksX3_readsHire_1 19 rfl rfl)
theorem dX3_readsHire_44 : decode cX3_readsHire 44 = .ok (.invokevirtual 242, 3) := dk_182 0 242 (dk_at dksX3_readsHire_1 20 rfl rfl)
theorem dX3_readsHire_47 : decode cX3_readsHire 47 = .ok (.iastore, 1) := dk_79 (dk_at dksX3_readsHire_1 23 rfl rfl)
theorem dX3_readsHire_48 : decode cX3_readsHire 48 = .ok (.aload_n 0, 1) := dk_42 (dk_at dksX3_readsHire_2 0 rfl rfl)
theorem dX3_readsHire_49 : decode cX3_readsHire 49 = .ok (.bipush 47, 2) := dk_16 47 (dk_at dksX3_readsHire_2 1 rfl rfl)
theorem dX3_readsHire_51 : decode cX3_readsHire 51 = .ok (.invokevirtual 239, 3) := dk_182 0 239 (dk_at dksX3_readsHire_2 3 rfl rfl)
theorem dX3_readsHire_54 : decode cX3_readsHire 54 = .ok (.aload_n 0, 1) := dk_42 (dk_at dksX3_readsHire_2 6 rfl rfl)
theorem dX3_readsHire_55 : decode cX3_readsHire 55 = .ok (.getfield 41, 3) := dk_180 0 41 (dk_at dksX3_readsHire_2 7 rfl rfl)
theorem dX3_readsHire_58 : decode cX3_readsHire 58 = .ok (.iload_n 1, 1) := dk_27 (dk_at dksX3_readsHire_2 10 rfl rfl)
theorem dX3_readsHire_59 : decode cX3_readsHire 59 = .ok (.iconst 4, 1) := dk_7 (dk_at dksX3_readsHire_2 11 rfl rfl)
theorem dX3_readsHire_60 : decode cX3_readsHire 60 = .ok (.iadd, 1) := dk_96 (dk_at dksX3_readsHire_2 12 rfl rfl)
theorem dX3_readsHire_61 : decode cX3_readsHire 61 = .ok (.aload_n 0, 1) := dk_42 (dk_at dksX3_readsHire_2 13 rfl rfl)
theorem dX3_readsHire_62 : decode cX3_readsHire 62 = .ok (.invokevirtual 242, 3) := dk_182 0 242 (dk_at dksX3_readsHire_2 14 rfl rfl)
theorem dX3_readsHire_65 : decode cX3_readsHire 65 = .ok (.iastore, 1) := dk_79 (dk_at dksX3_readsHire_2 17 rfl rfl)
theorem dX3_readsHire_66 : decode cX3_readsHire 66 = .ok (.return_, 1) := dk_177 (dk_at dksX3_readsHire_2 18 rfl rfl)
abbrev cX3_digit : ByteArray := prog_26_method_102_code
def yX3_digit : MethodName := ⟨RX3, "digit", "()I"⟩
def dkwX3_digit_0 : List UInt8 := [42, 16, 48, 16, 57, 182, 0, 222, 172]
abbrev dktX3_digit_0 : List UInt8 := dkwX3_digit_0 ++ []
theorem dksX3_digit_0 : cX3_digit.data.toList.drop 0 = dktX3_digit_0 := by decide +kernel
theorem dX3_digit_0 : decode cX3_digit 0 = .ok (.aload_n 0, 1) := dk_42 (dk_at dksX3_digit_0 0 rfl rfl)
theorem dX3_digit_1 : decode cX3_digit 1 = .ok (.bipush 48, 2) := dk_16 48 (dk_at dksX3_digit_0 1 rfl rfl)
theorem dX3_digit_3 : decode cX3_digit 3 = .ok (.bipush 57, 2) := dk_16 57 (dk_at dksX3_digit_0 3 rfl rfl)
theorem dX3_digit_5 : decode cX3_digit 5 = .ok (.invokevirtual 222, 3) := dk_182 0 222 (dk_at dksX3_digit_0 5 rfl rfl)
theorem dX3_digit_8 : decode cX3_digit 8 = .ok (.ireturn, 1) := dk_172 (dk_at dksX3_digit_0 8 rfl rfl)
abbrev cX3_reads : ByteArray := prog_26_method_101_code
def yX3_reads : MethodName := ⟨RX3, "reads", "(II)I"⟩
def dkwX3_reads_2 : List UInt8 := [180, 0, 216, 2, 160, 0, 10, 42, 180, 0, 210, 167, 0, 7, 42, 180, 0, 216, 181, 0, 216, 3, 172]
abbrev dktX3_reads_2 : List UInt8 := dkwX3_reads_2 ++ []
def dkwX3_reads_1 : List UInt8 := [180, 0, 210, 4, 96, 181, 0, 210, 42, 180, 0, 35, 42, 180, 0, 210, 4, 100, 46, 27, 100, 172, 42, 42]
abbrev dktX3_reads_1 : List UInt8 := dkwX3_reads_1 ++ dktX3_reads_2
def dkwX3_reads_0 : List UInt8 := [42, 180, 0, 216, 2, 160, 0, 39, 42, 182, 0, 219, 27, 28, 184, 0, 69, 153, 0, 27, 42, 89]
abbrev dktX3_reads_0 : List UInt8 := dkwX3_reads_0 ++ dktX3_reads_1
theorem dksX3_reads_0 : cX3_reads.data.toList.drop 0 = dktX3_reads_0 := by decide +kernel
theorem dksX3_reads_1 : cX3_reads.data.toList.drop 22 = dktX3_reads_1 := dk_seg dksX3_reads_0 22 rfl rfl
theorem dksX3_reads_2 : cX3_reads.data.toList.drop 46 = dktX3_reads_2 := dk_seg dksX3_reads_1 24 rfl rfl
theorem dX3_reads_0 : decode cX3_reads 0 = .ok (.aload_n 0, 1) := dk_42 (dk_at dksX3_reads_0 0 rfl rfl)
theorem dX3_reads_1 : decode cX3_reads 1 = .ok (.getfield 216, 3) := dk_180 0 216 (dk_at dksX3_reads_0 1 rfl rfl)
theorem dX3_reads_4 : decode cX3_reads 4 = .ok (.iconst (-1), 1) := dk_2 (dk_at dksX3_reads_0 4 rfl rfl)
theorem dX3_reads_5 : decode cX3_reads 5 = .ok (.if_icmp .ne 39, 3) := dk_160 0 39 (dk_at dksX3_reads_0 5 rfl rfl)
theorem dX3_reads_8 : decode cX3_reads 8 = .ok (.aload_n 0, 1) := dk_42 (dk_at dksX3_reads_0 8 rfl rfl)
theorem dX3_reads_9 : decode cX3_reads 9 = .ok (.invokevirtual 219, 3) := dk_182 0 219 (dk_at dksX3_reads_0 9 rfl rfl)
theorem dX3_reads_12 : decode cX3_reads 12 = .ok (.iload_n 1, 1) := dk_27 (dk_at dksX3_reads_0 12 rfl rfl)
theorem dX3_reads_13 : decode cX3_reads 13 = .ok (.iload_n 2, 1) := dk_28 (dk_at dksX3_reads_0 13 rfl rfl)
theorem dX3_reads_14 : decode cX3_reads 14 = .ok (.invokestatic 69, 3) := dk_184 0 69 (dk_at dksX3_reads_0 14 rfl rfl)
theorem dX3_reads_17 : decode cX3_reads 17 = .ok (.ifCond .eq 27, 3) := dk_153 0 27 (dk_at dksX3_reads_0 17 rfl rfl)
theorem dX3_reads_20 : decode cX3_reads 20 = .ok (.aload_n 0, 1) := dk_42 (dk_at dksX3_reads_0 20 rfl rfl)
theorem dX3_reads_21 : decode cX3_reads 21 = .ok (.dup, 1) := dk_89 (dk_at dksX3_reads_0 21 rfl rfl)
theorem dX3_reads_22 : decode cX3_reads 22 = .ok (.getfield 210, 3) := dk_180 0 210 (dk_at dksX3_reads_1 0 rfl rfl)
theorem dX3_reads_25 : decode cX3_reads 25 = .ok (.iconst 1, 1) := dk_4 (dk_at dksX3_reads_1 3 rfl rfl)
theorem dX3_reads_26 : decode cX3_reads 26 = .ok (.iadd, 1) := dk_96 (dk_at dksX3_reads_1 4 rfl rfl)
theorem dX3_reads_27 : decode cX3_reads 27 = .ok (.putfield 210, 3) := dk_181 0 210 (dk_at dksX3_reads_1 5 rfl rfl)
theorem dX3_reads_30 : decode cX3_reads 30 = .ok (.aload_n 0, 1) := dk_42 (dk_at dksX3_reads_1 8 rfl rfl)
theorem dX3_reads_31 : decode cX3_reads 31 = .ok (.getfield 35, 3) := dk_180 0 35 (dk_at dksX3_reads_1 9 rfl rfl)
theorem dX3_reads_34 : decode cX3_reads 34 = .ok (.aload_n 0, 1) := dk_42 (dk_at dksX3_reads_1 12 rfl rfl)
theorem dX3_reads_35 : decode cX3_reads 35 = .ok (.getfield 210, 3) := dk_180 0 210 (dk_at dksX3_reads_1 13 rfl rfl)
theorem dX3_reads_38 : decode cX3_reads 38 = .ok (.iconst 1, 1) := dk_4 (dk_at dksX3_reads_1 16 rfl rfl)
theorem dX3_reads_39 : decode cX3_reads 39 = .ok (.isub, 1) := dk_100 (dk_at dksX3_reads_1 17 rfl rfl)
theorem dX3_reads_40 : decode cX3_reads 40 = .ok (.iaload, 1) := dk_46 (dk_at dksX3_reads_1 18 rfl rfl)
theorem dX3_reads_41 : decode cX3_reads 41 = .ok (.iload_n 1, 1) := dk_27 (dk_at dksX3_reads_1 19 rfl rfl)
theorem dX3_reads_42 : decode cX3_reads 42 = .ok (.isub, 1) := dk_100 (dk_at dksX3_reads_1 20 rfl rfl)
theorem dX3_reads_43 : decode cX3_reads 43 = .ok (.ireturn, 1) := dk_172 (dk_at dksX3_reads_1 21 rfl rfl)
theorem dX3_reads_44 : decode cX3_reads 44 = .ok (.aload_n 0, 1) := dk_42 (dk_at dksX3_reads_1 22 rfl rfl)
theorem dX3_reads_45 : decode cX3_reads 45 = .ok (.aload_n 0, 1) := dk_42 (dk_at dksX3_reads_1 23 rfl rfl)
theorem dX3_reads_46 : decode cX3_reads 46 = .ok (.getfield 216, 3) := dk_180 0 216 (dk_at dksX3_reads_2 0 rfl rfl)
theorem dX3_reads_49 : decode cX3_reads 49 = .ok (.iconst (-1), 1) := dk_2 (dk_at dksX3_reads_2 3 rfl rfl)
theorem dX3_reads_50 : decode cX3_reads 50 = .ok (.if_icmp .ne 10, 3) := dk_160 0 10 (dk_at dksX3_reads_2 4 rfl rfl)
theorem dX3_reads_53 : decode cX3_reads 53 = .ok (.aload_n 0, 1) := dk_42 (dk_at dksX3_reads_2 7 rfl rfl)
theorem dX3_reads_54 : decode cX3_reads 54 = .ok (.getfield 210, 3) := dk_180 0 210 (dk_at dksX3_reads_2 8 rfl rfl)
theorem dX3_reads_57 : decode cX3_reads 57 = .ok (.goto 7, 3) := dk_167 0 7 (dk_at dksX3_reads_2 11 rfl rfl)
theorem dX3_reads_60 : decode cX3_reads 60 = .ok (.aload_n 0, 1) := dk_42 (dk_at dksX3_reads_2 14 rfl rfl)
theorem dX3_reads_61 : decode cX3_reads 61 = .ok (.getfield 216, 3) := dk_180 0 216 (dk_at dksX3_reads_2 15 rfl rfl)
theorem dX3_reads_64 : decode cX3_reads 64 = .ok (.putfield 216, 3) := dk_181 0 216 (dk_at dksX3_reads_2 18 rfl rfl)
theorem dX3_reads_67 : decode cX3_reads 67 = .ok (.iconst 0, 1) := dk_3 (dk_at dksX3_reads_2 21 rfl rfl)
theorem dX3_reads_68 : decode cX3_reads 68 = .ok (.ireturn, 1) := dk_172 (dk_at dksX3_reads_2 22 rfl rfl)
abbrev cX3_sign : ByteArray := prog_26_method_104_code
def yX3_sign : MethodName := ⟨RX3, "sign", "(I)V"⟩
def dkwX3_sign_0 : List UInt8 := [42, 27, 27, 182, 0, 222, 61, 177]
abbrev dktX3_sign_0 : List UInt8 := dkwX3_sign_0 ++ []
theorem dksX3_sign_0 : cX3_sign.data.toList.drop 0 = dktX3_sign_0 := by decide +kernel
theorem dX3_sign_0 : decode cX3_sign 0 = .ok (.aload_n 0, 1) := dk_42 (dk_at dksX3_sign_0 0 rfl rfl)
theorem dX3_sign_1 : decode cX3_sign 1 = .ok (.iload_n 1, 1) := dk_27 (dk_at dksX3_sign_0 1 rfl rfl)
theorem dX3_sign_2 : decode cX3_sign 2 = .ok (.iload_n 1, 1) := dk_27 (dk_at dksX3_sign_0 2 rfl rfl)
theorem dX3_sign_3 : decode cX3_sign 3 = .ok (.invokevirtual 222, 3) := dk_182 0 222 (dk_at dksX3_sign_0 3 rfl rfl)
theorem dX3_sign_6 : decode cX3_sign 6 = .ok (.istore_n 2, 1) := dk_61 (dk_at dksX3_sign_0 6 rfl rfl)
theorem dX3_sign_7 : decode cX3_sign 7 = .ok (.return_, 1) := dk_177 (dk_at dksX3_sign_0 7 rfl rfl)
abbrev cX3_number : ByteArray := prog_26_method_103_code
def yX3_number : MethodName := ⟨RX3, "number", "()I"⟩
def dkwX3_number_2 : List UInt8 := [167, 255, 216, 27, 172]
abbrev dktX3_number_2 : List UInt8 := dkwX3_number_2 ++ []
def dkwX3_number_1 : List UInt8 := [16, 48, 16, 57, 184, 0, 69, 153, 0, 19, 16, 10, 27, 104, 42, 182, 0, 225, 96, 60, 132, 2, 1]
abbrev dktX3_number_1 : List UInt8 := dkwX3_number_1 ++ dktX3_number_2
def dkwX3_number_0 : List UInt8 := [42, 182, 0, 225, 60, 4, 61, 28, 6, 162, 0, 41, 42, 180, 0, 216, 2, 160, 0, 33, 42, 182, 0, 219]
abbrev dktX3_number_0 : List UInt8 := dkwX3_number_0 ++ dktX3_number_1
theorem dksX3_number_0 : cX3_number.data.toList.drop 0 = dktX3_number_0 := by decide +kernel
theorem dksX3_number_1 : cX3_number.data.toList.drop 24 = dktX3_number_1 := dk_seg dksX3_number_0 24 rfl rfl
theorem dksX3_number_2 : cX3_number.data.toList.drop 47 = dktX3_number_2 := dk_seg dksX3_number_1 23 rfl rfl
theorem dX3_number_0 : decode cX3_number 0 = .ok (.aload_n 0, 1) := dk_42 (dk_at dksX3_number_0 0 rfl rfl)
theorem dX3_number_1 : decode cX3_number 1 = .ok (.invokevirtual 225, 3) := dk_182 0 225 (dk_at dksX3_number_0 1 rfl rfl)
theorem dX3_number_4 : decode cX3_number 4 = .ok (.istore_n 1, 1) := dk_60 (dk_at dksX3_number_0 4 rfl rfl)
theorem dX3_number_5 : decode cX3_number 5 = .ok (.iconst 1, 1) := dk_4 (dk_at dksX3_number_0 5 rfl rfl)
theorem dX3_number_6 : decode cX3_number 6 = .ok (.istore_n 2, 1) := dk_61 (dk_at dksX3_number_0 6 rfl rfl)
theorem dX3_number_7 : decode cX3_number 7 = .ok (.iload_n 2, 1) := dk_28 (dk_at dksX3_number_0 7 rfl rfl)
theorem dX3_number_8 : decode cX3_number 8 = .ok (.iconst 3, 1) := dk_6 (dk_at dksX3_number_0 8 rfl rfl)
theorem dX3_number_9 : decode cX3_number 9 = .ok (.if_icmp .ge 41, 3) := dk_162 0 41 (dk_at dksX3_number_0 9 rfl rfl)
theorem dX3_number_12 : decode cX3_number 12 = .ok (.aload_n 0, 1) := dk_42 (dk_at dksX3_number_0 12 rfl rfl)
theorem dX3_number_13 : decode cX3_number 13 = .ok (.getfield 216, 3) := dk_180 0 216 (dk_at dksX3_number_0 13 rfl rfl)
theorem dX3_number_16 : decode cX3_number 16 = .ok (.iconst (-1), 1) := dk_2 (dk_at dksX3_number_0 16 rfl rfl)
theorem dX3_number_17 : decode cX3_number 17 = .ok (.if_icmp .ne 33, 3) := dk_160 0 33 (dk_at dksX3_number_0 17 rfl rfl)
theorem dX3_number_20 : decode cX3_number 20 = .ok (.aload_n 0, 1) := dk_42 (dk_at dksX3_number_0 20 rfl rfl)
theorem dX3_number_21 : decode cX3_number 21 = .ok (.invokevirtual 219, 3) := dk_182 0 219 (dk_at dksX3_number_0 21 rfl rfl)
theorem dX3_number_24 : decode cX3_number 24 = .ok (.bipush 48, 2) := dk_16 48 (dk_at dksX3_number_1 0 rfl rfl)
theorem dX3_number_26 : decode cX3_number 26 = .ok (.bipush 57, 2) := dk_16 57 (dk_at dksX3_number_1 2 rfl rfl)
theorem dX3_number_28 : decode cX3_number 28 = .ok (.invokestatic 69, 3) := dk_184 0 69 (dk_at dksX3_number_1 4 rfl rfl)
theorem dX3_number_31 : decode cX3_number 31 = .ok (.ifCond .eq 19, 3) := dk_153 0 19 (dk_at dksX3_number_1 7 rfl rfl)
theorem dX3_number_34 : decode cX3_number 34 = .ok (.bipush 10, 2) := dk_16 10 (dk_at dksX3_number_1 10 rfl rfl)
theorem dX3_number_36 : decode cX3_number 36 = .ok (.iload_n 1, 1) := dk_27 (dk_at dksX3_number_1 12 rfl rfl)
theorem dX3_number_37 : decode cX3_number 37 = .ok (.imul, 1) := dk_104 (dk_at dksX3_number_1 13 rfl rfl)
theorem dX3_number_38 : decode cX3_number 38 = .ok (.aload_n 0, 1) := dk_42 (dk_at dksX3_number_1 14 rfl rfl)
theorem dX3_number_39 : decode cX3_number 39 = .ok (.invokevirtual 225, 3) := dk_182 0 225 (dk_at dksX3_number_1 15 rfl rfl)
theorem dX3_number_42 : decode cX3_number 42 = .ok (.iadd, 1) := dk_96 (dk_at dksX3_number_1 18 rfl rfl)
theorem dX3_number_43 : decode cX3_number 43 = .ok (.istore_n 1, 1) := dk_60 (dk_at dksX3_number_1 19 rfl rfl)
theorem dX3_number_44 : decode cX3_number 44 = .ok (.iinc 2 1, 3) := dk_132 2 1 (dk_at dksX3_number_1 20 rfl rfl)
theorem dX3_number_47 : decode cX3_number 47 = .ok (.goto (-40), 3) := dk_167 255 216 (dk_at dksX3_number_2 0 rfl rfl)
theorem dX3_number_50 : decode cX3_number 50 = .ok (.iload_n 1, 1) := dk_27 (dk_at dksX3_number_2 3 rfl rfl)
theorem dX3_number_51 : decode cX3_number 51 = .ok (.ireturn, 1) := dk_172 (dk_at dksX3_number_2 4 rfl rfl)
abbrev cX3_does : ByteArray := prog_26_method_110_code
def yX3_does : MethodName := ⟨RX3, "does", "(I)I"⟩
def dkwX3_does_6 : List UInt8 := [42, 28, 182, 0, 148, 172, 42, 28, 182, 0, 151, 172, 42, 28, 182, 0, 172, 172]
abbrev dktX3_does_6 : List UInt8 := dkwX3_does_6 ++ []
def dkwX3_does_5 : List UInt8 := [180, 0, 41, 27, 46, 100, 182, 0, 118, 172, 42, 28, 42, 180, 0, 41, 27, 5, 96, 46, 182, 0, 145, 172]
abbrev dktX3_does_5 : List UInt8 := dkwX3_does_5 ++ dktX3_does_6
def dkwX3_does_4 : List UInt8 := [180, 0, 41, 27, 7, 96, 46, 182, 0, 128, 172, 42, 28, 182, 0, 142, 172, 42, 28, 16, 7, 42]
abbrev dktX3_does_4 : List UInt8 := dkwX3_does_4 ++ dktX3_does_5
def dkwX3_does_3 : List UInt8 := [182, 0, 115, 172, 42, 28, 42, 180, 0, 41, 27, 5, 96, 46, 42, 180, 0, 41, 27, 6, 96, 46, 42]
abbrev dktX3_does_3 : List UInt8 := dkwX3_does_3 ++ dktX3_does_4
def dkwX3_does_2 : List UInt8 := [42, 28, 182, 0, 105, 172, 42, 28, 182, 0, 112, 172, 42, 28, 6, 42, 180, 0, 41, 27, 46, 100]
abbrev dktX3_does_2 : List UInt8 := dkwX3_does_2 ++ dktX3_does_3
def dkwX3_does_1 : List UInt8 := [170, 0, 0, 0, 160, 0, 0, 0, 0, 0, 0, 0, 10, 0, 0, 0, 57, 0, 0, 0, 63, 0, 0, 0, 69, 0, 0, 0, 69, 0, 0, 0, 83, 0, 0, 0, 113, 0, 0, 0, 119, 0, 0, 0, 119, 0, 0, 0, 134, 0, 0, 0, 148, 0, 0, 0, 154]
abbrev dktX3_does_1 : List UInt8 := dkwX3_does_1 ++ dktX3_does_2
def dkwX3_does_0 : List UInt8 := [42, 180, 0, 41, 27, 4, 96, 46, 61, 42, 180, 0, 41, 27, 46]
abbrev dktX3_does_0 : List UInt8 := dkwX3_does_0 ++ dktX3_does_1
theorem dksX3_does_0 : cX3_does.data.toList.drop 0 = dktX3_does_0 := by decide +kernel
theorem dksX3_does_1 : cX3_does.data.toList.drop 15 = dktX3_does_1 := dk_seg dksX3_does_0 15 rfl rfl
theorem dksX3_does_2 : cX3_does.data.toList.drop 72 = dktX3_does_2 := dk_seg dksX3_does_1 57 rfl rfl
theorem dksX3_does_3 : cX3_does.data.toList.drop 94 = dktX3_does_3 := dk_seg dksX3_does_2 22 rfl rfl
theorem dksX3_does_4 : cX3_does.data.toList.drop 117 = dktX3_does_4 := dk_seg dksX3_does_3 23 rfl rfl
theorem dksX3_does_5 : cX3_does.data.toList.drop 139 = dktX3_does_5 := dk_seg dksX3_does_4 22 rfl rfl
theorem dksX3_does_6 : cX3_does.data.toList.drop 163 = dktX3_does_6 := dk_seg dksX3_does_5 24 rfl rfl
theorem dX3_does_0 : decode cX3_does 0 = .ok (.aload_n 0, 1) := dk_42 (dk_at dksX3_does_0 0 rfl rfl)
theorem dX3_does_1 : decode cX3_does 1 = .ok (.getfield 41, 3) := dk_180 0 41 (dk_at dksX3_does_0 1 rfl rfl)
theorem dX3_does_4 : decode cX3_does 4 = .ok (.iload_n 1, 1) := dk_27 (dk_at dksX3_does_0 4 rfl rfl)
theorem dX3_does_5 : decode cX3_does 5 = .ok (.iconst 1, 1) := dk_4 (dk_at dksX3_does_0 5 rfl rfl)
theorem dX3_does_6 : decode cX3_does 6 = .ok (.iadd, 1) := dk_96 (dk_at dksX3_does_0 6 rfl rfl)
theorem dX3_does_7 : decode cX3_does 7 = .ok (.iaload, 1) := dk_46 (dk_at dksX3_does_0 7 rfl rfl)
theorem dX3_does_8 : decode cX3_does 8 = .ok (.istore_n 2, 1) := dk_61 (dk_at dksX3_does_0 8 rfl rfl)
theorem dX3_does_9 : decode cX3_does 9 = .ok (.aload_n 0, 1) := dk_42 (dk_at dksX3_does_0 9 rfl rfl)
theorem dX3_does_10 : decode cX3_does 10 = .ok (.getfield 41, 3) := dk_180 0 41 (dk_at dksX3_does_0 10 rfl rfl)
theorem dX3_does_13 : decode cX3_does 13 = .ok (.iload_n 1, 1) := dk_27 (dk_at dksX3_does_0 13 rfl rfl)
theorem dX3_does_14 : decode cX3_does 14 = .ok (.iaload, 1) := dk_46 (dk_at dksX3_does_0 14 rfl rfl)
theorem dX3_does_15 : decode cX3_does 15 = .ok (.tableswitch 160 0 10 #[57, 63, 69, 69, 83, 113, 119, 119, 134, 148, 154], 57) := by decide +kernel
theorem dX3_does_72 : decode cX3_does 72 = .ok (.aload_n 0, 1) := dk_42 (dk_at dksX3_does_2 0 rfl rfl)
theorem dX3_does_73 : decode cX3_does 73 = .ok (.iload_n 2, 1) := dk_28 (dk_at dksX3_does_2 1 rfl rfl)
theorem dX3_does_74 : decode cX3_does 74 = .ok (.invokevirtual 105, 3) := dk_182 0 105 (dk_at dksX3_does_2 2 rfl rfl)
theorem dX3_does_77 : decode cX3_does 77 = .ok (.ireturn, 1) := dk_172 (dk_at dksX3_does_2 5 rfl rfl)
theorem dX3_does_78 : decode cX3_does 78 = .ok (.aload_n 0, 1) := dk_42 (dk_at dksX3_does_2 6 rfl rfl)
theorem dX3_does_79 : decode cX3_does 79 = .ok (.iload_n 2, 1) := dk_28 (dk_at dksX3_does_2 7 rfl rfl)
theorem dX3_does_80 : decode cX3_does 80 = .ok (.invokevirtual 112, 3) := dk_182 0 112 (dk_at dksX3_does_2 8 rfl rfl)
theorem dX3_does_83 : decode cX3_does 83 = .ok (.ireturn, 1) := dk_172 (dk_at dksX3_does_2 11 rfl rfl)
theorem dX3_does_84 : decode cX3_does 84 = .ok (.aload_n 0, 1) := dk_42 (dk_at dksX3_does_2 12 rfl rfl)
theorem dX3_does_85 : decode cX3_does 85 = .ok (.iload_n 2, 1) := dk_28 (dk_at dksX3_does_2 13 rfl rfl)
theorem dX3_does_86 : decode cX3_does 86 = .ok (.iconst 3, 1) := dk_6 (dk_at dksX3_does_2 14 rfl rfl)
theorem dX3_does_87 : decode cX3_does 87 = .ok (.aload_n 0, 1) := dk_42 (dk_at dksX3_does_2 15 rfl rfl)
theorem dX3_does_88 : decode cX3_does 88 = .ok (.getfield 41, 3) := dk_180 0 41 (dk_at dksX3_does_2 16 rfl rfl)
theorem dX3_does_91 : decode cX3_does 91 = .ok (.iload_n 1, 1) := dk_27 (dk_at dksX3_does_2 19 rfl rfl)
theorem dX3_does_92 : decode cX3_does 92 = .ok (.iaload, 1) := dk_46 (dk_at dksX3_does_2 20 rfl rfl)
theorem dX3_does_93 : decode cX3_does 93 = .ok (.isub, 1) := dk_100 (dk_at dksX3_does_2 21 rfl rfl)
theorem dX3_does_94 : decode cX3_does 94 = .ok (.invokevirtual 115, 3) := dk_182 0 115 (dk_at dksX3_does_3 0 rfl rfl)
theorem dX3_does_97 : decode cX3_does 97 = .ok (.ireturn, 1) := dk_172 (dk_at dksX3_does_3 3 rfl rfl)
theorem dX3_does_98 : decode cX3_does 98 = .ok (.aload_n 0, 1) := dk_42 (dk_at dksX3_does_3 4 rfl rfl)
theorem dX3_does_99 : decode cX3_does 99 = .ok (.iload_n 2, 1) := dk_28 (dk_at dksX3_does_3 5 rfl rfl)
theorem dX3_does_100 : decode cX3_does 100 = .ok (.aload_n 0, 1) := dk_42 (dk_at dksX3_does_3 6 rfl rfl)
theorem dX3_does_101 : decode cX3_does 101 = .ok (.getfield 41, 3) := dk_180 0 41 (dk_at dksX3_does_3 7 rfl rfl)
theorem dX3_does_104 : decode cX3_does 104 = .ok (.iload_n 1, 1) := dk_27 (dk_at dksX3_does_3 10 rfl rfl)
theorem dX3_does_105 : decode cX3_does 105 = .ok (.iconst 2, 1) := dk_5 (dk_at dksX3_does_3 11 rfl rfl)
theorem dX3_does_106 : decode cX3_does 106 = .ok (.iadd, 1) := dk_96 (dk_at dksX3_does_3 12 rfl rfl)
theorem dX3_does_107 : decode cX3_does 107 = .ok (.iaload, 1) := dk_46 (dk_at dksX3_does_3 13 rfl rfl)
theorem dX3_does_108 : decode cX3_does 108 = .ok (.aload_n 0, 1) := dk_42 (dk_at dksX3_does_3 14 rfl rfl)
theorem dX3_does_109 : decode cX3_does 109 = .ok (.getfield 41, 3) := dk_180 0 41 (dk_at dksX3_does_3 15 rfl rfl)
theorem dX3_does_112 : decode cX3_does 112 = .ok (.iload_n 1, 1) := dk_27 (dk_at dksX3_does_3 18 rfl rfl)
theorem dX3_does_113 : decode cX3_does 113 = .ok (.iconst 3, 1) := dk_6 (dk_at dksX3_does_3 19 rfl rfl)
theorem dX3_does_114 : decode cX3_does 114 = .ok (.iadd, 1) := dk_96 (dk_at dksX3_does_3 20 rfl rfl)
theorem dX3_does_115 : decode cX3_does 115 = .ok (.iaload, 1) := dk_46 (dk_at dksX3_does_3 21 rfl rfl)
theorem dX3_does_116 : decode cX3_does 116 = .ok (.aload_n 0, 1) := dk_42 (dk_at dksX3_does_3 22 rfl rfl)
theorem dX3_does_117 : decode cX3_does 117 = .ok (.getfield 41, 3) := dk_180 0 41 (dk_at dksX3_does_4 0 rfl rfl)
theorem dX3_does_120 : decode cX3_does 120 = .ok (.iload_n 1, 1) := dk_27 (dk_at dksX3_does_4 3 rfl rfl)
theorem dX3_does_121 : decode cX3_does 121 = .ok (.iconst 4, 1) := dk_7 (dk_at dksX3_does_4 4 rfl rfl)
theorem dX3_does_122 : decode cX3_does 122 = .ok (.iadd, 1) := dk_96 (dk_at dksX3_does_4 5 rfl rfl)
theorem dX3_does_123 : decode cX3_does 123 = .ok (.iaload, 1) := dk_46 (dk_at dksX3_does_4 6 rfl rfl)
theorem dX3_does_124 : decode cX3_does 124 = .ok (.invokevirtual 128, 3) := dk_182 0 128 (dk_at dksX3_does_4 7 rfl rfl)
theorem dX3_does_127 : decode cX3_does 127 = .ok (.ireturn, 1) := dk_172 (dk_at dksX3_does_4 10 rfl rfl)
theorem dX3_does_128 : decode cX3_does 128 = .ok (.aload_n 0, 1) := dk_42 (dk_at dksX3_does_4 11 rfl rfl)
theorem dX3_does_129 : decode cX3_does 129 = .ok (.iload_n 2, 1) := dk_28 (dk_at dksX3_does_4 12 rfl rfl)
theorem dX3_does_130 : decode cX3_does 130 = .ok (.invokevirtual 142, 3) := dk_182 0 142 (dk_at dksX3_does_4 13 rfl rfl)
theorem dX3_does_133 : decode cX3_does 133 = .ok (.ireturn, 1) := dk_172 (dk_at dksX3_does_4 16 rfl rfl)
theorem dX3_does_134 : decode cX3_does 134 = .ok (.aload_n 0, 1) := dk_42 (dk_at dksX3_does_4 17 rfl rfl)
theorem dX3_does_135 : decode cX3_does 135 = .ok (.iload_n 2, 1) := dk_28 (dk_at dksX3_does_4 18 rfl rfl)
theorem dX3_does_136 : decode cX3_does 136 = .ok (.bipush 7, 2) := dk_16 7 (dk_at dksX3_does_4 19 rfl rfl)
theorem dX3_does_138 : decode cX3_does 138 = .ok (.aload_n 0, 1) := dk_42 (dk_at dksX3_does_4 21 rfl rfl)
theorem dX3_does_139 : decode cX3_does 139 = .ok (.getfield 41, 3) := dk_180 0 41 (dk_at dksX3_does_5 0 rfl rfl)
theorem dX3_does_142 : decode cX3_does 142 = .ok (.iload_n 1, 1) := dk_27 (dk_at dksX3_does_5 3 rfl rfl)
theorem dX3_does_143 : decode cX3_does 143 = .ok (.iaload, 1) := dk_46 (dk_at dksX3_does_5 4 rfl rfl)
theorem dX3_does_144 : decode cX3_does 144 = .ok (.isub, 1) := dk_100 (dk_at dksX3_does_5 5 rfl rfl)
theorem dX3_does_145 : decode cX3_does 145 = .ok (.invokevirtual 118, 3) := dk_182 0 118 (dk_at dksX3_does_5 6 rfl rfl)
theorem dX3_does_148 : decode cX3_does 148 = .ok (.ireturn, 1) := dk_172 (dk_at dksX3_does_5 9 rfl rfl)
theorem dX3_does_149 : decode cX3_does 149 = .ok (.aload_n 0, 1) := dk_42 (dk_at dksX3_does_5 10 rfl rfl)
theorem dX3_does_150 : decode cX3_does 150 = .ok (.iload_n 2, 1) := dk_28 (dk_at dksX3_does_5 11 rfl rfl)
theorem dX3_does_151 : decode cX3_does 151 = .ok (.aload_n 0, 1) := dk_42 (dk_at dksX3_does_5 12 rfl rfl)
theorem dX3_does_152 : decode cX3_does 152 = .ok (.getfield 41, 3) := dk_180 0 41 (dk_at dksX3_does_5 13 rfl rfl)
theorem dX3_does_155 : decode cX3_does 155 = .ok (.iload_n 1, 1) := dk_27 (dk_at dksX3_does_5 16 rfl rfl)
theorem dX3_does_156 : decode cX3_does 156 = .ok (.iconst 2, 1) := dk_5 (dk_at dksX3_does_5 17 rfl rfl)
theorem dX3_does_157 : decode cX3_does 157 = .ok (.iadd, 1) := dk_96 (dk_at dksX3_does_5 18 rfl rfl)
theorem dX3_does_158 : decode cX3_does 158 = .ok (.iaload, 1) := dk_46 (dk_at dksX3_does_5 19 rfl rfl)
theorem dX3_does_159 : decode cX3_does 159 = .ok (.invokevirtual 145, 3) := dk_182 0 145 (dk_at dksX3_does_5 20 rfl rfl)
theorem dX3_does_162 : decode cX3_does 162 = .ok (.ireturn, 1) := dk_172 (dk_at dksX3_does_5 23 rfl rfl)
theorem dX3_does_163 : decode cX3_does 163 = .ok (.aload_n 0, 1) := dk_42 (dk_at dksX3_does_6 0 rfl rfl)
theorem dX3_does_164 : decode cX3_does 164 = .ok (.iload_n 2, 1) := dk_28 (dk_at dksX3_does_6 1 rfl rfl)
theorem dX3_does_165 : decode cX3_does 165 = .ok (.invokevirtual 148, 3) := dk_182 0 148 (dk_at dksX3_does_6 2 rfl rfl)
theorem dX3_does_168 : decode cX3_does 168 = .ok (.ireturn, 1) := dk_172 (dk_at dksX3_does_6 5 rfl rfl)
theorem dX3_does_169 : decode cX3_does 169 = .ok (.aload_n 0, 1) := dk_42 (dk_at dksX3_does_6 6 rfl rfl)
theorem dX3_does_170 : decode cX3_does 170 = .ok (.iload_n 2, 1) := dk_28 (dk_at dksX3_does_6 7 rfl rfl)
theorem dX3_does_171 : decode cX3_does 171 = .ok (.invokevirtual 151, 3) := dk_182 0 151 (dk_at dksX3_does_6 8 rfl rfl)
theorem dX3_does_174 : decode cX3_does 174 = .ok (.ireturn, 1) := dk_172 (dk_at dksX3_does_6 11 rfl rfl)
theorem dX3_does_175 : decode cX3_does 175 = .ok (.aload_n 0, 1) := dk_42 (dk_at dksX3_does_6 12 rfl rfl)
theorem dX3_does_176 : decode cX3_does 176 = .ok (.iload_n 2, 1) := dk_28 (dk_at dksX3_does_6 13 rfl rfl)
theorem dX3_does_177 : decode cX3_does 177 = .ok (.invokevirtual 172, 3) := dk_182 0 172 (dk_at dksX3_does_6 14 rfl rfl)
theorem dX3_does_180 : decode cX3_does 180 = .ok (.ireturn, 1) := dk_172 (dk_at dksX3_does_6 17 rfl rfl)
abbrev cX3_errorPosition : ByteArray := prog_26_method_112_code
def yX3_errorPosition : MethodName := ⟨RX3, "errorPosition", "()I"⟩
def dkwX3_errorPosition_1 : List UInt8 := [167, 0, 4, 3, 172]
abbrev dktX3_errorPosition_1 : List UInt8 := dkwX3_errorPosition_1 ++ []
def dkwX3_errorPosition_0 : List UInt8 := [42, 42, 180, 0, 25, 2, 159, 0, 7, 4, 167, 0, 4, 3, 182, 0, 61, 153, 0, 10, 42, 180, 0, 25]
abbrev dktX3_errorPosition_0 : List UInt8 := dkwX3_errorPosition_0 ++ dktX3_errorPosition_1
theorem dksX3_errorPosition_0 : cX3_errorPosition.data.toList.drop 0 = dktX3_errorPosition_0 := by decide +kernel
theorem dksX3_errorPosition_1 : cX3_errorPosition.data.toList.drop 24 = dktX3_errorPosition_1 := dk_seg dksX3_errorPosition_0 24 rfl rfl
theorem dX3_errorPosition_0 : decode cX3_errorPosition 0 = .ok (.aload_n 0, 1) := dk_42 (dk_at dksX3_errorPosition_0 0 rfl rfl)
theorem dX3_errorPosition_1 : decode cX3_errorPosition 1 = .ok (.aload_n 0, 1) := dk_42 (dk_at dksX3_errorPosition_0 1 rfl rfl)
theorem dX3_errorPosition_2 : decode cX3_errorPosition 2 = .ok (.getfield 25, 3) := dk_180 0 25 (dk_at dksX3_errorPosition_0 2 rfl rfl)
theorem dX3_errorPosition_5 : decode cX3_errorPosition 5 = .ok (.iconst (-1), 1) := dk_2 (dk_at dksX3_errorPosition_0 5 rfl rfl)
theorem dX3_errorPosition_6 : decode cX3_errorPosition 6 = .ok (.if_icmp .eq 7, 3) := dk_159 0 7 (dk_at dksX3_errorPosition_0 6 rfl rfl)
theorem dX3_errorPosition_9 : decode cX3_errorPosition 9 = .ok (.iconst 1, 1) := dk_4 (dk_at dksX3_errorPosition_0 9 rfl rfl)
theorem dX3_errorPosition_10 : decode cX3_errorPosition 10 = .ok (.goto 4, 3) := dk_167 0 4 (dk_at dksX3_errorPosition_0 10 rfl rfl)
theorem dX3_errorPosition_13 : decode cX3_errorPosition 13 = .ok (.iconst 0, 1) := dk_3 (dk_at dksX3_errorPosition_0 13 rfl rfl)
theorem dX3_errorPosition_14 : decode cX3_errorPosition 14 = .ok (.invokevirtual 61, 3) := dk_182 0 61 (dk_at dksX3_errorPosition_0 14 rfl rfl)
theorem dX3_errorPosition_17 : decode cX3_errorPosition 17 = .ok (.ifCond .eq 10, 3) := dk_153 0 10 (dk_at dksX3_errorPosition_0 17 rfl rfl)
theorem dX3_errorPosition_20 : decode cX3_errorPosition 20 = .ok (.aload_n 0, 1) := dk_42 (dk_at dksX3_errorPosition_0 20 rfl rfl)
theorem dX3_errorPosition_21 : decode cX3_errorPosition 21 = .ok (.getfield 25, 3) := dk_180 0 25 (dk_at dksX3_errorPosition_0 21 rfl rfl)
theorem dX3_errorPosition_24 : decode cX3_errorPosition 24 = .ok (.goto 4, 3) := dk_167 0 4 (dk_at dksX3_errorPosition_1 0 rfl rfl)
theorem dX3_errorPosition_27 : decode cX3_errorPosition 27 = .ok (.iconst 0, 1) := dk_3 (dk_at dksX3_errorPosition_1 3 rfl rfl)
theorem dX3_errorPosition_28 : decode cX3_errorPosition 28 = .ok (.ireturn, 1) := dk_172 (dk_at dksX3_errorPosition_1 4 rfl rfl)
abbrev cX3_failedCommand : ByteArray := prog_26_method_113_code
def yX3_failedCommand : MethodName := ⟨RX3, "failedCommand", "()I"⟩
def dkwX3_failedCommand_1 : List UInt8 := [167, 0, 4, 3, 172]
abbrev dktX3_failedCommand_1 : List UInt8 := dkwX3_failedCommand_1 ++ []
def dkwX3_failedCommand_0 : List UInt8 := [42, 42, 180, 0, 29, 2, 159, 0, 7, 4, 167, 0, 4, 3, 182, 0, 61, 153, 0, 10, 42, 180, 0, 29]
abbrev dktX3_failedCommand_0 : List UInt8 := dkwX3_failedCommand_0 ++ dktX3_failedCommand_1
theorem dksX3_failedCommand_0 : cX3_failedCommand.data.toList.drop 0 = dktX3_failedCommand_0 := by decide +kernel
theorem dksX3_failedCommand_1 : cX3_failedCommand.data.toList.drop 24 = dktX3_failedCommand_1 := dk_seg dksX3_failedCommand_0 24 rfl rfl
theorem dX3_failedCommand_0 : decode cX3_failedCommand 0 = .ok (.aload_n 0, 1) := dk_42 (dk_at dksX3_failedCommand_0 0 rfl rfl)
theorem dX3_failedCommand_1 : decode cX3_failedCommand 1 = .ok (.aload_n 0, 1) := dk_42 (dk_at dksX3_failedCommand_0 1 rfl rfl)
theorem dX3_failedCommand_2 : decode cX3_failedCommand 2 = .ok (.getfield 29, 3) := dk_180 0 29 (dk_at dksX3_failedCommand_0 2 rfl rfl)
theorem dX3_failedCommand_5 : decode cX3_failedCommand 5 = .ok (.iconst (-1), 1) := dk_2 (dk_at dksX3_failedCommand_0 5 rfl rfl)
theorem dX3_failedCommand_6 : decode cX3_failedCommand 6 = .ok (.if_icmp .eq 7, 3) := dk_159 0 7 (dk_at dksX3_failedCommand_0 6 rfl rfl)
theorem dX3_failedCommand_9 : decode cX3_failedCommand 9 = .ok (.iconst 1, 1) := dk_4 (dk_at dksX3_failedCommand_0 9 rfl rfl)
theorem dX3_failedCommand_10 : decode cX3_failedCommand 10 = .ok (.goto 4, 3) := dk_167 0 4 (dk_at dksX3_failedCommand_0 10 rfl rfl)
theorem dX3_failedCommand_13 : decode cX3_failedCommand 13 = .ok (.iconst 0, 1) := dk_3 (dk_at dksX3_failedCommand_0 13 rfl rfl)
theorem dX3_failedCommand_14 : decode cX3_failedCommand 14 = .ok (.invokevirtual 61, 3) := dk_182 0 61 (dk_at dksX3_failedCommand_0 14 rfl rfl)
theorem dX3_failedCommand_17 : decode cX3_failedCommand 17 = .ok (.ifCond .eq 10, 3) := dk_153 0 10 (dk_at dksX3_failedCommand_0 17 rfl rfl)
theorem dX3_failedCommand_20 : decode cX3_failedCommand 20 = .ok (.aload_n 0, 1) := dk_42 (dk_at dksX3_failedCommand_0 20 rfl rfl)
theorem dX3_failedCommand_21 : decode cX3_failedCommand 21 = .ok (.getfield 29, 3) := dk_180 0 29 (dk_at dksX3_failedCommand_0 21 rfl rfl)
theorem dX3_failedCommand_24 : decode cX3_failedCommand 24 = .ok (.goto 4, 3) := dk_167 0 4 (dk_at dksX3_failedCommand_1 0 rfl rfl)
theorem dX3_failedCommand_27 : decode cX3_failedCommand 27 = .ok (.iconst 0, 1) := dk_3 (dk_at dksX3_failedCommand_1 3 rfl rfl)
theorem dX3_failedCommand_28 : decode cX3_failedCommand 28 = .ok (.ireturn, 1) := dk_172 (dk_at dksX3_failedCommand_1 4 rfl rfl)
theorem q105 : (Jvm.Cond.initialized "GoblinHouseholdModel") ∈ lw_all := lw_g (lw_at lw_m1 12 rfl) rfl
theorem q997 : (Jvm.Cond.selects "GoblinHouseholdModel" ({ cls := "java/lang/Object", name := "getClass", desc := "()Ljava/lang/Class;" } : Jvm.MethodName) ({ cls := "java/lang/Object", name := "getClass", desc := "()Ljava/lang/Class;" } : Jvm.MethodName)) ∈ lw_all := lw_g (lw_at lw_m4 184 rfl) rfl
theorem q1514 : (Jvm.Cond.selects "GoblinHouseholdModel" ({ cls := "java/lang/Object", name := "equals", desc := "(Ljava/lang/Object;)Z" } : Jvm.MethodName) ({ cls := "java/lang/Object", name := "equals", desc := "(Ljava/lang/Object;)Z" } : Jvm.MethodName)) ∈ lw_all := lw_g (lw_at lw_m6 221 rfl) rfl
theorem q2168 : (Jvm.Cond.selects "GoblinHouseholdModel" ({ cls := "java/lang/Object", name := "toString", desc := "()Ljava/lang/String;" } : Jvm.MethodName) ({ cls := "java/lang/Object", name := "toString", desc := "()Ljava/lang/String;" } : Jvm.MethodName)) ∈ lw_all := lw_g (lw_at lw_m9 155 rfl) rfl
theorem q2472 : (Jvm.Cond.instantiable "GoblinHouseholdModel" (20 : Nat)) ∈ lw_all := lw_g (lw_at lw_m10 219 rfl) rfl
theorem q2474 : (Jvm.Cond.instanceMethod ({ cls := "GoblinHouseholdModel", name := "<init>", desc := "()V" } : Jvm.MethodName)) ∈ lw_all := lw_g (lw_at lw_m10 221 rfl) rfl
theorem q2475 : (Jvm.Cond.code ({ cls := "GoblinHouseholdModel", name := "<init>", desc := "()V" } : Jvm.MethodName) prog_26_method_1_code (2 : Nat) (Option.none : Option Jvm.ClassFile.FieldType)) ∈ lw_all := lw_g (lw_at lw_m10 222 rfl) rfl
theorem q2476 : (Jvm.Cond.methodLink "GoblinHouseholdModel" (3 : Nat) ({ cls := "java/lang/Object", name := "<init>", desc := "()V" } : Jvm.MethodName)) ∈ lw_all := lw_g (lw_at lw_m10 223 rfl) rfl
theorem q2477 : (Jvm.Cond.fieldLink "GoblinHouseholdModel" (9 : Nat) "GoblinHouseholdModel" "now" "[I") ∈ lw_all := lw_g (lw_at lw_m10 224 rfl) rfl
theorem q2478 : (Jvm.Cond.fieldLink "GoblinHouseholdModel" (13 : Nat) "GoblinHouseholdModel" "before" "[I") ∈ lw_all := lw_g (lw_at lw_m10 225 rfl) rfl
theorem q2479 : (Jvm.Cond.fieldLink "GoblinHouseholdModel" (16 : Nat) "GoblinHouseholdModel" "trial" "[I") ∈ lw_all := lw_g (lw_at lw_m10 226 rfl) rfl
theorem q2480 : (Jvm.Cond.fieldLink "GoblinHouseholdModel" (19 : Nat) "GoblinHouseholdModel" "saved" "[I") ∈ lw_all := lw_g (lw_at lw_m10 227 rfl) rfl
theorem q2481 : (Jvm.Cond.fieldLink "GoblinHouseholdModel" (22 : Nat) "GoblinHouseholdModel" "history" "[I") ∈ lw_all := lw_g (lw_at lw_m10 228 rfl) rfl
theorem q2482 : (Jvm.Cond.fieldLink "GoblinHouseholdModel" (65 : Nat) "GoblinHouseholdModel" "isSaved" "Z") ∈ lw_all := lw_g (lw_at lw_m10 229 rfl) rfl
theorem q2483 : (Jvm.Cond.fieldLink "GoblinHouseholdModel" (55 : Nat) "GoblinHouseholdModel" "remembered" "I") ∈ lw_all := lw_g (lw_at lw_m10 230 rfl) rfl
theorem q2484 : (Jvm.Cond.fieldLink "GoblinHouseholdModel" (25 : Nat) "GoblinHouseholdModel" "errorAt" "I") ∈ lw_all := lw_g (lw_at lw_m10 231 rfl) rfl
theorem q2485 : (Jvm.Cond.fieldLink "GoblinHouseholdModel" (29 : Nat) "GoblinHouseholdModel" "failedAt" "I") ∈ lw_all := lw_g (lw_at lw_m10 232 rfl) rfl
theorem q2486 : (Jvm.Cond.fieldLink "GoblinHouseholdModel" (32 : Nat) "GoblinHouseholdModel" "best" "[I") ∈ lw_all := lw_g (lw_at lw_m10 233 rfl) rfl
theorem q2487 : (Jvm.Cond.fieldLink "GoblinHouseholdModel" (35 : Nat) "GoblinHouseholdModel" "text" "[I") ∈ lw_all := lw_g (lw_at lw_m10 234 rfl) rfl
theorem q2488 : (Jvm.Cond.fieldLink "GoblinHouseholdModel" (207 : Nat) "GoblinHouseholdModel" "typed" "I") ∈ lw_all := lw_g (lw_at lw_m10 235 rfl) rfl
theorem q2489 : (Jvm.Cond.fieldLink "GoblinHouseholdModel" (38 : Nat) "GoblinHouseholdModel" "line" "[I") ∈ lw_all := lw_g (lw_at lw_m10 236 rfl) rfl
theorem q2490 : (Jvm.Cond.fieldLink "GoblinHouseholdModel" (201 : Nat) "GoblinHouseholdModel" "lined" "I") ∈ lw_all := lw_g (lw_at lw_m10 237 rfl) rfl
theorem q2491 : (Jvm.Cond.fieldLink "GoblinHouseholdModel" (44 : Nat) "GoblinHouseholdModel" "thrown" "I") ∈ lw_all := lw_g (lw_at lw_m10 238 rfl) rfl
theorem q2492 : (Jvm.Cond.fieldLink "GoblinHouseholdModel" (213 : Nat) "GoblinHouseholdModel" "size" "I") ∈ lw_all := lw_g (lw_at lw_m10 239 rfl) rfl
theorem q2493 : (Jvm.Cond.fieldLink "GoblinHouseholdModel" (210 : Nat) "GoblinHouseholdModel" "spot" "I") ∈ lw_all := lw_g (lw_at lw_m11 0 rfl) rfl
theorem q2494 : (Jvm.Cond.fieldLink "GoblinHouseholdModel" (216 : Nat) "GoblinHouseholdModel" "wrong" "I") ∈ lw_all := lw_g (lw_at lw_m11 1 rfl) rfl
theorem q2495 : (Jvm.Cond.fieldLink "GoblinHouseholdModel" (245 : Nat) "GoblinHouseholdModel" "told" "I") ∈ lw_all := lw_g (lw_at lw_m11 2 rfl) rfl
theorem q2496 : (Jvm.Cond.fieldLink "GoblinHouseholdModel" (41 : Nat) "GoblinHouseholdModel" "numbers" "[I") ∈ lw_all := lw_g (lw_at lw_m11 3 rfl) rfl
theorem q2497 : (Jvm.Cond.laysFinal "GoblinHouseholdModel" "GoblinHouseholdModel" "now" "[I") ∈ lw_all := lw_g (lw_at lw_m11 4 rfl) rfl
theorem q2498 : (Jvm.Cond.soleField "GoblinHouseholdModel" "now") ∈ lw_all := lw_g (lw_at lw_m11 5 rfl) rfl
theorem q2499 : (Jvm.Cond.laysFinal "GoblinHouseholdModel" "GoblinHouseholdModel" "before" "[I") ∈ lw_all := lw_g (lw_at lw_m11 6 rfl) rfl
theorem q2500 : (Jvm.Cond.soleField "GoblinHouseholdModel" "before") ∈ lw_all := lw_g (lw_at lw_m11 7 rfl) rfl
theorem q2501 : (Jvm.Cond.laysFinal "GoblinHouseholdModel" "GoblinHouseholdModel" "trial" "[I") ∈ lw_all := lw_g (lw_at lw_m11 8 rfl) rfl
theorem q2502 : (Jvm.Cond.soleField "GoblinHouseholdModel" "trial") ∈ lw_all := lw_g (lw_at lw_m11 9 rfl) rfl
theorem q2503 : (Jvm.Cond.laysFinal "GoblinHouseholdModel" "GoblinHouseholdModel" "saved" "[I") ∈ lw_all := lw_g (lw_at lw_m11 10 rfl) rfl
theorem q2504 : (Jvm.Cond.soleField "GoblinHouseholdModel" "saved") ∈ lw_all := lw_g (lw_at lw_m11 11 rfl) rfl
theorem q2505 : (Jvm.Cond.laysFinal "GoblinHouseholdModel" "GoblinHouseholdModel" "history" "[I") ∈ lw_all := lw_g (lw_at lw_m11 12 rfl) rfl
theorem q2506 : (Jvm.Cond.soleField "GoblinHouseholdModel" "history") ∈ lw_all := lw_g (lw_at lw_m11 13 rfl) rfl
theorem q2507 : (Jvm.Cond.lays "GoblinHouseholdModel" "GoblinHouseholdModel" "isSaved" "Z") ∈ lw_all := lw_g (lw_at lw_m11 14 rfl) rfl
theorem q2508 : (Jvm.Cond.soleField "GoblinHouseholdModel" "isSaved") ∈ lw_all := lw_g (lw_at lw_m11 15 rfl) rfl
theorem q2509 : (Jvm.Cond.lays "GoblinHouseholdModel" "GoblinHouseholdModel" "remembered" "I") ∈ lw_all := lw_g (lw_at lw_m11 16 rfl) rfl
theorem q2510 : (Jvm.Cond.soleField "GoblinHouseholdModel" "remembered") ∈ lw_all := lw_g (lw_at lw_m11 17 rfl) rfl
theorem q2511 : (Jvm.Cond.lays "GoblinHouseholdModel" "GoblinHouseholdModel" "errorAt" "I") ∈ lw_all := lw_g (lw_at lw_m11 18 rfl) rfl
theorem q2512 : (Jvm.Cond.soleField "GoblinHouseholdModel" "errorAt") ∈ lw_all := lw_g (lw_at lw_m11 19 rfl) rfl
theorem q2513 : (Jvm.Cond.lays "GoblinHouseholdModel" "GoblinHouseholdModel" "failedAt" "I") ∈ lw_all := lw_g (lw_at lw_m11 20 rfl) rfl
theorem q2514 : (Jvm.Cond.soleField "GoblinHouseholdModel" "failedAt") ∈ lw_all := lw_g (lw_at lw_m11 21 rfl) rfl
theorem q2515 : (Jvm.Cond.laysFinal "GoblinHouseholdModel" "GoblinHouseholdModel" "best" "[I") ∈ lw_all := lw_g (lw_at lw_m11 22 rfl) rfl
theorem q2516 : (Jvm.Cond.soleField "GoblinHouseholdModel" "best") ∈ lw_all := lw_g (lw_at lw_m11 23 rfl) rfl
theorem q2517 : (Jvm.Cond.laysFinal "GoblinHouseholdModel" "GoblinHouseholdModel" "text" "[I") ∈ lw_all := lw_g (lw_at lw_m11 24 rfl) rfl
theorem q2518 : (Jvm.Cond.soleField "GoblinHouseholdModel" "text") ∈ lw_all := lw_g (lw_at lw_m11 25 rfl) rfl
theorem q2519 : (Jvm.Cond.lays "GoblinHouseholdModel" "GoblinHouseholdModel" "typed" "I") ∈ lw_all := lw_g (lw_at lw_m11 26 rfl) rfl
theorem q2520 : (Jvm.Cond.soleField "GoblinHouseholdModel" "typed") ∈ lw_all := lw_g (lw_at lw_m11 27 rfl) rfl
theorem q2521 : (Jvm.Cond.laysFinal "GoblinHouseholdModel" "GoblinHouseholdModel" "line" "[I") ∈ lw_all := lw_g (lw_at lw_m11 28 rfl) rfl
theorem q2522 : (Jvm.Cond.soleField "GoblinHouseholdModel" "line") ∈ lw_all := lw_g (lw_at lw_m11 29 rfl) rfl
theorem q2523 : (Jvm.Cond.lays "GoblinHouseholdModel" "GoblinHouseholdModel" "lined" "I") ∈ lw_all := lw_g (lw_at lw_m11 30 rfl) rfl
theorem q2524 : (Jvm.Cond.soleField "GoblinHouseholdModel" "lined") ∈ lw_all := lw_g (lw_at lw_m11 31 rfl) rfl
theorem q2525 : (Jvm.Cond.lays "GoblinHouseholdModel" "GoblinHouseholdModel" "thrown" "I") ∈ lw_all := lw_g (lw_at lw_m11 32 rfl) rfl
theorem q2526 : (Jvm.Cond.soleField "GoblinHouseholdModel" "thrown") ∈ lw_all := lw_g (lw_at lw_m11 33 rfl) rfl
theorem q2527 : (Jvm.Cond.lays "GoblinHouseholdModel" "GoblinHouseholdModel" "size" "I") ∈ lw_all := lw_g (lw_at lw_m11 34 rfl) rfl
theorem q2528 : (Jvm.Cond.soleField "GoblinHouseholdModel" "size") ∈ lw_all := lw_g (lw_at lw_m11 35 rfl) rfl
theorem q2529 : (Jvm.Cond.lays "GoblinHouseholdModel" "GoblinHouseholdModel" "spot" "I") ∈ lw_all := lw_g (lw_at lw_m11 36 rfl) rfl
theorem q2530 : (Jvm.Cond.soleField "GoblinHouseholdModel" "spot") ∈ lw_all := lw_g (lw_at lw_m11 37 rfl) rfl
theorem q2531 : (Jvm.Cond.lays "GoblinHouseholdModel" "GoblinHouseholdModel" "wrong" "I") ∈ lw_all := lw_g (lw_at lw_m11 38 rfl) rfl
theorem q2532 : (Jvm.Cond.soleField "GoblinHouseholdModel" "wrong") ∈ lw_all := lw_g (lw_at lw_m11 39 rfl) rfl
theorem q2533 : (Jvm.Cond.lays "GoblinHouseholdModel" "GoblinHouseholdModel" "told" "I") ∈ lw_all := lw_g (lw_at lw_m11 40 rfl) rfl
theorem q2534 : (Jvm.Cond.soleField "GoblinHouseholdModel" "told") ∈ lw_all := lw_g (lw_at lw_m11 41 rfl) rfl
theorem q2535 : (Jvm.Cond.laysFinal "GoblinHouseholdModel" "GoblinHouseholdModel" "numbers" "[I") ∈ lw_all := lw_g (lw_at lw_m11 42 rfl) rfl
theorem q2536 : (Jvm.Cond.soleField "GoblinHouseholdModel" "numbers") ∈ lw_all := lw_g (lw_at lw_m11 43 rfl) rfl
theorem q2537 : (Jvm.Cond.superclass "GoblinHouseholdModel" "java/lang/Object") ∈ lw_all := lw_g (lw_at lw_m11 44 rfl) rfl
theorem q2539 : (Jvm.Cond.instanceMethod ({ cls := "GoblinHouseholdModel", name := "thrown", desc := "()I" } : Jvm.MethodName)) ∈ lw_all := lw_g (lw_at lw_m11 46 rfl) rfl
theorem q2540 : (Jvm.Cond.selects "GoblinHouseholdModel" ({ cls := "GoblinHouseholdModel", name := "thrown", desc := "()I" } : Jvm.MethodName) ({ cls := "GoblinHouseholdModel", name := "thrown", desc := "()I" } : Jvm.MethodName)) ∈ lw_all := lw_g (lw_at lw_m11 47 rfl) rfl
theorem q2541 : (Jvm.Cond.code ({ cls := "GoblinHouseholdModel", name := "thrown", desc := "()I" } : Jvm.MethodName) prog_26_method_2_code (1 : Nat) (Option.some Jvm.ClassFile.FieldType.int)) ∈ lw_all := lw_g (lw_at lw_m11 48 rfl) rfl
theorem q2543 : (Jvm.Cond.instanceMethod ({ cls := "GoblinHouseholdModel", name := "undo", desc := "()I" } : Jvm.MethodName)) ∈ lw_all := lw_g (lw_at lw_m11 50 rfl) rfl
theorem q2544 : (Jvm.Cond.selects "GoblinHouseholdModel" ({ cls := "GoblinHouseholdModel", name := "undo", desc := "()I" } : Jvm.MethodName) ({ cls := "GoblinHouseholdModel", name := "undo", desc := "()I" } : Jvm.MethodName)) ∈ lw_all := lw_g (lw_at lw_m11 51 rfl) rfl
theorem q2545 : (Jvm.Cond.code ({ cls := "GoblinHouseholdModel", name := "undo", desc := "()I" } : Jvm.MethodName) prog_26_method_10_code (1 : Nat) (Option.some Jvm.ClassFile.FieldType.int)) ∈ lw_all := lw_g (lw_at lw_m11 52 rfl) rfl
theorem q2546 : (Jvm.Cond.methodLink "GoblinHouseholdModel" (61 : Nat) ({ cls := "GoblinHouseholdModel", name := "goes", desc := "(Z)Z" } : Jvm.MethodName)) ∈ lw_all := lw_g (lw_at lw_m11 53 rfl) rfl
theorem q2547 : (Jvm.Cond.privateMethod ({ cls := "GoblinHouseholdModel", name := "goes", desc := "(Z)Z" } : Jvm.MethodName)) ∈ lw_tbl := lw_at lw_m11 54 rfl
theorem q2548 : (Jvm.Cond.instanceMethod ({ cls := "GoblinHouseholdModel", name := "goes", desc := "(Z)Z" } : Jvm.MethodName)) ∈ lw_all := lw_g (lw_at lw_m11 55 rfl) rfl
theorem q2549 : (Jvm.Cond.code ({ cls := "GoblinHouseholdModel", name := "goes", desc := "(Z)Z" } : Jvm.MethodName) prog_26_method_6_code (2 : Nat) (Option.some Jvm.ClassFile.FieldType.boolean)) ∈ lw_all := lw_g (lw_at lw_m11 56 rfl) rfl
theorem q2550 : (Jvm.Cond.methodLink "GoblinHouseholdModel" (47 : Nat) ({ cls := "GoblinHouseholdModel", name := "holds", desc := "(ZZZZ)Z" } : Jvm.MethodName)) ∈ lw_all := lw_g (lw_at lw_m11 57 rfl) rfl
theorem q2551 : (Jvm.Cond.privateMethod ({ cls := "GoblinHouseholdModel", name := "holds", desc := "(ZZZZ)Z" } : Jvm.MethodName)) ∈ lw_tbl := lw_at lw_m11 58 rfl
theorem q2552 : (Jvm.Cond.instanceMethod ({ cls := "GoblinHouseholdModel", name := "holds", desc := "(ZZZZ)Z" } : Jvm.MethodName)) ∈ lw_all := lw_g (lw_at lw_m11 59 rfl) rfl
theorem q2553 : (Jvm.Cond.code ({ cls := "GoblinHouseholdModel", name := "holds", desc := "(ZZZZ)Z" } : Jvm.MethodName) prog_26_method_5_code (5 : Nat) (Option.some Jvm.ClassFile.FieldType.boolean)) ∈ lw_all := lw_g (lw_at lw_m11 60 rfl) rfl
theorem q2554 : (Jvm.Cond.methodLink "GoblinHouseholdModel" (51 : Nat) ({ cls := "GoblinHouseholdModel", name := "copies", desc := "([II[II)V" } : Jvm.MethodName)) ∈ lw_all := lw_g (lw_at lw_m11 61 rfl) rfl
theorem q2555 : (Jvm.Cond.static ({ cls := "GoblinHouseholdModel", name := "copies", desc := "([II[II)V" } : Jvm.MethodName)) ∈ lw_all := lw_g (lw_at lw_m11 62 rfl) rfl
theorem q2556 : (Jvm.Cond.code ({ cls := "GoblinHouseholdModel", name := "copies", desc := "([II[II)V" } : Jvm.MethodName) prog_26_method_4_code (5 : Nat) (Option.none : Option Jvm.ClassFile.FieldType)) ∈ lw_all := lw_g (lw_at lw_m11 63 rfl) rfl
theorem q2558 : (Jvm.Cond.instanceMethod ({ cls := "GoblinHouseholdModel", name := "save", desc := "()I" } : Jvm.MethodName)) ∈ lw_all := lw_g (lw_at lw_m11 65 rfl) rfl
theorem q2559 : (Jvm.Cond.selects "GoblinHouseholdModel" ({ cls := "GoblinHouseholdModel", name := "save", desc := "()I" } : Jvm.MethodName) ({ cls := "GoblinHouseholdModel", name := "save", desc := "()I" } : Jvm.MethodName)) ∈ lw_all := lw_g (lw_at lw_m11 66 rfl) rfl
theorem q2560 : (Jvm.Cond.code ({ cls := "GoblinHouseholdModel", name := "save", desc := "()I" } : Jvm.MethodName) prog_26_method_11_code (1 : Nat) (Option.some Jvm.ClassFile.FieldType.int)) ∈ lw_all := lw_g (lw_at lw_m11 67 rfl) rfl
theorem q2562 : (Jvm.Cond.instanceMethod ({ cls := "GoblinHouseholdModel", name := "restore", desc := "()I" } : Jvm.MethodName)) ∈ lw_all := lw_g (lw_at lw_m11 69 rfl) rfl
theorem q2563 : (Jvm.Cond.selects "GoblinHouseholdModel" ({ cls := "GoblinHouseholdModel", name := "restore", desc := "()I" } : Jvm.MethodName) ({ cls := "GoblinHouseholdModel", name := "restore", desc := "()I" } : Jvm.MethodName)) ∈ lw_all := lw_g (lw_at lw_m11 70 rfl) rfl
theorem q2564 : (Jvm.Cond.code ({ cls := "GoblinHouseholdModel", name := "restore", desc := "()I" } : Jvm.MethodName) prog_26_method_12_code (1 : Nat) (Option.some Jvm.ClassFile.FieldType.int)) ∈ lw_all := lw_g (lw_at lw_m11 71 rfl) rfl
theorem q2566 : (Jvm.Cond.instanceMethod ({ cls := "GoblinHouseholdModel", name := "addGoblin", desc := "(I)I" } : Jvm.MethodName)) ∈ lw_all := lw_g (lw_at lw_m11 73 rfl) rfl
theorem q2567 : (Jvm.Cond.selects "GoblinHouseholdModel" ({ cls := "GoblinHouseholdModel", name := "addGoblin", desc := "(I)I" } : Jvm.MethodName) ({ cls := "GoblinHouseholdModel", name := "addGoblin", desc := "(I)I" } : Jvm.MethodName)) ∈ lw_all := lw_g (lw_at lw_m11 74 rfl) rfl
theorem q2568 : (Jvm.Cond.code ({ cls := "GoblinHouseholdModel", name := "addGoblin", desc := "(I)I" } : Jvm.MethodName) prog_26_method_26_code (2 : Nat) (Option.some Jvm.ClassFile.FieldType.int)) ∈ lw_all := lw_g (lw_at lw_m11 75 rfl) rfl
theorem q2569 : (Jvm.Cond.methodLink "GoblinHouseholdModel" (102 : Nat) ({ cls := "GoblinHouseholdModel", name := "begins", desc := "()V" } : Jvm.MethodName)) ∈ lw_all := lw_g (lw_at lw_m11 76 rfl) rfl
theorem q2570 : (Jvm.Cond.privateMethod ({ cls := "GoblinHouseholdModel", name := "begins", desc := "()V" } : Jvm.MethodName)) ∈ lw_tbl := lw_at lw_m11 77 rfl
theorem q2571 : (Jvm.Cond.instanceMethod ({ cls := "GoblinHouseholdModel", name := "begins", desc := "()V" } : Jvm.MethodName)) ∈ lw_all := lw_g (lw_at lw_m11 78 rfl) rfl
theorem q2572 : (Jvm.Cond.code ({ cls := "GoblinHouseholdModel", name := "begins", desc := "()V" } : Jvm.MethodName) prog_26_method_7_code (1 : Nat) (Option.none : Option Jvm.ClassFile.FieldType)) ∈ lw_all := lw_g (lw_at lw_m11 79 rfl) rfl
theorem q2573 : (Jvm.Cond.methodLink "GoblinHouseholdModel" (105 : Nat) ({ cls := "GoblinHouseholdModel", name := "addsGoblin", desc := "(I)I" } : Jvm.MethodName)) ∈ lw_all := lw_g (lw_at lw_m11 80 rfl) rfl
theorem q2574 : (Jvm.Cond.privateMethod ({ cls := "GoblinHouseholdModel", name := "addsGoblin", desc := "(I)I" } : Jvm.MethodName)) ∈ lw_tbl := lw_at lw_m11 81 rfl
theorem q2575 : (Jvm.Cond.instanceMethod ({ cls := "GoblinHouseholdModel", name := "addsGoblin", desc := "(I)I" } : Jvm.MethodName)) ∈ lw_all := lw_g (lw_at lw_m11 82 rfl) rfl
theorem q2576 : (Jvm.Cond.code ({ cls := "GoblinHouseholdModel", name := "addsGoblin", desc := "(I)I" } : Jvm.MethodName) prog_26_method_25_code (4 : Nat) (Option.some Jvm.ClassFile.FieldType.int)) ∈ lw_all := lw_g (lw_at lw_m11 83 rfl) rfl
theorem q2577 : (Jvm.Cond.methodLink "GoblinHouseholdModel" (69 : Nat) ({ cls := "GoblinHouseholdModel", name := "isIn", desc := "(III)Z" } : Jvm.MethodName)) ∈ lw_all := lw_g (lw_at lw_m11 84 rfl) rfl
theorem q2578 : (Jvm.Cond.static ({ cls := "GoblinHouseholdModel", name := "isIn", desc := "(III)Z" } : Jvm.MethodName)) ∈ lw_all := lw_g (lw_at lw_m11 85 rfl) rfl
theorem q2579 : (Jvm.Cond.code ({ cls := "GoblinHouseholdModel", name := "isIn", desc := "(III)Z" } : Jvm.MethodName) prog_26_method_3_code (3 : Nat) (Option.some Jvm.ClassFile.FieldType.boolean)) ∈ lw_all := lw_g (lw_at lw_m11 86 rfl) rfl
theorem q2580 : (Jvm.Cond.methodLink "GoblinHouseholdModel" (109 : Nat) ({ cls := "GoblinHouseholdModel", name := "ends", desc := "(I)I" } : Jvm.MethodName)) ∈ lw_all := lw_g (lw_at lw_m11 87 rfl) rfl
theorem q2581 : (Jvm.Cond.privateMethod ({ cls := "GoblinHouseholdModel", name := "ends", desc := "(I)I" } : Jvm.MethodName)) ∈ lw_tbl := lw_at lw_m11 88 rfl
theorem q2582 : (Jvm.Cond.instanceMethod ({ cls := "GoblinHouseholdModel", name := "ends", desc := "(I)I" } : Jvm.MethodName)) ∈ lw_all := lw_g (lw_at lw_m11 89 rfl) rfl
theorem q2583 : (Jvm.Cond.code ({ cls := "GoblinHouseholdModel", name := "ends", desc := "(I)I" } : Jvm.MethodName) prog_26_method_9_code (2 : Nat) (Option.some Jvm.ClassFile.FieldType.int)) ∈ lw_all := lw_g (lw_at lw_m11 90 rfl) rfl
theorem q2584 : (Jvm.Cond.methodLink "GoblinHouseholdModel" (58 : Nat) ({ cls := "GoblinHouseholdModel", name := "remembers", desc := "()V" } : Jvm.MethodName)) ∈ lw_all := lw_g (lw_at lw_m11 91 rfl) rfl
theorem q2585 : (Jvm.Cond.privateMethod ({ cls := "GoblinHouseholdModel", name := "remembers", desc := "()V" } : Jvm.MethodName)) ∈ lw_tbl := lw_at lw_m11 92 rfl
theorem q2586 : (Jvm.Cond.instanceMethod ({ cls := "GoblinHouseholdModel", name := "remembers", desc := "()V" } : Jvm.MethodName)) ∈ lw_all := lw_g (lw_at lw_m11 93 rfl) rfl
theorem q2587 : (Jvm.Cond.code ({ cls := "GoblinHouseholdModel", name := "remembers", desc := "()V" } : Jvm.MethodName) prog_26_method_8_code (2 : Nat) (Option.none : Option Jvm.ClassFile.FieldType)) ∈ lw_all := lw_g (lw_at lw_m11 94 rfl) rfl
theorem q2589 : (Jvm.Cond.instanceMethod ({ cls := "GoblinHouseholdModel", name := "addBroom", desc := "(I)I" } : Jvm.MethodName)) ∈ lw_all := lw_g (lw_at lw_m11 96 rfl) rfl
theorem q2590 : (Jvm.Cond.selects "GoblinHouseholdModel" ({ cls := "GoblinHouseholdModel", name := "addBroom", desc := "(I)I" } : Jvm.MethodName) ({ cls := "GoblinHouseholdModel", name := "addBroom", desc := "(I)I" } : Jvm.MethodName)) ∈ lw_all := lw_g (lw_at lw_m11 97 rfl) rfl
theorem q2591 : (Jvm.Cond.code ({ cls := "GoblinHouseholdModel", name := "addBroom", desc := "(I)I" } : Jvm.MethodName) prog_26_method_28_code (2 : Nat) (Option.some Jvm.ClassFile.FieldType.int)) ∈ lw_all := lw_g (lw_at lw_m11 98 rfl) rfl
theorem q2592 : (Jvm.Cond.methodLink "GoblinHouseholdModel" (112 : Nat) ({ cls := "GoblinHouseholdModel", name := "addsBroom", desc := "(I)I" } : Jvm.MethodName)) ∈ lw_all := lw_g (lw_at lw_m11 99 rfl) rfl
theorem q2593 : (Jvm.Cond.privateMethod ({ cls := "GoblinHouseholdModel", name := "addsBroom", desc := "(I)I" } : Jvm.MethodName)) ∈ lw_tbl := lw_at lw_m11 100 rfl
theorem q2594 : (Jvm.Cond.instanceMethod ({ cls := "GoblinHouseholdModel", name := "addsBroom", desc := "(I)I" } : Jvm.MethodName)) ∈ lw_all := lw_g (lw_at lw_m11 101 rfl) rfl
theorem q2595 : (Jvm.Cond.code ({ cls := "GoblinHouseholdModel", name := "addsBroom", desc := "(I)I" } : Jvm.MethodName) prog_26_method_27_code (2 : Nat) (Option.some Jvm.ClassFile.FieldType.int)) ∈ lw_all := lw_g (lw_at lw_m11 102 rfl) rfl
theorem q2597 : (Jvm.Cond.instanceMethod ({ cls := "GoblinHouseholdModel", name := "banishBroom", desc := "(I)I" } : Jvm.MethodName)) ∈ lw_all := lw_g (lw_at lw_m11 104 rfl) rfl
theorem q2598 : (Jvm.Cond.selects "GoblinHouseholdModel" ({ cls := "GoblinHouseholdModel", name := "banishBroom", desc := "(I)I" } : Jvm.MethodName) ({ cls := "GoblinHouseholdModel", name := "banishBroom", desc := "(I)I" } : Jvm.MethodName)) ∈ lw_all := lw_g (lw_at lw_m11 105 rfl) rfl
theorem q2599 : (Jvm.Cond.code ({ cls := "GoblinHouseholdModel", name := "banishBroom", desc := "(I)I" } : Jvm.MethodName) prog_26_method_30_code (2 : Nat) (Option.some Jvm.ClassFile.FieldType.int)) ∈ lw_all := lw_g (lw_at lw_m11 106 rfl) rfl
theorem q2600 : (Jvm.Cond.methodLink "GoblinHouseholdModel" (115 : Nat) ({ cls := "GoblinHouseholdModel", name := "banishes", desc := "(II)I" } : Jvm.MethodName)) ∈ lw_all := lw_g (lw_at lw_m11 107 rfl) rfl
theorem q2601 : (Jvm.Cond.privateMethod ({ cls := "GoblinHouseholdModel", name := "banishes", desc := "(II)I" } : Jvm.MethodName)) ∈ lw_tbl := lw_at lw_m11 108 rfl
theorem q2602 : (Jvm.Cond.instanceMethod ({ cls := "GoblinHouseholdModel", name := "banishes", desc := "(II)I" } : Jvm.MethodName)) ∈ lw_all := lw_g (lw_at lw_m11 109 rfl) rfl
theorem q2603 : (Jvm.Cond.code ({ cls := "GoblinHouseholdModel", name := "banishes", desc := "(II)I" } : Jvm.MethodName) prog_26_method_29_code (3 : Nat) (Option.some Jvm.ClassFile.FieldType.int)) ∈ lw_all := lw_g (lw_at lw_m11 110 rfl) rfl
theorem q2604 : (Jvm.Cond.methodLink "GoblinHouseholdModel" (73 : Nat) ({ cls := "GoblinHouseholdModel", name := "isBroom", desc := "(I)Z" } : Jvm.MethodName)) ∈ lw_all := lw_g (lw_at lw_m11 111 rfl) rfl
theorem q2605 : (Jvm.Cond.privateMethod ({ cls := "GoblinHouseholdModel", name := "isBroom", desc := "(I)Z" } : Jvm.MethodName)) ∈ lw_tbl := lw_at lw_m11 112 rfl
theorem q2606 : (Jvm.Cond.instanceMethod ({ cls := "GoblinHouseholdModel", name := "isBroom", desc := "(I)Z" } : Jvm.MethodName)) ∈ lw_all := lw_g (lw_at lw_m11 113 rfl) rfl
theorem q2607 : (Jvm.Cond.code ({ cls := "GoblinHouseholdModel", name := "isBroom", desc := "(I)Z" } : Jvm.MethodName) prog_26_method_14_code (2 : Nat) (Option.some Jvm.ClassFile.FieldType.boolean)) ∈ lw_all := lw_g (lw_at lw_m11 114 rfl) rfl
theorem q2608 : (Jvm.Cond.methodLink "GoblinHouseholdModel" (87 : Nat) ({ cls := "GoblinHouseholdModel", name := "ofBroom", desc := "(II)I" } : Jvm.MethodName)) ∈ lw_all := lw_g (lw_at lw_m11 115 rfl) rfl
theorem q2609 : (Jvm.Cond.privateMethod ({ cls := "GoblinHouseholdModel", name := "ofBroom", desc := "(II)I" } : Jvm.MethodName)) ∈ lw_tbl := lw_at lw_m11 116 rfl
theorem q2610 : (Jvm.Cond.instanceMethod ({ cls := "GoblinHouseholdModel", name := "ofBroom", desc := "(II)I" } : Jvm.MethodName)) ∈ lw_all := lw_g (lw_at lw_m11 117 rfl) rfl
theorem q2611 : (Jvm.Cond.code ({ cls := "GoblinHouseholdModel", name := "ofBroom", desc := "(II)I" } : Jvm.MethodName) prog_26_method_15_code (3 : Nat) (Option.some Jvm.ClassFile.FieldType.int)) ∈ lw_all := lw_g (lw_at lw_m11 118 rfl) rfl
theorem q2612 : (Jvm.Cond.methodLink "GoblinHouseholdModel" (98 : Nat) ({ cls := "GoblinHouseholdModel", name := "inUse", desc := "()I" } : Jvm.MethodName)) ∈ lw_all := lw_g (lw_at lw_m11 119 rfl) rfl
theorem q2613 : (Jvm.Cond.privateMethod ({ cls := "GoblinHouseholdModel", name := "inUse", desc := "()I" } : Jvm.MethodName)) ∈ lw_tbl := lw_at lw_m11 120 rfl
theorem q2614 : (Jvm.Cond.instanceMethod ({ cls := "GoblinHouseholdModel", name := "inUse", desc := "()I" } : Jvm.MethodName)) ∈ lw_all := lw_g (lw_at lw_m11 121 rfl) rfl
theorem q2615 : (Jvm.Cond.code ({ cls := "GoblinHouseholdModel", name := "inUse", desc := "()I" } : Jvm.MethodName) prog_26_method_22_code (3 : Nat) (Option.some Jvm.ClassFile.FieldType.int)) ∈ lw_all := lw_g (lw_at lw_m11 122 rfl) rfl
theorem q2617 : (Jvm.Cond.instanceMethod ({ cls := "GoblinHouseholdModel", name := "recallBroom", desc := "(I)I" } : Jvm.MethodName)) ∈ lw_all := lw_g (lw_at lw_m11 124 rfl) rfl
theorem q2618 : (Jvm.Cond.selects "GoblinHouseholdModel" ({ cls := "GoblinHouseholdModel", name := "recallBroom", desc := "(I)I" } : Jvm.MethodName) ({ cls := "GoblinHouseholdModel", name := "recallBroom", desc := "(I)I" } : Jvm.MethodName)) ∈ lw_all := lw_g (lw_at lw_m11 125 rfl) rfl
theorem q2619 : (Jvm.Cond.code ({ cls := "GoblinHouseholdModel", name := "recallBroom", desc := "(I)I" } : Jvm.MethodName) prog_26_method_31_code (2 : Nat) (Option.some Jvm.ClassFile.FieldType.int)) ∈ lw_all := lw_g (lw_at lw_m11 126 rfl) rfl
theorem q2621 : (Jvm.Cond.instanceMethod ({ cls := "GoblinHouseholdModel", name := "rest", desc := "(I)I" } : Jvm.MethodName)) ∈ lw_all := lw_g (lw_at lw_m11 128 rfl) rfl
theorem q2622 : (Jvm.Cond.selects "GoblinHouseholdModel" ({ cls := "GoblinHouseholdModel", name := "rest", desc := "(I)I" } : Jvm.MethodName) ({ cls := "GoblinHouseholdModel", name := "rest", desc := "(I)I" } : Jvm.MethodName)) ∈ lw_all := lw_g (lw_at lw_m11 129 rfl) rfl
theorem q2623 : (Jvm.Cond.code ({ cls := "GoblinHouseholdModel", name := "rest", desc := "(I)I" } : Jvm.MethodName) prog_26_method_33_code (2 : Nat) (Option.some Jvm.ClassFile.FieldType.int)) ∈ lw_all := lw_g (lw_at lw_m11 130 rfl) rfl
theorem q2624 : (Jvm.Cond.methodLink "GoblinHouseholdModel" (118 : Nat) ({ cls := "GoblinHouseholdModel", name := "rests", desc := "(II)I" } : Jvm.MethodName)) ∈ lw_all := lw_g (lw_at lw_m11 131 rfl) rfl
theorem q2625 : (Jvm.Cond.privateMethod ({ cls := "GoblinHouseholdModel", name := "rests", desc := "(II)I" } : Jvm.MethodName)) ∈ lw_tbl := lw_at lw_m11 132 rfl
theorem q2626 : (Jvm.Cond.instanceMethod ({ cls := "GoblinHouseholdModel", name := "rests", desc := "(II)I" } : Jvm.MethodName)) ∈ lw_all := lw_g (lw_at lw_m11 133 rfl) rfl
theorem q2627 : (Jvm.Cond.code ({ cls := "GoblinHouseholdModel", name := "rests", desc := "(II)I" } : Jvm.MethodName) prog_26_method_32_code (5 : Nat) (Option.some Jvm.ClassFile.FieldType.int)) ∈ lw_all := lw_g (lw_at lw_m11 134 rfl) rfl
theorem q2628 : (Jvm.Cond.methodLink "GoblinHouseholdModel" (77 : Nat) ({ cls := "GoblinHouseholdModel", name := "isGoblin", desc := "(I)Z" } : Jvm.MethodName)) ∈ lw_all := lw_g (lw_at lw_m11 135 rfl) rfl
theorem q2629 : (Jvm.Cond.privateMethod ({ cls := "GoblinHouseholdModel", name := "isGoblin", desc := "(I)Z" } : Jvm.MethodName)) ∈ lw_tbl := lw_at lw_m11 136 rfl
theorem q2630 : (Jvm.Cond.instanceMethod ({ cls := "GoblinHouseholdModel", name := "isGoblin", desc := "(I)Z" } : Jvm.MethodName)) ∈ lw_all := lw_g (lw_at lw_m11 137 rfl) rfl
theorem q2631 : (Jvm.Cond.code ({ cls := "GoblinHouseholdModel", name := "isGoblin", desc := "(I)Z" } : Jvm.MethodName) prog_26_method_16_code (2 : Nat) (Option.some Jvm.ClassFile.FieldType.boolean)) ∈ lw_all := lw_g (lw_at lw_m11 138 rfl) rfl
theorem q2632 : (Jvm.Cond.methodLink "GoblinHouseholdModel" (95 : Nat) ({ cls := "GoblinHouseholdModel", name := "of", desc := "(II)I" } : Jvm.MethodName)) ∈ lw_all := lw_g (lw_at lw_m11 139 rfl) rfl
theorem q2633 : (Jvm.Cond.privateMethod ({ cls := "GoblinHouseholdModel", name := "of", desc := "(II)I" } : Jvm.MethodName)) ∈ lw_tbl := lw_at lw_m11 140 rfl
theorem q2634 : (Jvm.Cond.instanceMethod ({ cls := "GoblinHouseholdModel", name := "of", desc := "(II)I" } : Jvm.MethodName)) ∈ lw_all := lw_g (lw_at lw_m11 141 rfl) rfl
theorem q2635 : (Jvm.Cond.code ({ cls := "GoblinHouseholdModel", name := "of", desc := "(II)I" } : Jvm.MethodName) prog_26_method_18_code (3 : Nat) (Option.some Jvm.ClassFile.FieldType.int)) ∈ lw_all := lw_g (lw_at lw_m11 142 rfl) rfl
theorem q2636 : (Jvm.Cond.methodLink "GoblinHouseholdModel" (80 : Nat) ({ cls := "GoblinHouseholdModel", name := "place", desc := "(II)I" } : Jvm.MethodName)) ∈ lw_all := lw_g (lw_at lw_m11 143 rfl) rfl
theorem q2637 : (Jvm.Cond.privateMethod ({ cls := "GoblinHouseholdModel", name := "place", desc := "(II)I" } : Jvm.MethodName)) ∈ lw_tbl := lw_at lw_m11 144 rfl
theorem q2638 : (Jvm.Cond.instanceMethod ({ cls := "GoblinHouseholdModel", name := "place", desc := "(II)I" } : Jvm.MethodName)) ∈ lw_all := lw_g (lw_at lw_m11 145 rfl) rfl
theorem q2639 : (Jvm.Cond.code ({ cls := "GoblinHouseholdModel", name := "place", desc := "(II)I" } : Jvm.MethodName) prog_26_method_17_code (3 : Nat) (Option.some Jvm.ClassFile.FieldType.int)) ∈ lw_all := lw_g (lw_at lw_m11 146 rfl) rfl
theorem q2641 : (Jvm.Cond.instanceMethod ({ cls := "GoblinHouseholdModel", name := "wake", desc := "(I)I" } : Jvm.MethodName)) ∈ lw_all := lw_g (lw_at lw_m11 148 rfl) rfl
theorem q2642 : (Jvm.Cond.selects "GoblinHouseholdModel" ({ cls := "GoblinHouseholdModel", name := "wake", desc := "(I)I" } : Jvm.MethodName) ({ cls := "GoblinHouseholdModel", name := "wake", desc := "(I)I" } : Jvm.MethodName)) ∈ lw_all := lw_g (lw_at lw_m11 149 rfl) rfl
theorem q2643 : (Jvm.Cond.code ({ cls := "GoblinHouseholdModel", name := "wake", desc := "(I)I" } : Jvm.MethodName) prog_26_method_34_code (2 : Nat) (Option.some Jvm.ClassFile.FieldType.int)) ∈ lw_all := lw_g (lw_at lw_m11 150 rfl) rfl
theorem q2645 : (Jvm.Cond.instanceMethod ({ cls := "GoblinHouseholdModel", name := "hire", desc := "(IIII)I" } : Jvm.MethodName)) ∈ lw_all := lw_g (lw_at lw_m11 152 rfl) rfl
theorem q2646 : (Jvm.Cond.selects "GoblinHouseholdModel" ({ cls := "GoblinHouseholdModel", name := "hire", desc := "(IIII)I" } : Jvm.MethodName) ({ cls := "GoblinHouseholdModel", name := "hire", desc := "(IIII)I" } : Jvm.MethodName)) ∈ lw_all := lw_g (lw_at lw_m11 153 rfl) rfl
theorem q2647 : (Jvm.Cond.code ({ cls := "GoblinHouseholdModel", name := "hire", desc := "(IIII)I" } : Jvm.MethodName) prog_26_method_37_code (5 : Nat) (Option.some Jvm.ClassFile.FieldType.int)) ∈ lw_all := lw_g (lw_at lw_m11 154 rfl) rfl
theorem q2648 : (Jvm.Cond.methodLink "GoblinHouseholdModel" (128 : Nat) ({ cls := "GoblinHouseholdModel", name := "hires", desc := "(IIII)I" } : Jvm.MethodName)) ∈ lw_all := lw_g (lw_at lw_m11 155 rfl) rfl
theorem q2649 : (Jvm.Cond.privateMethod ({ cls := "GoblinHouseholdModel", name := "hires", desc := "(IIII)I" } : Jvm.MethodName)) ∈ lw_tbl := lw_at lw_m11 156 rfl
theorem q2650 : (Jvm.Cond.instanceMethod ({ cls := "GoblinHouseholdModel", name := "hires", desc := "(IIII)I" } : Jvm.MethodName)) ∈ lw_all := lw_g (lw_at lw_m11 157 rfl) rfl
theorem q2651 : (Jvm.Cond.code ({ cls := "GoblinHouseholdModel", name := "hires", desc := "(IIII)I" } : Jvm.MethodName) prog_26_method_36_code (7 : Nat) (Option.some Jvm.ClassFile.FieldType.int)) ∈ lw_all := lw_g (lw_at lw_m11 158 rfl) rfl
theorem q2652 : (Jvm.Cond.methodLink "GoblinHouseholdModel" (121 : Nat) ({ cls := "GoblinHouseholdModel", name := "isRoom", desc := "(I)Z" } : Jvm.MethodName)) ∈ lw_all := lw_g (lw_at lw_m11 159 rfl) rfl
theorem q2653 : (Jvm.Cond.static ({ cls := "GoblinHouseholdModel", name := "isRoom", desc := "(I)Z" } : Jvm.MethodName)) ∈ lw_all := lw_g (lw_at lw_m11 160 rfl) rfl
theorem q2654 : (Jvm.Cond.code ({ cls := "GoblinHouseholdModel", name := "isRoom", desc := "(I)Z" } : Jvm.MethodName) prog_26_method_13_code (1 : Nat) (Option.some Jvm.ClassFile.FieldType.boolean)) ∈ lw_all := lw_g (lw_at lw_m11 161 rfl) rfl
theorem q2655 : (Jvm.Cond.methodLink "GoblinHouseholdModel" (124 : Nat) ({ cls := "GoblinHouseholdModel", name := "hasFor", desc := "(II)Z" } : Jvm.MethodName)) ∈ lw_all := lw_g (lw_at lw_m11 162 rfl) rfl
theorem q2656 : (Jvm.Cond.privateMethod ({ cls := "GoblinHouseholdModel", name := "hasFor", desc := "(II)Z" } : Jvm.MethodName)) ∈ lw_tbl := lw_at lw_m11 163 rfl
theorem q2657 : (Jvm.Cond.instanceMethod ({ cls := "GoblinHouseholdModel", name := "hasFor", desc := "(II)Z" } : Jvm.MethodName)) ∈ lw_all := lw_g (lw_at lw_m11 164 rfl) rfl
theorem q2658 : (Jvm.Cond.code ({ cls := "GoblinHouseholdModel", name := "hasFor", desc := "(II)Z" } : Jvm.MethodName) prog_26_method_35_code (5 : Nat) (Option.some Jvm.ClassFile.FieldType.boolean)) ∈ lw_all := lw_g (lw_at lw_m11 165 rfl) rfl
theorem q2659 : (Jvm.Cond.methodLink "GoblinHouseholdModel" (84 : Nat) ({ cls := "GoblinHouseholdModel", name := "ofContract", desc := "(II)I" } : Jvm.MethodName)) ∈ lw_all := lw_g (lw_at lw_m11 166 rfl) rfl
theorem q2660 : (Jvm.Cond.privateMethod ({ cls := "GoblinHouseholdModel", name := "ofContract", desc := "(II)I" } : Jvm.MethodName)) ∈ lw_tbl := lw_at lw_m11 167 rfl
theorem q2661 : (Jvm.Cond.instanceMethod ({ cls := "GoblinHouseholdModel", name := "ofContract", desc := "(II)I" } : Jvm.MethodName)) ∈ lw_all := lw_g (lw_at lw_m11 168 rfl) rfl
theorem q2662 : (Jvm.Cond.code ({ cls := "GoblinHouseholdModel", name := "ofContract", desc := "(II)I" } : Jvm.MethodName) prog_26_method_20_code (3 : Nat) (Option.some Jvm.ClassFile.FieldType.int)) ∈ lw_all := lw_g (lw_at lw_m11 169 rfl) rfl
theorem q2664 : (Jvm.Cond.instanceMethod ({ cls := "GoblinHouseholdModel", name := "cancelContract", desc := "(I)I" } : Jvm.MethodName)) ∈ lw_all := lw_g (lw_at lw_m11 171 rfl) rfl
theorem q2665 : (Jvm.Cond.selects "GoblinHouseholdModel" ({ cls := "GoblinHouseholdModel", name := "cancelContract", desc := "(I)I" } : Jvm.MethodName) ({ cls := "GoblinHouseholdModel", name := "cancelContract", desc := "(I)I" } : Jvm.MethodName)) ∈ lw_all := lw_g (lw_at lw_m11 172 rfl) rfl
theorem q2666 : (Jvm.Cond.code ({ cls := "GoblinHouseholdModel", name := "cancelContract", desc := "(I)I" } : Jvm.MethodName) prog_26_method_39_code (2 : Nat) (Option.some Jvm.ClassFile.FieldType.int)) ∈ lw_all := lw_g (lw_at lw_m11 173 rfl) rfl
theorem q2667 : (Jvm.Cond.methodLink "GoblinHouseholdModel" (142 : Nat) ({ cls := "GoblinHouseholdModel", name := "cancels", desc := "(I)I" } : Jvm.MethodName)) ∈ lw_all := lw_g (lw_at lw_m11 174 rfl) rfl
theorem q2668 : (Jvm.Cond.privateMethod ({ cls := "GoblinHouseholdModel", name := "cancels", desc := "(I)I" } : Jvm.MethodName)) ∈ lw_tbl := lw_at lw_m11 175 rfl
theorem q2669 : (Jvm.Cond.instanceMethod ({ cls := "GoblinHouseholdModel", name := "cancels", desc := "(I)I" } : Jvm.MethodName)) ∈ lw_all := lw_g (lw_at lw_m11 176 rfl) rfl
theorem q2670 : (Jvm.Cond.code ({ cls := "GoblinHouseholdModel", name := "cancels", desc := "(I)I" } : Jvm.MethodName) prog_26_method_38_code (4 : Nat) (Option.some Jvm.ClassFile.FieldType.int)) ∈ lw_all := lw_g (lw_at lw_m11 177 rfl) rfl
theorem q2671 : (Jvm.Cond.methodLink "GoblinHouseholdModel" (132 : Nat) ({ cls := "GoblinHouseholdModel", name := "find", desc := "(I)I" } : Jvm.MethodName)) ∈ lw_all := lw_g (lw_at lw_m11 178 rfl) rfl
theorem q2672 : (Jvm.Cond.privateMethod ({ cls := "GoblinHouseholdModel", name := "find", desc := "(I)I" } : Jvm.MethodName)) ∈ lw_tbl := lw_at lw_m11 179 rfl
theorem q2673 : (Jvm.Cond.instanceMethod ({ cls := "GoblinHouseholdModel", name := "find", desc := "(I)I" } : Jvm.MethodName)) ∈ lw_all := lw_g (lw_at lw_m11 180 rfl) rfl
theorem q2674 : (Jvm.Cond.code ({ cls := "GoblinHouseholdModel", name := "find", desc := "(I)I" } : Jvm.MethodName) prog_26_method_19_code (4 : Nat) (Option.some Jvm.ClassFile.FieldType.int)) ∈ lw_all := lw_g (lw_at lw_m11 181 rfl) rfl
theorem q2675 : (Jvm.Cond.methodLink "GoblinHouseholdModel" (135 : Nat) ({ cls := "java/lang/Math", name := "min", desc := "(II)I" } : Jvm.MethodName)) ∈ lw_all := lw_g (lw_at lw_m11 182 rfl) rfl
theorem q2676 : (Jvm.Cond.methodLink "GoblinHouseholdModel" (138 : Nat) ({ cls := "GoblinHouseholdModel", name := "drops", desc := "(I)V" } : Jvm.MethodName)) ∈ lw_all := lw_g (lw_at lw_m11 183 rfl) rfl
theorem q2677 : (Jvm.Cond.privateMethod ({ cls := "GoblinHouseholdModel", name := "drops", desc := "(I)V" } : Jvm.MethodName)) ∈ lw_tbl := lw_at lw_m11 184 rfl
theorem q2678 : (Jvm.Cond.instanceMethod ({ cls := "GoblinHouseholdModel", name := "drops", desc := "(I)V" } : Jvm.MethodName)) ∈ lw_all := lw_g (lw_at lw_m11 185 rfl) rfl
theorem q2679 : (Jvm.Cond.code ({ cls := "GoblinHouseholdModel", name := "drops", desc := "(I)V" } : Jvm.MethodName) prog_26_method_21_code (3 : Nat) (Option.none : Option Jvm.ClassFile.FieldType)) ∈ lw_all := lw_g (lw_at lw_m11 186 rfl) rfl
theorem q2681 : (Jvm.Cond.instanceMethod ({ cls := "GoblinHouseholdModel", name := "lend", desc := "(II)I" } : Jvm.MethodName)) ∈ lw_all := lw_g (lw_at lw_m11 188 rfl) rfl
theorem q2682 : (Jvm.Cond.selects "GoblinHouseholdModel" ({ cls := "GoblinHouseholdModel", name := "lend", desc := "(II)I" } : Jvm.MethodName) ({ cls := "GoblinHouseholdModel", name := "lend", desc := "(II)I" } : Jvm.MethodName)) ∈ lw_all := lw_g (lw_at lw_m11 189 rfl) rfl
theorem q2683 : (Jvm.Cond.code ({ cls := "GoblinHouseholdModel", name := "lend", desc := "(II)I" } : Jvm.MethodName) prog_26_method_41_code (3 : Nat) (Option.some Jvm.ClassFile.FieldType.int)) ∈ lw_all := lw_g (lw_at lw_m11 190 rfl) rfl
theorem q2684 : (Jvm.Cond.methodLink "GoblinHouseholdModel" (145 : Nat) ({ cls := "GoblinHouseholdModel", name := "lends", desc := "(II)I" } : Jvm.MethodName)) ∈ lw_all := lw_g (lw_at lw_m11 191 rfl) rfl
theorem q2685 : (Jvm.Cond.privateMethod ({ cls := "GoblinHouseholdModel", name := "lends", desc := "(II)I" } : Jvm.MethodName)) ∈ lw_tbl := lw_at lw_m11 192 rfl
theorem q2686 : (Jvm.Cond.instanceMethod ({ cls := "GoblinHouseholdModel", name := "lends", desc := "(II)I" } : Jvm.MethodName)) ∈ lw_all := lw_g (lw_at lw_m11 193 rfl) rfl
theorem q2687 : (Jvm.Cond.code ({ cls := "GoblinHouseholdModel", name := "lends", desc := "(II)I" } : Jvm.MethodName) prog_26_method_40_code (5 : Nat) (Option.some Jvm.ClassFile.FieldType.int)) ∈ lw_all := lw_g (lw_at lw_m11 194 rfl) rfl
theorem q2689 : (Jvm.Cond.instanceMethod ({ cls := "GoblinHouseholdModel", name := "fund", desc := "(I)I" } : Jvm.MethodName)) ∈ lw_all := lw_g (lw_at lw_m11 196 rfl) rfl
theorem q2690 : (Jvm.Cond.selects "GoblinHouseholdModel" ({ cls := "GoblinHouseholdModel", name := "fund", desc := "(I)I" } : Jvm.MethodName) ({ cls := "GoblinHouseholdModel", name := "fund", desc := "(I)I" } : Jvm.MethodName)) ∈ lw_all := lw_g (lw_at lw_m11 197 rfl) rfl
theorem q2691 : (Jvm.Cond.code ({ cls := "GoblinHouseholdModel", name := "fund", desc := "(I)I" } : Jvm.MethodName) prog_26_method_43_code (2 : Nat) (Option.some Jvm.ClassFile.FieldType.int)) ∈ lw_all := lw_g (lw_at lw_m11 198 rfl) rfl
theorem q2692 : (Jvm.Cond.methodLink "GoblinHouseholdModel" (148 : Nat) ({ cls := "GoblinHouseholdModel", name := "funds", desc := "(I)I" } : Jvm.MethodName)) ∈ lw_all := lw_g (lw_at lw_m11 199 rfl) rfl
theorem q2693 : (Jvm.Cond.privateMethod ({ cls := "GoblinHouseholdModel", name := "funds", desc := "(I)I" } : Jvm.MethodName)) ∈ lw_tbl := lw_at lw_m11 200 rfl
theorem q2694 : (Jvm.Cond.instanceMethod ({ cls := "GoblinHouseholdModel", name := "funds", desc := "(I)I" } : Jvm.MethodName)) ∈ lw_all := lw_g (lw_at lw_m11 201 rfl) rfl
theorem q2695 : (Jvm.Cond.code ({ cls := "GoblinHouseholdModel", name := "funds", desc := "(I)I" } : Jvm.MethodName) prog_26_method_42_code (2 : Nat) (Option.some Jvm.ClassFile.FieldType.int)) ∈ lw_all := lw_g (lw_at lw_m11 202 rfl) rfl
theorem q2697 : (Jvm.Cond.instanceMethod ({ cls := "GoblinHouseholdModel", name := "spend", desc := "(I)I" } : Jvm.MethodName)) ∈ lw_all := lw_g (lw_at lw_m11 204 rfl) rfl
theorem q2698 : (Jvm.Cond.selects "GoblinHouseholdModel" ({ cls := "GoblinHouseholdModel", name := "spend", desc := "(I)I" } : Jvm.MethodName) ({ cls := "GoblinHouseholdModel", name := "spend", desc := "(I)I" } : Jvm.MethodName)) ∈ lw_all := lw_g (lw_at lw_m11 205 rfl) rfl
theorem q2699 : (Jvm.Cond.code ({ cls := "GoblinHouseholdModel", name := "spend", desc := "(I)I" } : Jvm.MethodName) prog_26_method_45_code (2 : Nat) (Option.some Jvm.ClassFile.FieldType.int)) ∈ lw_all := lw_g (lw_at lw_m11 206 rfl) rfl
theorem q2700 : (Jvm.Cond.methodLink "GoblinHouseholdModel" (151 : Nat) ({ cls := "GoblinHouseholdModel", name := "spends", desc := "(I)I" } : Jvm.MethodName)) ∈ lw_all := lw_g (lw_at lw_m11 207 rfl) rfl
theorem q2701 : (Jvm.Cond.privateMethod ({ cls := "GoblinHouseholdModel", name := "spends", desc := "(I)I" } : Jvm.MethodName)) ∈ lw_tbl := lw_at lw_m11 208 rfl
theorem q2702 : (Jvm.Cond.instanceMethod ({ cls := "GoblinHouseholdModel", name := "spends", desc := "(I)I" } : Jvm.MethodName)) ∈ lw_all := lw_g (lw_at lw_m11 209 rfl) rfl
theorem q2703 : (Jvm.Cond.code ({ cls := "GoblinHouseholdModel", name := "spends", desc := "(I)I" } : Jvm.MethodName) prog_26_method_44_code (2 : Nat) (Option.some Jvm.ClassFile.FieldType.int)) ∈ lw_all := lw_g (lw_at lw_m11 210 rfl) rfl
theorem q2705 : (Jvm.Cond.instanceMethod ({ cls := "GoblinHouseholdModel", name := "passNights", desc := "(I)I" } : Jvm.MethodName)) ∈ lw_all := lw_g (lw_at lw_m11 212 rfl) rfl
theorem q2706 : (Jvm.Cond.selects "GoblinHouseholdModel" ({ cls := "GoblinHouseholdModel", name := "passNights", desc := "(I)I" } : Jvm.MethodName) ({ cls := "GoblinHouseholdModel", name := "passNights", desc := "(I)I" } : Jvm.MethodName)) ∈ lw_all := lw_g (lw_at lw_m11 213 rfl) rfl
theorem q2707 : (Jvm.Cond.code ({ cls := "GoblinHouseholdModel", name := "passNights", desc := "(I)I" } : Jvm.MethodName) prog_26_method_51_code (2 : Nat) (Option.some Jvm.ClassFile.FieldType.int)) ∈ lw_all := lw_g (lw_at lw_m11 214 rfl) rfl
theorem q2708 : (Jvm.Cond.methodLink "GoblinHouseholdModel" (172 : Nat) ({ cls := "GoblinHouseholdModel", name := "waits", desc := "(I)I" } : Jvm.MethodName)) ∈ lw_all := lw_g (lw_at lw_m11 215 rfl) rfl
theorem q2709 : (Jvm.Cond.privateMethod ({ cls := "GoblinHouseholdModel", name := "waits", desc := "(I)I" } : Jvm.MethodName)) ∈ lw_tbl := lw_at lw_m11 216 rfl
theorem q2710 : (Jvm.Cond.instanceMethod ({ cls := "GoblinHouseholdModel", name := "waits", desc := "(I)I" } : Jvm.MethodName)) ∈ lw_all := lw_g (lw_at lw_m11 217 rfl) rfl
theorem q2711 : (Jvm.Cond.code ({ cls := "GoblinHouseholdModel", name := "waits", desc := "(I)I" } : Jvm.MethodName) prog_26_method_50_code (4 : Nat) (Option.some Jvm.ClassFile.FieldType.int)) ∈ lw_all := lw_g (lw_at lw_m11 218 rfl) rfl
theorem q2712 : (Jvm.Cond.methodLink "GoblinHouseholdModel" (169 : Nat) ({ cls := "GoblinHouseholdModel", name := "passes", desc := "()I" } : Jvm.MethodName)) ∈ lw_all := lw_g (lw_at lw_m11 219 rfl) rfl
theorem q2713 : (Jvm.Cond.privateMethod ({ cls := "GoblinHouseholdModel", name := "passes", desc := "()I" } : Jvm.MethodName)) ∈ lw_tbl := lw_at lw_m11 220 rfl
theorem q2714 : (Jvm.Cond.instanceMethod ({ cls := "GoblinHouseholdModel", name := "passes", desc := "()I" } : Jvm.MethodName)) ∈ lw_all := lw_g (lw_at lw_m11 221 rfl) rfl
theorem q2715 : (Jvm.Cond.code ({ cls := "GoblinHouseholdModel", name := "passes", desc := "()I" } : Jvm.MethodName) prog_26_method_49_code (5 : Nat) (Option.some Jvm.ClassFile.FieldType.int)) ∈ lw_all := lw_g (lw_at lw_m11 222 rfl) rfl
theorem q2716 : (Jvm.Cond.methodLink "GoblinHouseholdModel" (163 : Nat) ({ cls := "GoblinHouseholdModel", name := "works", desc := "(I)I" } : Jvm.MethodName)) ∈ lw_all := lw_g (lw_at lw_m11 223 rfl) rfl
theorem q2717 : (Jvm.Cond.privateMethod ({ cls := "GoblinHouseholdModel", name := "works", desc := "(I)I" } : Jvm.MethodName)) ∈ lw_tbl := lw_at lw_m11 224 rfl
theorem q2718 : (Jvm.Cond.instanceMethod ({ cls := "GoblinHouseholdModel", name := "works", desc := "(I)I" } : Jvm.MethodName)) ∈ lw_all := lw_g (lw_at lw_m11 225 rfl) rfl
theorem q2719 : (Jvm.Cond.code ({ cls := "GoblinHouseholdModel", name := "works", desc := "(I)I" } : Jvm.MethodName) prog_26_method_47_code (7 : Nat) (Option.some Jvm.ClassFile.FieldType.int)) ∈ lw_all := lw_g (lw_at lw_m11 226 rfl) rfl
theorem q2720 : (Jvm.Cond.methodLink "GoblinHouseholdModel" (154 : Nat) ({ cls := "GoblinHouseholdModel", name := "energyOf", desc := "(I)I" } : Jvm.MethodName)) ∈ lw_all := lw_g (lw_at lw_m11 227 rfl) rfl
theorem q2721 : (Jvm.Cond.privateMethod ({ cls := "GoblinHouseholdModel", name := "energyOf", desc := "(I)I" } : Jvm.MethodName)) ∈ lw_tbl := lw_at lw_m11 228 rfl
theorem q2722 : (Jvm.Cond.instanceMethod ({ cls := "GoblinHouseholdModel", name := "energyOf", desc := "(I)I" } : Jvm.MethodName)) ∈ lw_all := lw_g (lw_at lw_m11 229 rfl) rfl
theorem q2723 : (Jvm.Cond.code ({ cls := "GoblinHouseholdModel", name := "energyOf", desc := "(I)I" } : Jvm.MethodName) prog_26_method_24_code (2 : Nat) (Option.some Jvm.ClassFile.FieldType.int)) ∈ lw_all := lw_g (lw_at lw_m11 230 rfl) rfl
theorem q2724 : (Jvm.Cond.methodLink "GoblinHouseholdModel" (157 : Nat) ({ cls := "GoblinHouseholdModel", name := "greatestPower", desc := "()I" } : Jvm.MethodName)) ∈ lw_all := lw_g (lw_at lw_m11 231 rfl) rfl
theorem q2725 : (Jvm.Cond.privateMethod ({ cls := "GoblinHouseholdModel", name := "greatestPower", desc := "()I" } : Jvm.MethodName)) ∈ lw_tbl := lw_at lw_m11 232 rfl
theorem q2726 : (Jvm.Cond.instanceMethod ({ cls := "GoblinHouseholdModel", name := "greatestPower", desc := "()I" } : Jvm.MethodName)) ∈ lw_all := lw_g (lw_at lw_m11 233 rfl) rfl
theorem q2727 : (Jvm.Cond.code ({ cls := "GoblinHouseholdModel", name := "greatestPower", desc := "()I" } : Jvm.MethodName) prog_26_method_23_code (3 : Nat) (Option.some Jvm.ClassFile.FieldType.int)) ∈ lw_all := lw_g (lw_at lw_m11 234 rfl) rfl
theorem q2728 : (Jvm.Cond.methodLink "GoblinHouseholdModel" (90 : Nat) ({ cls := "java/lang/Math", name := "max", desc := "(II)I" } : Jvm.MethodName)) ∈ lw_all := lw_g (lw_at lw_m11 235 rfl) rfl
theorem q2729 : (Jvm.Cond.methodLink "GoblinHouseholdModel" (160 : Nat) ({ cls := "GoblinHouseholdModel", name := "pays", desc := "(I)V" } : Jvm.MethodName)) ∈ lw_all := lw_g (lw_at lw_m11 236 rfl) rfl
theorem q2730 : (Jvm.Cond.privateMethod ({ cls := "GoblinHouseholdModel", name := "pays", desc := "(I)V" } : Jvm.MethodName)) ∈ lw_tbl := lw_at lw_m11 237 rfl
theorem q2731 : (Jvm.Cond.instanceMethod ({ cls := "GoblinHouseholdModel", name := "pays", desc := "(I)V" } : Jvm.MethodName)) ∈ lw_all := lw_g (lw_at lw_m11 238 rfl) rfl
theorem q2732 : (Jvm.Cond.code ({ cls := "GoblinHouseholdModel", name := "pays", desc := "(I)V" } : Jvm.MethodName) prog_26_method_46_code (5 : Nat) (Option.none : Option Jvm.ClassFile.FieldType)) ∈ lw_all := lw_g (lw_at lw_m11 239 rfl) rfl
theorem q2733 : (Jvm.Cond.methodLink "GoblinHouseholdModel" (166 : Nat) ({ cls := "GoblinHouseholdModel", name := "breaks", desc := "(I)V" } : Jvm.MethodName)) ∈ lw_all := lw_g (lw_at lw_m12 0 rfl) rfl
theorem q2734 : (Jvm.Cond.privateMethod ({ cls := "GoblinHouseholdModel", name := "breaks", desc := "(I)V" } : Jvm.MethodName)) ∈ lw_tbl := lw_at lw_m12 1 rfl
theorem q2735 : (Jvm.Cond.instanceMethod ({ cls := "GoblinHouseholdModel", name := "breaks", desc := "(I)V" } : Jvm.MethodName)) ∈ lw_all := lw_g (lw_at lw_m12 2 rfl) rfl
theorem q2736 : (Jvm.Cond.code ({ cls := "GoblinHouseholdModel", name := "breaks", desc := "(I)V" } : Jvm.MethodName) prog_26_method_48_code (3 : Nat) (Option.none : Option Jvm.ClassFile.FieldType)) ∈ lw_all := lw_g (lw_at lw_m12 3 rfl) rfl
theorem q2738 : (Jvm.Cond.instanceMethod ({ cls := "GoblinHouseholdModel", name := "dust", desc := "(I)I" } : Jvm.MethodName)) ∈ lw_all := lw_g (lw_at lw_m12 5 rfl) rfl
theorem q2739 : (Jvm.Cond.selects "GoblinHouseholdModel" ({ cls := "GoblinHouseholdModel", name := "dust", desc := "(I)I" } : Jvm.MethodName) ({ cls := "GoblinHouseholdModel", name := "dust", desc := "(I)I" } : Jvm.MethodName)) ∈ lw_all := lw_g (lw_at lw_m12 6 rfl) rfl
theorem q2740 : (Jvm.Cond.code ({ cls := "GoblinHouseholdModel", name := "dust", desc := "(I)I" } : Jvm.MethodName) prog_26_method_52_code (2 : Nat) (Option.some Jvm.ClassFile.FieldType.int)) ∈ lw_all := lw_g (lw_at lw_m12 7 rfl) rfl
theorem q2742 : (Jvm.Cond.instanceMethod ({ cls := "GoblinHouseholdModel", name := "roomByDust", desc := "(I)I" } : Jvm.MethodName)) ∈ lw_all := lw_g (lw_at lw_m12 9 rfl) rfl
theorem q2743 : (Jvm.Cond.selects "GoblinHouseholdModel" ({ cls := "GoblinHouseholdModel", name := "roomByDust", desc := "(I)I" } : Jvm.MethodName) ({ cls := "GoblinHouseholdModel", name := "roomByDust", desc := "(I)I" } : Jvm.MethodName)) ∈ lw_all := lw_g (lw_at lw_m12 10 rfl) rfl
theorem q2744 : (Jvm.Cond.code ({ cls := "GoblinHouseholdModel", name := "roomByDust", desc := "(I)I" } : Jvm.MethodName) prog_26_method_53_code (7 : Nat) (Option.some Jvm.ClassFile.FieldType.int)) ∈ lw_all := lw_g (lw_at lw_m12 11 rfl) rfl
theorem q2746 : (Jvm.Cond.instanceMethod ({ cls := "GoblinHouseholdModel", name := "broomCount", desc := "()I" } : Jvm.MethodName)) ∈ lw_all := lw_g (lw_at lw_m12 13 rfl) rfl
theorem q2747 : (Jvm.Cond.selects "GoblinHouseholdModel" ({ cls := "GoblinHouseholdModel", name := "broomCount", desc := "()I" } : Jvm.MethodName) ({ cls := "GoblinHouseholdModel", name := "broomCount", desc := "()I" } : Jvm.MethodName)) ∈ lw_all := lw_g (lw_at lw_m12 14 rfl) rfl
theorem q2748 : (Jvm.Cond.code ({ cls := "GoblinHouseholdModel", name := "broomCount", desc := "()I" } : Jvm.MethodName) prog_26_method_54_code (1 : Nat) (Option.some Jvm.ClassFile.FieldType.int)) ∈ lw_all := lw_g (lw_at lw_m12 15 rfl) rfl
theorem q2750 : (Jvm.Cond.instanceMethod ({ cls := "GoblinHouseholdModel", name := "power", desc := "(I)I" } : Jvm.MethodName)) ∈ lw_all := lw_g (lw_at lw_m12 17 rfl) rfl
theorem q2751 : (Jvm.Cond.selects "GoblinHouseholdModel" ({ cls := "GoblinHouseholdModel", name := "power", desc := "(I)I" } : Jvm.MethodName) ({ cls := "GoblinHouseholdModel", name := "power", desc := "(I)I" } : Jvm.MethodName)) ∈ lw_all := lw_g (lw_at lw_m12 18 rfl) rfl
theorem q2752 : (Jvm.Cond.code ({ cls := "GoblinHouseholdModel", name := "power", desc := "(I)I" } : Jvm.MethodName) prog_26_method_55_code (2 : Nat) (Option.some Jvm.ClassFile.FieldType.int)) ∈ lw_all := lw_g (lw_at lw_m12 19 rfl) rfl
theorem q2754 : (Jvm.Cond.instanceMethod ({ cls := "GoblinHouseholdModel", name := "isBanished", desc := "(I)Z" } : Jvm.MethodName)) ∈ lw_all := lw_g (lw_at lw_m12 21 rfl) rfl
theorem q2755 : (Jvm.Cond.selects "GoblinHouseholdModel" ({ cls := "GoblinHouseholdModel", name := "isBanished", desc := "(I)Z" } : Jvm.MethodName) ({ cls := "GoblinHouseholdModel", name := "isBanished", desc := "(I)Z" } : Jvm.MethodName)) ∈ lw_all := lw_g (lw_at lw_m12 22 rfl) rfl
theorem q2756 : (Jvm.Cond.code ({ cls := "GoblinHouseholdModel", name := "isBanished", desc := "(I)Z" } : Jvm.MethodName) prog_26_method_56_code (2 : Nat) (Option.some Jvm.ClassFile.FieldType.boolean)) ∈ lw_all := lw_g (lw_at lw_m12 23 rfl) rfl
theorem q2758 : (Jvm.Cond.instanceMethod ({ cls := "GoblinHouseholdModel", name := "goblinCount", desc := "()I" } : Jvm.MethodName)) ∈ lw_all := lw_g (lw_at lw_m12 25 rfl) rfl
theorem q2759 : (Jvm.Cond.selects "GoblinHouseholdModel" ({ cls := "GoblinHouseholdModel", name := "goblinCount", desc := "()I" } : Jvm.MethodName) ({ cls := "GoblinHouseholdModel", name := "goblinCount", desc := "()I" } : Jvm.MethodName)) ∈ lw_all := lw_g (lw_at lw_m12 26 rfl) rfl
theorem q2760 : (Jvm.Cond.code ({ cls := "GoblinHouseholdModel", name := "goblinCount", desc := "()I" } : Jvm.MethodName) prog_26_method_57_code (1 : Nat) (Option.some Jvm.ClassFile.FieldType.int)) ∈ lw_all := lw_g (lw_at lw_m12 27 rfl) rfl
theorem q2762 : (Jvm.Cond.instanceMethod ({ cls := "GoblinHouseholdModel", name := "strength", desc := "(I)I" } : Jvm.MethodName)) ∈ lw_all := lw_g (lw_at lw_m12 29 rfl) rfl
theorem q2763 : (Jvm.Cond.selects "GoblinHouseholdModel" ({ cls := "GoblinHouseholdModel", name := "strength", desc := "(I)I" } : Jvm.MethodName) ({ cls := "GoblinHouseholdModel", name := "strength", desc := "(I)I" } : Jvm.MethodName)) ∈ lw_all := lw_g (lw_at lw_m12 30 rfl) rfl
theorem q2764 : (Jvm.Cond.code ({ cls := "GoblinHouseholdModel", name := "strength", desc := "(I)I" } : Jvm.MethodName) prog_26_method_59_code (2 : Nat) (Option.some Jvm.ClassFile.FieldType.int)) ∈ lw_all := lw_g (lw_at lw_m12 31 rfl) rfl
theorem q2765 : (Jvm.Cond.methodLink "GoblinHouseholdModel" (175 : Nat) ({ cls := "GoblinHouseholdModel", name := "asks", desc := "(II)I" } : Jvm.MethodName)) ∈ lw_all := lw_g (lw_at lw_m12 32 rfl) rfl
theorem q2766 : (Jvm.Cond.privateMethod ({ cls := "GoblinHouseholdModel", name := "asks", desc := "(II)I" } : Jvm.MethodName)) ∈ lw_tbl := lw_at lw_m12 33 rfl
theorem q2767 : (Jvm.Cond.instanceMethod ({ cls := "GoblinHouseholdModel", name := "asks", desc := "(II)I" } : Jvm.MethodName)) ∈ lw_all := lw_g (lw_at lw_m12 34 rfl) rfl
theorem q2768 : (Jvm.Cond.code ({ cls := "GoblinHouseholdModel", name := "asks", desc := "(II)I" } : Jvm.MethodName) prog_26_method_58_code (3 : Nat) (Option.some Jvm.ClassFile.FieldType.int)) ∈ lw_all := lw_g (lw_at lw_m12 35 rfl) rfl
theorem q2770 : (Jvm.Cond.instanceMethod ({ cls := "GoblinHouseholdModel", name := "purse", desc := "(I)I" } : Jvm.MethodName)) ∈ lw_all := lw_g (lw_at lw_m12 37 rfl) rfl
theorem q2771 : (Jvm.Cond.selects "GoblinHouseholdModel" ({ cls := "GoblinHouseholdModel", name := "purse", desc := "(I)I" } : Jvm.MethodName) ({ cls := "GoblinHouseholdModel", name := "purse", desc := "(I)I" } : Jvm.MethodName)) ∈ lw_all := lw_g (lw_at lw_m12 38 rfl) rfl
theorem q2772 : (Jvm.Cond.code ({ cls := "GoblinHouseholdModel", name := "purse", desc := "(I)I" } : Jvm.MethodName) prog_26_method_60_code (2 : Nat) (Option.some Jvm.ClassFile.FieldType.int)) ∈ lw_all := lw_g (lw_at lw_m12 39 rfl) rfl
theorem q2774 : (Jvm.Cond.instanceMethod ({ cls := "GoblinHouseholdModel", name := "debt", desc := "(I)I" } : Jvm.MethodName)) ∈ lw_all := lw_g (lw_at lw_m12 41 rfl) rfl
theorem q2775 : (Jvm.Cond.selects "GoblinHouseholdModel" ({ cls := "GoblinHouseholdModel", name := "debt", desc := "(I)I" } : Jvm.MethodName) ({ cls := "GoblinHouseholdModel", name := "debt", desc := "(I)I" } : Jvm.MethodName)) ∈ lw_all := lw_g (lw_at lw_m12 42 rfl) rfl
theorem q2776 : (Jvm.Cond.code ({ cls := "GoblinHouseholdModel", name := "debt", desc := "(I)I" } : Jvm.MethodName) prog_26_method_61_code (2 : Nat) (Option.some Jvm.ClassFile.FieldType.int)) ∈ lw_all := lw_g (lw_at lw_m12 43 rfl) rfl
theorem q2778 : (Jvm.Cond.instanceMethod ({ cls := "GoblinHouseholdModel", name := "skippedNights", desc := "(I)I" } : Jvm.MethodName)) ∈ lw_all := lw_g (lw_at lw_m12 45 rfl) rfl
theorem q2779 : (Jvm.Cond.selects "GoblinHouseholdModel" ({ cls := "GoblinHouseholdModel", name := "skippedNights", desc := "(I)I" } : Jvm.MethodName) ({ cls := "GoblinHouseholdModel", name := "skippedNights", desc := "(I)I" } : Jvm.MethodName)) ∈ lw_all := lw_g (lw_at lw_m12 46 rfl) rfl
theorem q2780 : (Jvm.Cond.code ({ cls := "GoblinHouseholdModel", name := "skippedNights", desc := "(I)I" } : Jvm.MethodName) prog_26_method_62_code (2 : Nat) (Option.some Jvm.ClassFile.FieldType.int)) ∈ lw_all := lw_g (lw_at lw_m12 47 rfl) rfl
theorem q2782 : (Jvm.Cond.instanceMethod ({ cls := "GoblinHouseholdModel", name := "isResting", desc := "(I)Z" } : Jvm.MethodName)) ∈ lw_all := lw_g (lw_at lw_m12 49 rfl) rfl
theorem q2783 : (Jvm.Cond.selects "GoblinHouseholdModel" ({ cls := "GoblinHouseholdModel", name := "isResting", desc := "(I)Z" } : Jvm.MethodName) ({ cls := "GoblinHouseholdModel", name := "isResting", desc := "(I)Z" } : Jvm.MethodName)) ∈ lw_all := lw_g (lw_at lw_m12 50 rfl) rfl
theorem q2784 : (Jvm.Cond.code ({ cls := "GoblinHouseholdModel", name := "isResting", desc := "(I)Z" } : Jvm.MethodName) prog_26_method_63_code (2 : Nat) (Option.some Jvm.ClassFile.FieldType.boolean)) ∈ lw_all := lw_g (lw_at lw_m12 51 rfl) rfl
theorem q2786 : (Jvm.Cond.instanceMethod ({ cls := "GoblinHouseholdModel", name := "energy", desc := "(I)I" } : Jvm.MethodName)) ∈ lw_all := lw_g (lw_at lw_m12 53 rfl) rfl
theorem q2787 : (Jvm.Cond.selects "GoblinHouseholdModel" ({ cls := "GoblinHouseholdModel", name := "energy", desc := "(I)I" } : Jvm.MethodName) ({ cls := "GoblinHouseholdModel", name := "energy", desc := "(I)I" } : Jvm.MethodName)) ∈ lw_all := lw_g (lw_at lw_m12 54 rfl) rfl
theorem q2788 : (Jvm.Cond.code ({ cls := "GoblinHouseholdModel", name := "energy", desc := "(I)I" } : Jvm.MethodName) prog_26_method_64_code (2 : Nat) (Option.some Jvm.ClassFile.FieldType.int)) ∈ lw_all := lw_g (lw_at lw_m12 55 rfl) rfl
theorem q2790 : (Jvm.Cond.instanceMethod ({ cls := "GoblinHouseholdModel", name := "goblinByWealth", desc := "(I)I" } : Jvm.MethodName)) ∈ lw_all := lw_g (lw_at lw_m12 57 rfl) rfl
theorem q2791 : (Jvm.Cond.selects "GoblinHouseholdModel" ({ cls := "GoblinHouseholdModel", name := "goblinByWealth", desc := "(I)I" } : Jvm.MethodName) ({ cls := "GoblinHouseholdModel", name := "goblinByWealth", desc := "(I)I" } : Jvm.MethodName)) ∈ lw_all := lw_g (lw_at lw_m12 58 rfl) rfl
theorem q2792 : (Jvm.Cond.code ({ cls := "GoblinHouseholdModel", name := "goblinByWealth", desc := "(I)I" } : Jvm.MethodName) prog_26_method_65_code (8 : Nat) (Option.some Jvm.ClassFile.FieldType.int)) ∈ lw_all := lw_g (lw_at lw_m12 59 rfl) rfl
theorem q2794 : (Jvm.Cond.instanceMethod ({ cls := "GoblinHouseholdModel", name := "bestWages", desc := "(I)I" } : Jvm.MethodName)) ∈ lw_all := lw_g (lw_at lw_m12 61 rfl) rfl
theorem q2795 : (Jvm.Cond.selects "GoblinHouseholdModel" ({ cls := "GoblinHouseholdModel", name := "bestWages", desc := "(I)I" } : Jvm.MethodName) ({ cls := "GoblinHouseholdModel", name := "bestWages", desc := "(I)I" } : Jvm.MethodName)) ∈ lw_all := lw_g (lw_at lw_m12 62 rfl) rfl
theorem q2796 : (Jvm.Cond.code ({ cls := "GoblinHouseholdModel", name := "bestWages", desc := "(I)I" } : Jvm.MethodName) prog_26_method_67_code (2 : Nat) (Option.some Jvm.ClassFile.FieldType.int)) ∈ lw_all := lw_g (lw_at lw_m12 63 rfl) rfl
theorem q2797 : (Jvm.Cond.methodLink "GoblinHouseholdModel" (178 : Nat) ({ cls := "GoblinHouseholdModel", name := "bestOf", desc := "(I)I" } : Jvm.MethodName)) ∈ lw_all := lw_g (lw_at lw_m12 64 rfl) rfl
theorem q2798 : (Jvm.Cond.privateMethod ({ cls := "GoblinHouseholdModel", name := "bestOf", desc := "(I)I" } : Jvm.MethodName)) ∈ lw_tbl := lw_at lw_m12 65 rfl
theorem q2799 : (Jvm.Cond.instanceMethod ({ cls := "GoblinHouseholdModel", name := "bestOf", desc := "(I)I" } : Jvm.MethodName)) ∈ lw_all := lw_g (lw_at lw_m12 66 rfl) rfl
theorem q2800 : (Jvm.Cond.code ({ cls := "GoblinHouseholdModel", name := "bestOf", desc := "(I)I" } : Jvm.MethodName) prog_26_method_66_code (5 : Nat) (Option.some Jvm.ClassFile.FieldType.int)) ∈ lw_all := lw_g (lw_at lw_m12 67 rfl) rfl
theorem q2802 : (Jvm.Cond.instanceMethod ({ cls := "GoblinHouseholdModel", name := "bestWagesByTable", desc := "(I)I" } : Jvm.MethodName)) ∈ lw_all := lw_g (lw_at lw_m12 69 rfl) rfl
theorem q2803 : (Jvm.Cond.selects "GoblinHouseholdModel" ({ cls := "GoblinHouseholdModel", name := "bestWagesByTable", desc := "(I)I" } : Jvm.MethodName) ({ cls := "GoblinHouseholdModel", name := "bestWagesByTable", desc := "(I)I" } : Jvm.MethodName)) ∈ lw_all := lw_g (lw_at lw_m12 70 rfl) rfl
theorem q2804 : (Jvm.Cond.code ({ cls := "GoblinHouseholdModel", name := "bestWagesByTable", desc := "(I)I" } : Jvm.MethodName) prog_26_method_68_code (2 : Nat) (Option.some Jvm.ClassFile.FieldType.int)) ∈ lw_all := lw_g (lw_at lw_m12 71 rfl) rfl
theorem q2806 : (Jvm.Cond.instanceMethod ({ cls := "GoblinHouseholdModel", name := "openContracts", desc := "()I" } : Jvm.MethodName)) ∈ lw_all := lw_g (lw_at lw_m12 73 rfl) rfl
theorem q2807 : (Jvm.Cond.selects "GoblinHouseholdModel" ({ cls := "GoblinHouseholdModel", name := "openContracts", desc := "()I" } : Jvm.MethodName) ({ cls := "GoblinHouseholdModel", name := "openContracts", desc := "()I" } : Jvm.MethodName)) ∈ lw_all := lw_g (lw_at lw_m12 74 rfl) rfl
theorem q2808 : (Jvm.Cond.code ({ cls := "GoblinHouseholdModel", name := "openContracts", desc := "()I" } : Jvm.MethodName) prog_26_method_69_code (1 : Nat) (Option.some Jvm.ClassFile.FieldType.int)) ∈ lw_all := lw_g (lw_at lw_m12 75 rfl) rfl
theorem q2810 : (Jvm.Cond.instanceMethod ({ cls := "GoblinHouseholdModel", name := "contractAt", desc := "(I)I" } : Jvm.MethodName)) ∈ lw_all := lw_g (lw_at lw_m12 77 rfl) rfl
theorem q2811 : (Jvm.Cond.selects "GoblinHouseholdModel" ({ cls := "GoblinHouseholdModel", name := "contractAt", desc := "(I)I" } : Jvm.MethodName) ({ cls := "GoblinHouseholdModel", name := "contractAt", desc := "(I)I" } : Jvm.MethodName)) ∈ lw_all := lw_g (lw_at lw_m12 78 rfl) rfl
theorem q2812 : (Jvm.Cond.code ({ cls := "GoblinHouseholdModel", name := "contractAt", desc := "(I)I" } : Jvm.MethodName) prog_26_method_70_code (2 : Nat) (Option.some Jvm.ClassFile.FieldType.int)) ∈ lw_all := lw_g (lw_at lw_m12 79 rfl) rfl
theorem q2814 : (Jvm.Cond.instanceMethod ({ cls := "GoblinHouseholdModel", name := "goblinOf", desc := "(I)I" } : Jvm.MethodName)) ∈ lw_all := lw_g (lw_at lw_m12 81 rfl) rfl
theorem q2815 : (Jvm.Cond.selects "GoblinHouseholdModel" ({ cls := "GoblinHouseholdModel", name := "goblinOf", desc := "(I)I" } : Jvm.MethodName) ({ cls := "GoblinHouseholdModel", name := "goblinOf", desc := "(I)I" } : Jvm.MethodName)) ∈ lw_all := lw_g (lw_at lw_m12 82 rfl) rfl
theorem q2816 : (Jvm.Cond.code ({ cls := "GoblinHouseholdModel", name := "goblinOf", desc := "(I)I" } : Jvm.MethodName) prog_26_method_72_code (2 : Nat) (Option.some Jvm.ClassFile.FieldType.int)) ∈ lw_all := lw_g (lw_at lw_m12 83 rfl) rfl
theorem q2817 : (Jvm.Cond.methodLink "GoblinHouseholdModel" (181 : Nat) ({ cls := "GoblinHouseholdModel", name := "asksContract", desc := "(II)I" } : Jvm.MethodName)) ∈ lw_all := lw_g (lw_at lw_m12 84 rfl) rfl
theorem q2818 : (Jvm.Cond.privateMethod ({ cls := "GoblinHouseholdModel", name := "asksContract", desc := "(II)I" } : Jvm.MethodName)) ∈ lw_tbl := lw_at lw_m12 85 rfl
theorem q2819 : (Jvm.Cond.instanceMethod ({ cls := "GoblinHouseholdModel", name := "asksContract", desc := "(II)I" } : Jvm.MethodName)) ∈ lw_all := lw_g (lw_at lw_m12 86 rfl) rfl
theorem q2820 : (Jvm.Cond.code ({ cls := "GoblinHouseholdModel", name := "asksContract", desc := "(II)I" } : Jvm.MethodName) prog_26_method_71_code (4 : Nat) (Option.some Jvm.ClassFile.FieldType.int)) ∈ lw_all := lw_g (lw_at lw_m12 87 rfl) rfl
theorem q2822 : (Jvm.Cond.instanceMethod ({ cls := "GoblinHouseholdModel", name := "roomOf", desc := "(I)I" } : Jvm.MethodName)) ∈ lw_all := lw_g (lw_at lw_m12 89 rfl) rfl
theorem q2823 : (Jvm.Cond.selects "GoblinHouseholdModel" ({ cls := "GoblinHouseholdModel", name := "roomOf", desc := "(I)I" } : Jvm.MethodName) ({ cls := "GoblinHouseholdModel", name := "roomOf", desc := "(I)I" } : Jvm.MethodName)) ∈ lw_all := lw_g (lw_at lw_m12 90 rfl) rfl
theorem q2824 : (Jvm.Cond.code ({ cls := "GoblinHouseholdModel", name := "roomOf", desc := "(I)I" } : Jvm.MethodName) prog_26_method_73_code (2 : Nat) (Option.some Jvm.ClassFile.FieldType.int)) ∈ lw_all := lw_g (lw_at lw_m12 91 rfl) rfl
theorem q2826 : (Jvm.Cond.instanceMethod ({ cls := "GoblinHouseholdModel", name := "wage", desc := "(I)I" } : Jvm.MethodName)) ∈ lw_all := lw_g (lw_at lw_m12 93 rfl) rfl
theorem q2827 : (Jvm.Cond.selects "GoblinHouseholdModel" ({ cls := "GoblinHouseholdModel", name := "wage", desc := "(I)I" } : Jvm.MethodName) ({ cls := "GoblinHouseholdModel", name := "wage", desc := "(I)I" } : Jvm.MethodName)) ∈ lw_all := lw_g (lw_at lw_m12 94 rfl) rfl
theorem q2828 : (Jvm.Cond.code ({ cls := "GoblinHouseholdModel", name := "wage", desc := "(I)I" } : Jvm.MethodName) prog_26_method_74_code (2 : Nat) (Option.some Jvm.ClassFile.FieldType.int)) ∈ lw_all := lw_g (lw_at lw_m12 95 rfl) rfl
theorem q2830 : (Jvm.Cond.instanceMethod ({ cls := "GoblinHouseholdModel", name := "effort", desc := "(I)I" } : Jvm.MethodName)) ∈ lw_all := lw_g (lw_at lw_m12 97 rfl) rfl
theorem q2831 : (Jvm.Cond.selects "GoblinHouseholdModel" ({ cls := "GoblinHouseholdModel", name := "effort", desc := "(I)I" } : Jvm.MethodName) ({ cls := "GoblinHouseholdModel", name := "effort", desc := "(I)I" } : Jvm.MethodName)) ∈ lw_all := lw_g (lw_at lw_m12 98 rfl) rfl
theorem q2832 : (Jvm.Cond.code ({ cls := "GoblinHouseholdModel", name := "effort", desc := "(I)I" } : Jvm.MethodName) prog_26_method_75_code (2 : Nat) (Option.some Jvm.ClassFile.FieldType.int)) ∈ lw_all := lw_g (lw_at lw_m12 99 rfl) rfl
theorem q2834 : (Jvm.Cond.instanceMethod ({ cls := "GoblinHouseholdModel", name := "nightsUntilDone", desc := "(I)I" } : Jvm.MethodName)) ∈ lw_all := lw_g (lw_at lw_m12 101 rfl) rfl
theorem q2835 : (Jvm.Cond.selects "GoblinHouseholdModel" ({ cls := "GoblinHouseholdModel", name := "nightsUntilDone", desc := "(I)I" } : Jvm.MethodName) ({ cls := "GoblinHouseholdModel", name := "nightsUntilDone", desc := "(I)I" } : Jvm.MethodName)) ∈ lw_all := lw_g (lw_at lw_m12 102 rfl) rfl
theorem q2836 : (Jvm.Cond.code ({ cls := "GoblinHouseholdModel", name := "nightsUntilDone", desc := "(I)I" } : Jvm.MethodName) prog_26_method_76_code (8 : Nat) (Option.some Jvm.ClassFile.FieldType.int)) ∈ lw_all := lw_g (lw_at lw_m12 103 rfl) rfl
theorem q2837 : (Jvm.Cond.methodLink "GoblinHouseholdModel" (184 : Nat) ({ cls := "GoblinHouseholdModel", name := "wasBroken", desc := "(II)Z" } : Jvm.MethodName)) ∈ lw_all := lw_g (lw_at lw_m12 104 rfl) rfl
theorem q2838 : (Jvm.Cond.privateMethod ({ cls := "GoblinHouseholdModel", name := "wasBroken", desc := "(II)Z" } : Jvm.MethodName)) ∈ lw_tbl := lw_at lw_m12 105 rfl
theorem q2839 : (Jvm.Cond.instanceMethod ({ cls := "GoblinHouseholdModel", name := "wasBroken", desc := "(II)Z" } : Jvm.MethodName)) ∈ lw_all := lw_g (lw_at lw_m12 106 rfl) rfl
theorem q2840 : (Jvm.Cond.code ({ cls := "GoblinHouseholdModel", name := "wasBroken", desc := "(II)Z" } : Jvm.MethodName) prog_26_method_77_code (6 : Nat) (Option.some Jvm.ClassFile.FieldType.boolean)) ∈ lw_all := lw_g (lw_at lw_m12 107 rfl) rfl
theorem q2842 : (Jvm.Cond.instanceMethod ({ cls := "GoblinHouseholdModel", name := "chestAfter", desc := "(I)I" } : Jvm.MethodName)) ∈ lw_all := lw_g (lw_at lw_m12 109 rfl) rfl
theorem q2843 : (Jvm.Cond.selects "GoblinHouseholdModel" ({ cls := "GoblinHouseholdModel", name := "chestAfter", desc := "(I)I" } : Jvm.MethodName) ({ cls := "GoblinHouseholdModel", name := "chestAfter", desc := "(I)I" } : Jvm.MethodName)) ∈ lw_all := lw_g (lw_at lw_m12 110 rfl) rfl
theorem q2844 : (Jvm.Cond.code ({ cls := "GoblinHouseholdModel", name := "chestAfter", desc := "(I)I" } : Jvm.MethodName) prog_26_method_79_code (2 : Nat) (Option.some Jvm.ClassFile.FieldType.int)) ∈ lw_all := lw_g (lw_at lw_m12 111 rfl) rfl
theorem q2845 : (Jvm.Cond.methodLink "GoblinHouseholdModel" (187 : Nat) ({ cls := "GoblinHouseholdModel", name := "after", desc := "(II)I" } : Jvm.MethodName)) ∈ lw_all := lw_g (lw_at lw_m12 112 rfl) rfl
theorem q2846 : (Jvm.Cond.privateMethod ({ cls := "GoblinHouseholdModel", name := "after", desc := "(II)I" } : Jvm.MethodName)) ∈ lw_tbl := lw_at lw_m12 113 rfl
theorem q2847 : (Jvm.Cond.instanceMethod ({ cls := "GoblinHouseholdModel", name := "after", desc := "(II)I" } : Jvm.MethodName)) ∈ lw_all := lw_g (lw_at lw_m12 114 rfl) rfl
theorem q2848 : (Jvm.Cond.code ({ cls := "GoblinHouseholdModel", name := "after", desc := "(II)I" } : Jvm.MethodName) prog_26_method_78_code (5 : Nat) (Option.some Jvm.ClassFile.FieldType.int)) ∈ lw_all := lw_g (lw_at lw_m12 115 rfl) rfl
theorem q2850 : (Jvm.Cond.instanceMethod ({ cls := "GoblinHouseholdModel", name := "debtAfter", desc := "(II)I" } : Jvm.MethodName)) ∈ lw_all := lw_g (lw_at lw_m12 117 rfl) rfl
theorem q2851 : (Jvm.Cond.selects "GoblinHouseholdModel" ({ cls := "GoblinHouseholdModel", name := "debtAfter", desc := "(II)I" } : Jvm.MethodName) ({ cls := "GoblinHouseholdModel", name := "debtAfter", desc := "(II)I" } : Jvm.MethodName)) ∈ lw_all := lw_g (lw_at lw_m12 118 rfl) rfl
theorem q2852 : (Jvm.Cond.code ({ cls := "GoblinHouseholdModel", name := "debtAfter", desc := "(II)I" } : Jvm.MethodName) prog_26_method_80_code (3 : Nat) (Option.some Jvm.ClassFile.FieldType.int)) ∈ lw_all := lw_g (lw_at lw_m12 119 rfl) rfl
theorem q2854 : (Jvm.Cond.instanceMethod ({ cls := "GoblinHouseholdModel", name := "night", desc := "()I" } : Jvm.MethodName)) ∈ lw_all := lw_g (lw_at lw_m12 121 rfl) rfl
theorem q2855 : (Jvm.Cond.selects "GoblinHouseholdModel" ({ cls := "GoblinHouseholdModel", name := "night", desc := "()I" } : Jvm.MethodName) ({ cls := "GoblinHouseholdModel", name := "night", desc := "()I" } : Jvm.MethodName)) ∈ lw_all := lw_g (lw_at lw_m12 122 rfl) rfl
theorem q2856 : (Jvm.Cond.code ({ cls := "GoblinHouseholdModel", name := "night", desc := "()I" } : Jvm.MethodName) prog_26_method_82_code (1 : Nat) (Option.some Jvm.ClassFile.FieldType.int)) ∈ lw_all := lw_g (lw_at lw_m12 123 rfl) rfl
theorem q2857 : (Jvm.Cond.methodLink "GoblinHouseholdModel" (190 : Nat) ({ cls := "GoblinHouseholdModel", name := "total", desc := "(I)I" } : Jvm.MethodName)) ∈ lw_all := lw_g (lw_at lw_m12 124 rfl) rfl
theorem q2858 : (Jvm.Cond.privateMethod ({ cls := "GoblinHouseholdModel", name := "total", desc := "(I)I" } : Jvm.MethodName)) ∈ lw_tbl := lw_at lw_m12 125 rfl
theorem q2859 : (Jvm.Cond.instanceMethod ({ cls := "GoblinHouseholdModel", name := "total", desc := "(I)I" } : Jvm.MethodName)) ∈ lw_all := lw_g (lw_at lw_m12 126 rfl) rfl
theorem q2860 : (Jvm.Cond.code ({ cls := "GoblinHouseholdModel", name := "total", desc := "(I)I" } : Jvm.MethodName) prog_26_method_81_code (2 : Nat) (Option.some Jvm.ClassFile.FieldType.int)) ∈ lw_all := lw_g (lw_at lw_m12 127 rfl) rfl
theorem q2862 : (Jvm.Cond.instanceMethod ({ cls := "GoblinHouseholdModel", name := "chest", desc := "()I" } : Jvm.MethodName)) ∈ lw_all := lw_g (lw_at lw_m12 129 rfl) rfl
theorem q2863 : (Jvm.Cond.selects "GoblinHouseholdModel" ({ cls := "GoblinHouseholdModel", name := "chest", desc := "()I" } : Jvm.MethodName) ({ cls := "GoblinHouseholdModel", name := "chest", desc := "()I" } : Jvm.MethodName)) ∈ lw_all := lw_g (lw_at lw_m12 130 rfl) rfl
theorem q2864 : (Jvm.Cond.code ({ cls := "GoblinHouseholdModel", name := "chest", desc := "()I" } : Jvm.MethodName) prog_26_method_83_code (1 : Nat) (Option.some Jvm.ClassFile.FieldType.int)) ∈ lw_all := lw_g (lw_at lw_m12 131 rfl) rfl
theorem q2866 : (Jvm.Cond.instanceMethod ({ cls := "GoblinHouseholdModel", name := "allCrumbs", desc := "()I" } : Jvm.MethodName)) ∈ lw_all := lw_g (lw_at lw_m12 133 rfl) rfl
theorem q2867 : (Jvm.Cond.selects "GoblinHouseholdModel" ({ cls := "GoblinHouseholdModel", name := "allCrumbs", desc := "()I" } : Jvm.MethodName) ({ cls := "GoblinHouseholdModel", name := "allCrumbs", desc := "()I" } : Jvm.MethodName)) ∈ lw_all := lw_g (lw_at lw_m12 134 rfl) rfl
theorem q2868 : (Jvm.Cond.code ({ cls := "GoblinHouseholdModel", name := "allCrumbs", desc := "()I" } : Jvm.MethodName) prog_26_method_84_code (3 : Nat) (Option.some Jvm.ClassFile.FieldType.int)) ∈ lw_all := lw_g (lw_at lw_m12 135 rfl) rfl
theorem q2870 : (Jvm.Cond.instanceMethod ({ cls := "GoblinHouseholdModel", name := "allCrumbsByAccounts", desc := "()I" } : Jvm.MethodName)) ∈ lw_all := lw_g (lw_at lw_m12 137 rfl) rfl
theorem q2871 : (Jvm.Cond.selects "GoblinHouseholdModel" ({ cls := "GoblinHouseholdModel", name := "allCrumbsByAccounts", desc := "()I" } : Jvm.MethodName) ({ cls := "GoblinHouseholdModel", name := "allCrumbsByAccounts", desc := "()I" } : Jvm.MethodName)) ∈ lw_all := lw_g (lw_at lw_m12 138 rfl) rfl
theorem q2872 : (Jvm.Cond.code ({ cls := "GoblinHouseholdModel", name := "allCrumbsByAccounts", desc := "()I" } : Jvm.MethodName) prog_26_method_85_code (1 : Nat) (Option.some Jvm.ClassFile.FieldType.int)) ∈ lw_all := lw_g (lw_at lw_m12 139 rfl) rfl
theorem q2874 : (Jvm.Cond.instanceMethod ({ cls := "GoblinHouseholdModel", name := "doneTotal", desc := "()I" } : Jvm.MethodName)) ∈ lw_all := lw_g (lw_at lw_m12 141 rfl) rfl
theorem q2875 : (Jvm.Cond.selects "GoblinHouseholdModel" ({ cls := "GoblinHouseholdModel", name := "doneTotal", desc := "()I" } : Jvm.MethodName) ({ cls := "GoblinHouseholdModel", name := "doneTotal", desc := "()I" } : Jvm.MethodName)) ∈ lw_all := lw_g (lw_at lw_m12 142 rfl) rfl
theorem q2876 : (Jvm.Cond.code ({ cls := "GoblinHouseholdModel", name := "doneTotal", desc := "()I" } : Jvm.MethodName) prog_26_method_86_code (1 : Nat) (Option.some Jvm.ClassFile.FieldType.int)) ∈ lw_all := lw_g (lw_at lw_m12 143 rfl) rfl
theorem q2878 : (Jvm.Cond.instanceMethod ({ cls := "GoblinHouseholdModel", name := "brokenTotal", desc := "()I" } : Jvm.MethodName)) ∈ lw_all := lw_g (lw_at lw_m12 145 rfl) rfl
theorem q2879 : (Jvm.Cond.selects "GoblinHouseholdModel" ({ cls := "GoblinHouseholdModel", name := "brokenTotal", desc := "()I" } : Jvm.MethodName) ({ cls := "GoblinHouseholdModel", name := "brokenTotal", desc := "()I" } : Jvm.MethodName)) ∈ lw_all := lw_g (lw_at lw_m12 146 rfl) rfl
theorem q2880 : (Jvm.Cond.code ({ cls := "GoblinHouseholdModel", name := "brokenTotal", desc := "()I" } : Jvm.MethodName) prog_26_method_87_code (1 : Nat) (Option.some Jvm.ClassFile.FieldType.int)) ∈ lw_all := lw_g (lw_at lw_m12 147 rfl) rfl
theorem q2882 : (Jvm.Cond.instanceMethod ({ cls := "GoblinHouseholdModel", name := "unpaidTotal", desc := "()I" } : Jvm.MethodName)) ∈ lw_all := lw_g (lw_at lw_m12 149 rfl) rfl
theorem q2883 : (Jvm.Cond.selects "GoblinHouseholdModel" ({ cls := "GoblinHouseholdModel", name := "unpaidTotal", desc := "()I" } : Jvm.MethodName) ({ cls := "GoblinHouseholdModel", name := "unpaidTotal", desc := "()I" } : Jvm.MethodName)) ∈ lw_all := lw_g (lw_at lw_m12 150 rfl) rfl
theorem q2884 : (Jvm.Cond.code ({ cls := "GoblinHouseholdModel", name := "unpaidTotal", desc := "()I" } : Jvm.MethodName) prog_26_method_88_code (1 : Nat) (Option.some Jvm.ClassFile.FieldType.int)) ∈ lw_all := lw_g (lw_at lw_m12 151 rfl) rfl
theorem q2886 : (Jvm.Cond.instanceMethod ({ cls := "GoblinHouseholdModel", name := "interestTotal", desc := "()I" } : Jvm.MethodName)) ∈ lw_all := lw_g (lw_at lw_m12 153 rfl) rfl
theorem q2887 : (Jvm.Cond.selects "GoblinHouseholdModel" ({ cls := "GoblinHouseholdModel", name := "interestTotal", desc := "()I" } : Jvm.MethodName) ({ cls := "GoblinHouseholdModel", name := "interestTotal", desc := "()I" } : Jvm.MethodName)) ∈ lw_all := lw_g (lw_at lw_m12 154 rfl) rfl
theorem q2888 : (Jvm.Cond.code ({ cls := "GoblinHouseholdModel", name := "interestTotal", desc := "()I" } : Jvm.MethodName) prog_26_method_89_code (1 : Nat) (Option.some Jvm.ClassFile.FieldType.int)) ∈ lw_all := lw_g (lw_at lw_m12 155 rfl) rfl
theorem q2890 : (Jvm.Cond.instanceMethod ({ cls := "GoblinHouseholdModel", name := "meanDust", desc := "()D" } : Jvm.MethodName)) ∈ lw_all := lw_g (lw_at lw_m12 157 rfl) rfl
theorem q2891 : (Jvm.Cond.selects "GoblinHouseholdModel" ({ cls := "GoblinHouseholdModel", name := "meanDust", desc := "()D" } : Jvm.MethodName) ({ cls := "GoblinHouseholdModel", name := "meanDust", desc := "()D" } : Jvm.MethodName)) ∈ lw_all := lw_g (lw_at lw_m12 158 rfl) rfl
theorem q2892 : (Jvm.Cond.code ({ cls := "GoblinHouseholdModel", name := "meanDust", desc := "()D" } : Jvm.MethodName) prog_26_method_90_code (3 : Nat) (Option.some Jvm.ClassFile.FieldType.double)) ∈ lw_all := lw_g (lw_at lw_m12 159 rfl) rfl
theorem q2893 : (Jvm.Cond.constantDouble "GoblinHouseholdModel" (193 : Nat) (4618441417868443648 : UInt64)) ∈ lw_all := lw_g (lw_at lw_m12 160 rfl) rfl
theorem q2895 : (Jvm.Cond.instanceMethod ({ cls := "GoblinHouseholdModel", name := "reliability", desc := "()F" } : Jvm.MethodName)) ∈ lw_all := lw_g (lw_at lw_m12 162 rfl) rfl
theorem q2896 : (Jvm.Cond.selects "GoblinHouseholdModel" ({ cls := "GoblinHouseholdModel", name := "reliability", desc := "()F" } : Jvm.MethodName) ({ cls := "GoblinHouseholdModel", name := "reliability", desc := "()F" } : Jvm.MethodName)) ∈ lw_all := lw_g (lw_at lw_m12 163 rfl) rfl
theorem q2897 : (Jvm.Cond.code ({ cls := "GoblinHouseholdModel", name := "reliability", desc := "()F" } : Jvm.MethodName) prog_26_method_91_code (2 : Nat) (Option.some Jvm.ClassFile.FieldType.float)) ∈ lw_all := lw_g (lw_at lw_m12 164 rfl) rfl
theorem q2899 : (Jvm.Cond.instanceMethod ({ cls := "GoblinHouseholdModel", name := "isConsistent", desc := "()Z" } : Jvm.MethodName)) ∈ lw_all := lw_g (lw_at lw_m12 166 rfl) rfl
theorem q2900 : (Jvm.Cond.selects "GoblinHouseholdModel" ({ cls := "GoblinHouseholdModel", name := "isConsistent", desc := "()Z" } : Jvm.MethodName) ({ cls := "GoblinHouseholdModel", name := "isConsistent", desc := "()Z" } : Jvm.MethodName)) ∈ lw_all := lw_g (lw_at lw_m12 167 rfl) rfl
theorem q2901 : (Jvm.Cond.code ({ cls := "GoblinHouseholdModel", name := "isConsistent", desc := "()Z" } : Jvm.MethodName) prog_26_method_92_code (1 : Nat) (Option.some Jvm.ClassFile.FieldType.boolean)) ∈ lw_all := lw_g (lw_at lw_m12 168 rfl) rfl
theorem q2903 : (Jvm.Cond.instanceMethod ({ cls := "GoblinHouseholdModel", name := "renderGoblin", desc := "(I)I" } : Jvm.MethodName)) ∈ lw_all := lw_g (lw_at lw_m12 170 rfl) rfl
theorem q2904 : (Jvm.Cond.selects "GoblinHouseholdModel" ({ cls := "GoblinHouseholdModel", name := "renderGoblin", desc := "(I)I" } : Jvm.MethodName) ({ cls := "GoblinHouseholdModel", name := "renderGoblin", desc := "(I)I" } : Jvm.MethodName)) ∈ lw_all := lw_g (lw_at lw_m12 171 rfl) rfl
theorem q2905 : (Jvm.Cond.code ({ cls := "GoblinHouseholdModel", name := "renderGoblin", desc := "(I)I" } : Jvm.MethodName) prog_26_method_95_code (3 : Nat) (Option.some Jvm.ClassFile.FieldType.int)) ∈ lw_all := lw_g (lw_at lw_m12 172 rfl) rfl
theorem q2906 : (Jvm.Cond.methodLink "GoblinHouseholdModel" (198 : Nat) ({ cls := "GoblinHouseholdModel", name := "writesNumber", desc := "(II)I" } : Jvm.MethodName)) ∈ lw_all := lw_g (lw_at lw_m12 173 rfl) rfl
theorem q2907 : (Jvm.Cond.privateMethod ({ cls := "GoblinHouseholdModel", name := "writesNumber", desc := "(II)I" } : Jvm.MethodName)) ∈ lw_tbl := lw_at lw_m12 174 rfl
theorem q2908 : (Jvm.Cond.instanceMethod ({ cls := "GoblinHouseholdModel", name := "writesNumber", desc := "(II)I" } : Jvm.MethodName)) ∈ lw_all := lw_g (lw_at lw_m12 175 rfl) rfl
theorem q2909 : (Jvm.Cond.code ({ cls := "GoblinHouseholdModel", name := "writesNumber", desc := "(II)I" } : Jvm.MethodName) prog_26_method_94_code (6 : Nat) (Option.some Jvm.ClassFile.FieldType.int)) ∈ lw_all := lw_g (lw_at lw_m12 176 rfl) rfl
theorem q2910 : (Jvm.Cond.methodLink "GoblinHouseholdModel" (195 : Nat) ({ cls := "GoblinHouseholdModel", name := "put", desc := "(II)I" } : Jvm.MethodName)) ∈ lw_all := lw_g (lw_at lw_m12 177 rfl) rfl
theorem q2911 : (Jvm.Cond.privateMethod ({ cls := "GoblinHouseholdModel", name := "put", desc := "(II)I" } : Jvm.MethodName)) ∈ lw_tbl := lw_at lw_m12 178 rfl
theorem q2912 : (Jvm.Cond.instanceMethod ({ cls := "GoblinHouseholdModel", name := "put", desc := "(II)I" } : Jvm.MethodName)) ∈ lw_all := lw_g (lw_at lw_m12 179 rfl) rfl
theorem q2913 : (Jvm.Cond.code ({ cls := "GoblinHouseholdModel", name := "put", desc := "(II)I" } : Jvm.MethodName) prog_26_method_93_code (3 : Nat) (Option.some Jvm.ClassFile.FieldType.int)) ∈ lw_all := lw_g (lw_at lw_m12 180 rfl) rfl
theorem q2915 : (Jvm.Cond.instanceMethod ({ cls := "GoblinHouseholdModel", name := "renderContracts", desc := "()I" } : Jvm.MethodName)) ∈ lw_all := lw_g (lw_at lw_m12 182 rfl) rfl
theorem q2916 : (Jvm.Cond.selects "GoblinHouseholdModel" ({ cls := "GoblinHouseholdModel", name := "renderContracts", desc := "()I" } : Jvm.MethodName) ({ cls := "GoblinHouseholdModel", name := "renderContracts", desc := "()I" } : Jvm.MethodName)) ∈ lw_all := lw_g (lw_at lw_m12 183 rfl) rfl
theorem q2917 : (Jvm.Cond.code ({ cls := "GoblinHouseholdModel", name := "renderContracts", desc := "()I" } : Jvm.MethodName) prog_26_method_97_code (3 : Nat) (Option.some Jvm.ClassFile.FieldType.int)) ∈ lw_all := lw_g (lw_at lw_m12 184 rfl) rfl
theorem q2918 : (Jvm.Cond.methodLink "GoblinHouseholdModel" (204 : Nat) ({ cls := "GoblinHouseholdModel", name := "writesContract", desc := "(II)I" } : Jvm.MethodName)) ∈ lw_all := lw_g (lw_at lw_m12 185 rfl) rfl
theorem q2919 : (Jvm.Cond.privateMethod ({ cls := "GoblinHouseholdModel", name := "writesContract", desc := "(II)I" } : Jvm.MethodName)) ∈ lw_tbl := lw_at lw_m12 186 rfl
theorem q2920 : (Jvm.Cond.instanceMethod ({ cls := "GoblinHouseholdModel", name := "writesContract", desc := "(II)I" } : Jvm.MethodName)) ∈ lw_all := lw_g (lw_at lw_m12 187 rfl) rfl
theorem q2921 : (Jvm.Cond.code ({ cls := "GoblinHouseholdModel", name := "writesContract", desc := "(II)I" } : Jvm.MethodName) prog_26_method_96_code (4 : Nat) (Option.some Jvm.ClassFile.FieldType.int)) ∈ lw_all := lw_g (lw_at lw_m12 188 rfl) rfl
theorem q2923 : (Jvm.Cond.instanceMethod ({ cls := "GoblinHouseholdModel", name := "outputAt", desc := "(I)C" } : Jvm.MethodName)) ∈ lw_all := lw_g (lw_at lw_m12 190 rfl) rfl
theorem q2924 : (Jvm.Cond.selects "GoblinHouseholdModel" ({ cls := "GoblinHouseholdModel", name := "outputAt", desc := "(I)C" } : Jvm.MethodName) ({ cls := "GoblinHouseholdModel", name := "outputAt", desc := "(I)C" } : Jvm.MethodName)) ∈ lw_all := lw_g (lw_at lw_m12 191 rfl) rfl
theorem q2925 : (Jvm.Cond.code ({ cls := "GoblinHouseholdModel", name := "outputAt", desc := "(I)C" } : Jvm.MethodName) prog_26_method_98_code (2 : Nat) (Option.some Jvm.ClassFile.FieldType.char)) ∈ lw_all := lw_g (lw_at lw_m12 192 rfl) rfl
theorem q2927 : (Jvm.Cond.instanceMethod ({ cls := "GoblinHouseholdModel", name := "type", desc := "(C)I" } : Jvm.MethodName)) ∈ lw_all := lw_g (lw_at lw_m12 194 rfl) rfl
theorem q2928 : (Jvm.Cond.selects "GoblinHouseholdModel" ({ cls := "GoblinHouseholdModel", name := "type", desc := "(C)I" } : Jvm.MethodName) ({ cls := "GoblinHouseholdModel", name := "type", desc := "(C)I" } : Jvm.MethodName)) ∈ lw_all := lw_g (lw_at lw_m12 195 rfl) rfl
theorem q2929 : (Jvm.Cond.code ({ cls := "GoblinHouseholdModel", name := "type", desc := "(C)I" } : Jvm.MethodName) prog_26_method_99_code (2 : Nat) (Option.some Jvm.ClassFile.FieldType.int)) ∈ lw_all := lw_g (lw_at lw_m12 196 rfl) rfl
theorem q2931 : (Jvm.Cond.instanceMethod ({ cls := "GoblinHouseholdModel", name := "runScript", desc := "()I" } : Jvm.MethodName)) ∈ lw_all := lw_g (lw_at lw_m12 198 rfl) rfl
theorem q2932 : (Jvm.Cond.selects "GoblinHouseholdModel" ({ cls := "GoblinHouseholdModel", name := "runScript", desc := "()I" } : Jvm.MethodName) ({ cls := "GoblinHouseholdModel", name := "runScript", desc := "()I" } : Jvm.MethodName)) ∈ lw_all := lw_g (lw_at lw_m12 199 rfl) rfl
theorem q2933 : (Jvm.Cond.code ({ cls := "GoblinHouseholdModel", name := "runScript", desc := "()I" } : Jvm.MethodName) prog_26_method_111_code (3 : Nat) (Option.some Jvm.ClassFile.FieldType.int)) ∈ lw_all := lw_g (lw_at lw_m12 200 rfl) rfl
theorem q2934 : (Jvm.Cond.methodLink "GoblinHouseholdModel" (257 : Nat) ({ cls := "GoblinHouseholdModel", name := "readsAll", desc := "()V" } : Jvm.MethodName)) ∈ lw_all := lw_g (lw_at lw_m12 201 rfl) rfl
theorem q2935 : (Jvm.Cond.privateMethod ({ cls := "GoblinHouseholdModel", name := "readsAll", desc := "()V" } : Jvm.MethodName)) ∈ lw_tbl := lw_at lw_m12 202 rfl
theorem q2936 : (Jvm.Cond.instanceMethod ({ cls := "GoblinHouseholdModel", name := "readsAll", desc := "()V" } : Jvm.MethodName)) ∈ lw_all := lw_g (lw_at lw_m12 203 rfl) rfl
theorem q2937 : (Jvm.Cond.code ({ cls := "GoblinHouseholdModel", name := "readsAll", desc := "()V" } : Jvm.MethodName) prog_26_method_109_code (1 : Nat) (Option.none : Option Jvm.ClassFile.FieldType)) ∈ lw_all := lw_g (lw_at lw_m12 204 rfl) rfl
theorem q2938 : (Jvm.Cond.methodLink "GoblinHouseholdModel" (254 : Nat) ({ cls := "GoblinHouseholdModel", name := "readsCommand", desc := "()V" } : Jvm.MethodName)) ∈ lw_all := lw_g (lw_at lw_m12 205 rfl) rfl
theorem q2939 : (Jvm.Cond.privateMethod ({ cls := "GoblinHouseholdModel", name := "readsCommand", desc := "()V" } : Jvm.MethodName)) ∈ lw_tbl := lw_at lw_m12 206 rfl
theorem q2940 : (Jvm.Cond.instanceMethod ({ cls := "GoblinHouseholdModel", name := "readsCommand", desc := "()V" } : Jvm.MethodName)) ∈ lw_all := lw_g (lw_at lw_m12 207 rfl) rfl
theorem q2941 : (Jvm.Cond.code ({ cls := "GoblinHouseholdModel", name := "readsCommand", desc := "()V" } : Jvm.MethodName) prog_26_method_108_code (4 : Nat) (Option.none : Option Jvm.ClassFile.FieldType)) ∈ lw_all := lw_g (lw_at lw_m12 208 rfl) rfl
theorem q2942 : (Jvm.Cond.methodLink "GoblinHouseholdModel" (248 : Nat) ({ cls := "GoblinHouseholdModel", name := "kindHere", desc := "()I" } : Jvm.MethodName)) ∈ lw_all := lw_g (lw_at lw_m12 209 rfl) rfl
theorem q2943 : (Jvm.Cond.privateMethod ({ cls := "GoblinHouseholdModel", name := "kindHere", desc := "()I" } : Jvm.MethodName)) ∈ lw_tbl := lw_at lw_m12 210 rfl
theorem q2944 : (Jvm.Cond.instanceMethod ({ cls := "GoblinHouseholdModel", name := "kindHere", desc := "()I" } : Jvm.MethodName)) ∈ lw_all := lw_g (lw_at lw_m12 211 rfl) rfl
theorem q2945 : (Jvm.Cond.code ({ cls := "GoblinHouseholdModel", name := "kindHere", desc := "()I" } : Jvm.MethodName) prog_26_method_106_code (6 : Nat) (Option.some Jvm.ClassFile.FieldType.int)) ∈ lw_all := lw_g (lw_at lw_m12 212 rfl) rfl
theorem q2946 : (Jvm.Cond.methodLink "GoblinHouseholdModel" (228 : Nat) ({ cls := "GoblinHouseholdModel", name := "startOf", desc := "(I)I" } : Jvm.MethodName)) ∈ lw_all := lw_g (lw_at lw_m12 213 rfl) rfl
theorem q2947 : (Jvm.Cond.static ({ cls := "GoblinHouseholdModel", name := "startOf", desc := "(I)I" } : Jvm.MethodName)) ∈ lw_all := lw_g (lw_at lw_m12 214 rfl) rfl
theorem q2948 : (Jvm.Cond.code ({ cls := "GoblinHouseholdModel", name := "startOf", desc := "(I)I" } : Jvm.MethodName) prog_26_method_105_code (1 : Nat) (Option.some Jvm.ClassFile.FieldType.int)) ∈ lw_all := lw_g (lw_at lw_m12 215 rfl) rfl
theorem q2949 : (Jvm.Cond.stringRef "GoblinHouseholdModel" (231 : Nat) "goblin broom banish recall hire cancel rest wake lend fund spend night") ∈ lw_tbl := lw_at lw_m12 216 rfl
theorem q2950 : (Jvm.Cond.methodLink "GoblinHouseholdModel" (233 : Nat) ({ cls := "java/lang/String", name := "charAt", desc := "(I)C" } : Jvm.MethodName)) ∈ lw_all := lw_g (lw_at lw_m12 217 rfl) rfl
theorem q2951 : (Jvm.Cond.methodLink "GoblinHouseholdModel" (219 : Nat) ({ cls := "GoblinHouseholdModel", name := "letterHere", desc := "()I" } : Jvm.MethodName)) ∈ lw_all := lw_g (lw_at lw_m12 218 rfl) rfl
theorem q2952 : (Jvm.Cond.privateMethod ({ cls := "GoblinHouseholdModel", name := "letterHere", desc := "()I" } : Jvm.MethodName)) ∈ lw_tbl := lw_at lw_m12 219 rfl
theorem q2953 : (Jvm.Cond.instanceMethod ({ cls := "GoblinHouseholdModel", name := "letterHere", desc := "()I" } : Jvm.MethodName)) ∈ lw_all := lw_g (lw_at lw_m12 220 rfl) rfl
theorem q2954 : (Jvm.Cond.code ({ cls := "GoblinHouseholdModel", name := "letterHere", desc := "()I" } : Jvm.MethodName) prog_26_method_100_code (1 : Nat) (Option.some Jvm.ClassFile.FieldType.int)) ∈ lw_all := lw_g (lw_at lw_m12 221 rfl) rfl
theorem q2955 : (Jvm.Cond.methodLink "GoblinHouseholdModel" (251 : Nat) ({ cls := "GoblinHouseholdModel", name := "readsHire", desc := "(I)V" } : Jvm.MethodName)) ∈ lw_all := lw_g (lw_at lw_m12 222 rfl) rfl
theorem q2956 : (Jvm.Cond.privateMethod ({ cls := "GoblinHouseholdModel", name := "readsHire", desc := "(I)V" } : Jvm.MethodName)) ∈ lw_tbl := lw_at lw_m12 223 rfl
theorem q2957 : (Jvm.Cond.instanceMethod ({ cls := "GoblinHouseholdModel", name := "readsHire", desc := "(I)V" } : Jvm.MethodName)) ∈ lw_all := lw_g (lw_at lw_m12 224 rfl) rfl
theorem q2958 : (Jvm.Cond.code ({ cls := "GoblinHouseholdModel", name := "readsHire", desc := "(I)V" } : Jvm.MethodName) prog_26_method_107_code (2 : Nat) (Option.none : Option Jvm.ClassFile.FieldType)) ∈ lw_all := lw_g (lw_at lw_m12 225 rfl) rfl
theorem q2959 : (Jvm.Cond.methodLink "GoblinHouseholdModel" (225 : Nat) ({ cls := "GoblinHouseholdModel", name := "digit", desc := "()I" } : Jvm.MethodName)) ∈ lw_all := lw_g (lw_at lw_m12 226 rfl) rfl
theorem q2960 : (Jvm.Cond.privateMethod ({ cls := "GoblinHouseholdModel", name := "digit", desc := "()I" } : Jvm.MethodName)) ∈ lw_tbl := lw_at lw_m12 227 rfl
theorem q2961 : (Jvm.Cond.instanceMethod ({ cls := "GoblinHouseholdModel", name := "digit", desc := "()I" } : Jvm.MethodName)) ∈ lw_all := lw_g (lw_at lw_m12 228 rfl) rfl
theorem q2962 : (Jvm.Cond.code ({ cls := "GoblinHouseholdModel", name := "digit", desc := "()I" } : Jvm.MethodName) prog_26_method_102_code (1 : Nat) (Option.some Jvm.ClassFile.FieldType.int)) ∈ lw_all := lw_g (lw_at lw_m12 229 rfl) rfl
theorem q2963 : (Jvm.Cond.methodLink "GoblinHouseholdModel" (222 : Nat) ({ cls := "GoblinHouseholdModel", name := "reads", desc := "(II)I" } : Jvm.MethodName)) ∈ lw_all := lw_g (lw_at lw_m12 230 rfl) rfl
theorem q2964 : (Jvm.Cond.privateMethod ({ cls := "GoblinHouseholdModel", name := "reads", desc := "(II)I" } : Jvm.MethodName)) ∈ lw_tbl := lw_at lw_m12 231 rfl
theorem q2965 : (Jvm.Cond.instanceMethod ({ cls := "GoblinHouseholdModel", name := "reads", desc := "(II)I" } : Jvm.MethodName)) ∈ lw_all := lw_g (lw_at lw_m12 232 rfl) rfl
theorem q2966 : (Jvm.Cond.code ({ cls := "GoblinHouseholdModel", name := "reads", desc := "(II)I" } : Jvm.MethodName) prog_26_method_101_code (3 : Nat) (Option.some Jvm.ClassFile.FieldType.int)) ∈ lw_all := lw_g (lw_at lw_m12 233 rfl) rfl
theorem q2967 : (Jvm.Cond.methodLink "GoblinHouseholdModel" (239 : Nat) ({ cls := "GoblinHouseholdModel", name := "sign", desc := "(I)V" } : Jvm.MethodName)) ∈ lw_all := lw_g (lw_at lw_m12 234 rfl) rfl
theorem q2968 : (Jvm.Cond.privateMethod ({ cls := "GoblinHouseholdModel", name := "sign", desc := "(I)V" } : Jvm.MethodName)) ∈ lw_tbl := lw_at lw_m12 235 rfl
theorem q2969 : (Jvm.Cond.instanceMethod ({ cls := "GoblinHouseholdModel", name := "sign", desc := "(I)V" } : Jvm.MethodName)) ∈ lw_all := lw_g (lw_at lw_m12 236 rfl) rfl
theorem q2970 : (Jvm.Cond.code ({ cls := "GoblinHouseholdModel", name := "sign", desc := "(I)V" } : Jvm.MethodName) prog_26_method_104_code (3 : Nat) (Option.none : Option Jvm.ClassFile.FieldType)) ∈ lw_all := lw_g (lw_at lw_m12 237 rfl) rfl
theorem q2971 : (Jvm.Cond.methodLink "GoblinHouseholdModel" (242 : Nat) ({ cls := "GoblinHouseholdModel", name := "number", desc := "()I" } : Jvm.MethodName)) ∈ lw_all := lw_g (lw_at lw_m12 238 rfl) rfl
theorem q2972 : (Jvm.Cond.privateMethod ({ cls := "GoblinHouseholdModel", name := "number", desc := "()I" } : Jvm.MethodName)) ∈ lw_tbl := lw_at lw_m12 239 rfl
theorem q2973 : (Jvm.Cond.instanceMethod ({ cls := "GoblinHouseholdModel", name := "number", desc := "()I" } : Jvm.MethodName)) ∈ lw_all := lw_g (lw_at lw_m13 0 rfl) rfl
theorem q2974 : (Jvm.Cond.code ({ cls := "GoblinHouseholdModel", name := "number", desc := "()I" } : Jvm.MethodName) prog_26_method_103_code (3 : Nat) (Option.some Jvm.ClassFile.FieldType.int)) ∈ lw_all := lw_g (lw_at lw_m13 1 rfl) rfl
theorem q2975 : (Jvm.Cond.methodLink "GoblinHouseholdModel" (260 : Nat) ({ cls := "GoblinHouseholdModel", name := "does", desc := "(I)I" } : Jvm.MethodName)) ∈ lw_all := lw_g (lw_at lw_m13 2 rfl) rfl
theorem q2976 : (Jvm.Cond.privateMethod ({ cls := "GoblinHouseholdModel", name := "does", desc := "(I)I" } : Jvm.MethodName)) ∈ lw_tbl := lw_at lw_m13 3 rfl
theorem q2977 : (Jvm.Cond.instanceMethod ({ cls := "GoblinHouseholdModel", name := "does", desc := "(I)I" } : Jvm.MethodName)) ∈ lw_all := lw_g (lw_at lw_m13 4 rfl) rfl
theorem q2978 : (Jvm.Cond.code ({ cls := "GoblinHouseholdModel", name := "does", desc := "(I)I" } : Jvm.MethodName) prog_26_method_110_code (3 : Nat) (Option.some Jvm.ClassFile.FieldType.int)) ∈ lw_all := lw_g (lw_at lw_m13 5 rfl) rfl
theorem q2980 : (Jvm.Cond.instanceMethod ({ cls := "GoblinHouseholdModel", name := "errorPosition", desc := "()I" } : Jvm.MethodName)) ∈ lw_all := lw_g (lw_at lw_m13 7 rfl) rfl
theorem q2981 : (Jvm.Cond.selects "GoblinHouseholdModel" ({ cls := "GoblinHouseholdModel", name := "errorPosition", desc := "()I" } : Jvm.MethodName) ({ cls := "GoblinHouseholdModel", name := "errorPosition", desc := "()I" } : Jvm.MethodName)) ∈ lw_all := lw_g (lw_at lw_m13 8 rfl) rfl
theorem q2982 : (Jvm.Cond.code ({ cls := "GoblinHouseholdModel", name := "errorPosition", desc := "()I" } : Jvm.MethodName) prog_26_method_112_code (1 : Nat) (Option.some Jvm.ClassFile.FieldType.int)) ∈ lw_all := lw_g (lw_at lw_m13 9 rfl) rfl
theorem q2984 : (Jvm.Cond.instanceMethod ({ cls := "GoblinHouseholdModel", name := "failedCommand", desc := "()I" } : Jvm.MethodName)) ∈ lw_all := lw_g (lw_at lw_m13 11 rfl) rfl
theorem q2985 : (Jvm.Cond.selects "GoblinHouseholdModel" ({ cls := "GoblinHouseholdModel", name := "failedCommand", desc := "()I" } : Jvm.MethodName) ({ cls := "GoblinHouseholdModel", name := "failedCommand", desc := "()I" } : Jvm.MethodName)) ∈ lw_all := lw_g (lw_at lw_m13 12 rfl) rfl
theorem q2986 : (Jvm.Cond.code ({ cls := "GoblinHouseholdModel", name := "failedCommand", desc := "()I" } : Jvm.MethodName) prog_26_method_113_code (1 : Nat) (Option.some Jvm.ClassFile.FieldType.int)) ∈ lw_all := lw_g (lw_at lw_m13 13 rfl) rfl
theorem q3015 : (Jvm.Cond.castable "GoblinHouseholdModel" "java/lang/Object") ∈ lw_tbl := lw_at lw_m13 42 rfl
theorem in_X3 : ∀ w ∈ wsX30, w ∈ lw_all := lw_in wsX30 [2497, 2499, 2501, 2503, 2505, 2507, 2509, 2511, 2513, 2515, 2517, 2519, 2521, 2523, 2525, 2527, 2529, 2531, 2533, 2535] (by decide +kernel) (by decide +kernel)
