/-! DishLift -/
set_option maxRecDepth 100000
def RX0 : String := "DishLift"
def TX0 : u_T := fun k => match k with
  | 0 => ("DishLift", "rows", "[LDishLift$Row;", true)
  | 1 => ("DishLift", "tape", "[B", true)
  | 2 => ("DishLift", "taped", "I", false)
  | 3 => ("DishLift", "faultKind", "I", false)
  | 4 => ("DishLift", "house", "LDishLift$House;", true)
  | 5 => ("DishLift", "trial", "LDishLift$House;", true)
  | 6 => ("DishLift", "past", "[LDishLift$House;", true)
  | 7 => ("DishLift", "acts", "I", false)
  | 8 => ("DishLift", "images", "[LDishLift$House;", true)
  | 9 => ("DishLift", "trail", "LDishLift$Trail;", false)
  | 10 => ("DishLift", "status", "I", false)
  | 11 => ("DishLift", "line", "[I", true)
  | 12 => ("DishLift", "best", "[I", true)
  | _ => ("DishLift", "takens", "[LDishLift$Dish;", true)
def tyX0 : Nat → FieldType := fun k => match k with
  | 0 => .array (.object "DishLift$Row")
  | 1 => .array .byte
  | 2 => .int
  | 3 => .int
  | 4 => .object "DishLift$House"
  | 5 => .object "DishLift$House"
  | 6 => .array (.object "DishLift$House")
  | 7 => .int
  | 8 => .array (.object "DishLift$House")
  | 9 => .object "DishLift$Trail"
  | 10 => .int
  | 11 => .array .int
  | 12 => .array .int
  | _ => .array (.object "DishLift$Dish")
abbrev wsX00 : List Cond := u_ws RX0 TX0 14
set_option maxRecDepth 100000 in
theorem nmX0 : ∀ a, a < 14 → ∀ b, b < 14 → a ≠ b → (TX0 a).2.1 ≠ (TX0 b).2.1 := by decide +kernel
set_option maxRecDepth 100000 in
theorem tyX0_ok : ∀ k, k < 14 → parseFieldDescriptor (TX0 k).2.2.1 = some (tyX0 k) := by decide +kernel
abbrev cX0_init : ByteArray := prog_1_method_4_code
def yX0_init : MethodName := ⟨RX0, "<init>", "()V"⟩
def dkwX0_init_6 : List UInt8 := [187, 0, 16, 89, 3, 183, 0, 18, 83, 181, 0, 69, 177]
abbrev dktX0_init_6 : List UInt8 := dkwX0_init_6 ++ []
def dkwX0_init_5 : List UInt8 := [187, 0, 10, 89, 3, 183, 0, 12, 83, 89, 6, 187, 0, 13, 89, 3, 183, 0, 15, 83, 89, 7]
abbrev dktX0_init_5 : List UInt8 := dkwX0_init_5 ++ dktX0_init_6
def dkwX0_init_4 : List UInt8 := [89, 3, 187, 0, 1, 89, 3, 183, 0, 3, 83, 89, 4, 187, 0, 7, 89, 3, 183, 0, 9, 83, 89, 5]
abbrev dktX0_init_4 : List UInt8 := dkwX0_init_4 ++ dktX0_init_5
def dkwX0_init_3 : List UInt8 := [181, 0, 56, 42, 16, 6, 188, 10, 181, 0, 60, 42, 16, 6, 188, 10, 181, 0, 64, 42, 8, 189, 0, 67]
abbrev dktX0_init_3 : List UInt8 := dkwX0_init_3 ++ dktX0_init_4
def dkwX0_init_2 : List UInt8 := [189, 0, 36, 181, 0, 46, 42, 5, 189, 0, 36, 181, 0, 50, 42, 187, 0, 53, 89, 183, 0, 55]
abbrev dktX0_init_2 : List UInt8 := dkwX0_init_2 ++ dktX0_init_3
def dkwX0_init_1 : List UInt8 := [187, 0, 36, 89, 183, 0, 38, 181, 0, 39, 42, 187, 0, 36, 89, 183, 0, 38, 181, 0, 43, 42, 16, 24]
abbrev dktX0_init_1 : List UInt8 := dkwX0_init_1 ++ dktX0_init_2
def dkwX0_init_0 : List UInt8 := [42, 183, 0, 19, 42, 16, 8, 189, 0, 26, 181, 0, 28, 42, 16, 110, 188, 8, 181, 0, 32, 42]
abbrev dktX0_init_0 : List UInt8 := dkwX0_init_0 ++ dktX0_init_1
theorem dksX0_init_0 : cX0_init.data.toList.drop 0 = dktX0_init_0 := by decide +kernel
theorem dksX0_init_1 : cX0_init.data.toList.drop 22 = dktX0_init_1 := dk_seg dksX0_init_0 22 rfl rfl
theorem dksX0_init_2 : cX0_init.data.toList.drop 46 = dktX0_init_2 := dk_seg dksX0_init_1 24 rfl rfl
theorem dksX0_init_3 : cX0_init.data.toList.drop 68 = dktX0_init_3 := dk_seg dksX0_init_2 22 rfl rfl
theorem dksX0_init_4 : cX0_init.data.toList.drop 92 = dktX0_init_4 := dk_seg dksX0_init_3 24 rfl rfl
theorem dksX0_init_5 : cX0_init.data.toList.drop 116 = dktX0_init_5 := dk_seg dksX0_init_4 24 rfl rfl
theorem dksX0_init_6 : cX0_init.data.toList.drop 138 = dktX0_init_6 := dk_seg dksX0_init_5 22 rfl rfl
theorem dX0_init_0 : decode cX0_init 0 = .ok (.aload_n 0, 1) := dk_42 (dk_at dksX0_init_0 0 rfl rfl)
theorem dX0_init_1 : decode cX0_init 1 = .ok (.invokespecial 19, 3) := dk_183 0 19 (dk_at dksX0_init_0 1 rfl rfl)
theorem dX0_init_4 : decode cX0_init 4 = .ok (.aload_n 0, 1) := dk_42 (dk_at dksX0_init_0 4 rfl rfl)
theorem dX0_init_5 : decode cX0_init 5 = .ok (.bipush 8, 2) := dk_16 8 (dk_at dksX0_init_0 5 rfl rfl)
theorem dX0_init_7 : decode cX0_init 7 = .ok (.anewarray 26, 3) := dk_189 0 26 (dk_at dksX0_init_0 7 rfl rfl)
theorem dX0_init_10 : decode cX0_init 10 = .ok (.putfield 28, 3) := dk_181 0 28 (dk_at dksX0_init_0 10 rfl rfl)
theorem dX0_init_13 : decode cX0_init 13 = .ok (.aload_n 0, 1) := dk_42 (dk_at dksX0_init_0 13 rfl rfl)
theorem dX0_init_14 : decode cX0_init 14 = .ok (.bipush 110, 2) := dk_16 110 (dk_at dksX0_init_0 14 rfl rfl)
theorem dX0_init_16 : decode cX0_init 16 = .ok (.newarray .byte, 2) := dk_188_8 (dk_at dksX0_init_0 16 rfl rfl)
theorem dX0_init_18 : decode cX0_init 18 = .ok (.putfield 32, 3) := dk_181 0 32 (dk_at dksX0_init_0 18 rfl rfl)
theorem dX0_init_21 : decode cX0_init 21 = .ok (.aload_n 0, 1) := dk_42 (dk_at dksX0_init_0 21 rfl rfl)
theorem dX0_init_22 : decode cX0_init 22 = .ok (.new 36, 3) := dk_187 0 36 (dk_at dksX0_init_1 0 rfl rfl)
theorem dX0_init_25 : decode cX0_init 25 = .ok (.dup, 1) := dk_89 (dk_at dksX0_init_1 3 rfl rfl)
theorem dX0_init_26 : decode cX0_init 26 = .ok (.invokespecial 38, 3) := dk_183 0 38 (dk_at dksX0_init_1 4 rfl rfl)
theorem dX0_init_29 : decode cX0_init 29 = .ok (.putfield 39, 3) := dk_181 0 39 (dk_at dksX0_init_1 7 rfl rfl)
theorem dX0_init_32 : decode cX0_init 32 = .ok (.aload_n 0, 1) := dk_42 (dk_at dksX0_init_1 10 rfl rfl)
theorem dX0_init_33 : decode cX0_init 33 = .ok (.new 36, 3) := dk_187 0 36 (dk_at dksX0_init_1 11 rfl rfl)
theorem dX0_init_36 : decode cX0_init 36 = .ok (.dup, 1) := dk_89 (dk_at dksX0_init_1 14 rfl rfl)
theorem dX0_init_37 : decode cX0_init 37 = .ok (.invokespecial 38, 3) := dk_183 0 38 (dk_at dksX0_init_1 15 rfl rfl)
theorem dX0_init_40 : decode cX0_init 40 = .ok (.putfield 43, 3) := dk_181 0 43 (dk_at dksX0_init_1 18 rfl rfl)
theorem dX0_init_43 : decode cX0_init 43 = .ok (.aload_n 0, 1) := dk_42 (dk_at dksX0_init_1 21 rfl rfl)
theorem dX0_init_44 : decode cX0_init 44 = .ok (.bipush 24, 2) := dk_16 24 (dk_at dksX0_init_1 22 rfl rfl)
theorem dX0_init_46 : decode cX0_init 46 = .ok (.anewarray 36, 3) := dk_189 0 36 (dk_at dksX0_init_2 0 rfl rfl)
theorem dX0_init_49 : decode cX0_init 49 = .ok (.putfield 46, 3) := dk_181 0 46 (dk_at dksX0_init_2 3 rfl rfl)
theorem dX0_init_52 : decode cX0_init 52 = .ok (.aload_n 0, 1) := dk_42 (dk_at dksX0_init_2 6 rfl rfl)
theorem dX0_init_53 : decode cX0_init 53 = .ok (.iconst 2, 1) := dk_5 (dk_at dksX0_init_2 7 rfl rfl)
theorem dX0_init_54 : decode cX0_init 54 = .ok (.anewarray 36, 3) := dk_189 0 36 (dk_at dksX0_init_2 8 rfl rfl)
theorem dX0_init_57 : decode cX0_init 57 = .ok (.putfield 50, 3) := dk_181 0 50 (dk_at dksX0_init_2 11 rfl rfl)
theorem dX0_init_60 : decode cX0_init 60 = .ok (.aload_n 0, 1) := dk_42 (dk_at dksX0_init_2 14 rfl rfl)
theorem dX0_init_61 : decode cX0_init 61 = .ok (.new 53, 3) := dk_187 0 53 (dk_at dksX0_init_2 15 rfl rfl)
theorem dX0_init_64 : decode cX0_init 64 = .ok (.dup, 1) := dk_89 (dk_at dksX0_init_2 18 rfl rfl)
theorem dX0_init_65 : decode cX0_init 65 = .ok (.invokespecial 55, 3) := dk_183 0 55 (dk_at dksX0_init_2 19 rfl rfl)
theorem dX0_init_68 : decode cX0_init 68 = .ok (.putfield 56, 3) := dk_181 0 56 (dk_at dksX0_init_3 0 rfl rfl)
theorem dX0_init_71 : decode cX0_init 71 = .ok (.aload_n 0, 1) := dk_42 (dk_at dksX0_init_3 3 rfl rfl)
theorem dX0_init_72 : decode cX0_init 72 = .ok (.bipush 6, 2) := dk_16 6 (dk_at dksX0_init_3 4 rfl rfl)
theorem dX0_init_74 : decode cX0_init 74 = .ok (.newarray .int, 2) := dk_188_10 (dk_at dksX0_init_3 6 rfl rfl)
theorem dX0_init_76 : decode cX0_init 76 = .ok (.putfield 60, 3) := dk_181 0 60 (dk_at dksX0_init_3 8 rfl rfl)
theorem dX0_init_79 : decode cX0_init 79 = .ok (.aload_n 0, 1) := dk_42 (dk_at dksX0_init_3 11 rfl rfl)
theorem dX0_init_80 : decode cX0_init 80 = .ok (.bipush 6, 2) := dk_16 6 (dk_at dksX0_init_3 12 rfl rfl)
theorem dX0_init_82 : decode cX0_init 82 = .ok (.newarray .int, 2) := dk_188_10 (dk_at dksX0_init_3 14 rfl rfl)
theorem dX0_init_84 : decode cX0_init 84 = .ok (.putfield 64, 3) := dk_181 0 64 (dk_at dksX0_init_3 16 rfl rfl)
theorem dX0_init_87 : decode cX0_init 87 = .ok (.aload_n 0, 1) := dk_42 (dk_at dksX0_init_3 19 rfl rfl)
theorem dX0_init_88 : decode cX0_init 88 = .ok (.iconst 5, 1) := dk_8 (dk_at dksX0_init_3 20 rfl rfl)
theorem dX0_init_89 : decode cX0_init 89 = .ok (.anewarray 67, 3) := dk_189 0 67 (dk_at dksX0_init_3 21 rfl rfl)
theorem dX0_init_92 : decode cX0_init 92 = .ok (.dup, 1) := dk_89 (dk_at dksX0_init_4 0 rfl rfl)
theorem dX0_init_93 : decode cX0_init 93 = .ok (.iconst 0, 1) := dk_3 (dk_at dksX0_init_4 1 rfl rfl)
theorem dX0_init_94 : decode cX0_init 94 = .ok (.new 1, 3) := dk_187 0 1 (dk_at dksX0_init_4 2 rfl rfl)
theorem dX0_init_97 : decode cX0_init 97 = .ok (.dup, 1) := dk_89 (dk_at dksX0_init_4 5 rfl rfl)
theorem dX0_init_98 : decode cX0_init 98 = .ok (.iconst 0, 1) := dk_3 (dk_at dksX0_init_4 6 rfl rfl)
theorem dX0_init_99 : decode cX0_init 99 = .ok (.invokespecial 3, 3) := dk_183 0 3 (dk_at dksX0_init_4 7 rfl rfl)
theorem dX0_init_102 : decode cX0_init 102 = .ok (.aastore, 1) := dk_83 (dk_at dksX0_init_4 10 rfl rfl)
theorem dX0_init_103 : decode cX0_init 103 = .ok (.dup, 1) := dk_89 (dk_at dksX0_init_4 11 rfl rfl)
theorem dX0_init_104 : decode cX0_init 104 = .ok (.iconst 1, 1) := dk_4 (dk_at dksX0_init_4 12 rfl rfl)
theorem dX0_init_105 : decode cX0_init 105 = .ok (.new 7, 3) := dk_187 0 7 (dk_at dksX0_init_4 13 rfl rfl)
theorem dX0_init_108 : decode cX0_init 108 = .ok (.dup, 1) := dk_89 (dk_at dksX0_init_4 16 rfl rfl)
theorem dX0_init_109 : decode cX0_init 109 = .ok (.iconst 0, 1) := dk_3 (dk_at dksX0_init_4 17 rfl rfl)
theorem dX0_init_110 : decode cX0_init 110 = .ok (.invokespecial 9, 3) := dk_183 0 9 (dk_at dksX0_init_4 18 rfl rfl)
theorem dX0_init_113 : decode cX0_init 113 = .ok (.aastore, 1) := dk_83 (dk_at dksX0_init_4 21 rfl rfl)
theorem dX0_init_114 : decode cX0_init 114 = .ok (.dup, 1) := dk_89 (dk_at dksX0_init_4 22 rfl rfl)
theorem dX0_init_115 : decode cX0_init 115 = .ok (.iconst 2, 1) := dk_5 (dk_at dksX0_init_4 23 rfl rfl)
theorem dX0_init_116 : decode cX0_init 116 = .ok (.new 10, 3) := dk_187 0 10 (dk_at dksX0_init_5 0 rfl rfl)
theorem dX0_init_119 : decode cX0_init 119 = .ok (.dup, 1) := dk_89 (dk_at dksX0_init_5 3 rfl rfl)
theorem dX0_init_120 : decode cX0_init 120 = .ok (.iconst 0, 1) := dk_3 (dk_at dksX0_init_5 4 rfl rfl)
theorem dX0_init_121 : decode cX0_init 121 = .ok (.invokespecial 12, 3) := dk_183 0 12 (dk_at dksX0_init_5 5 rfl rfl)
theorem dX0_init_124 : decode cX0_init 124 = .ok (.aastore, 1) := dk_83 (dk_at dksX0_init_5 8 rfl rfl)
theorem dX0_init_125 : decode cX0_init 125 = .ok (.dup, 1) := dk_89 (dk_at dksX0_init_5 9 rfl rfl)
theorem dX0_init_126 : decode cX0_init 126 = .ok (.iconst 3, 1) := dk_6 (dk_at dksX0_init_5 10 rfl rfl)
theorem dX0_init_127 : decode cX0_init 127 = .ok (.new 13, 3) := dk_187 0 13 (dk_at dksX0_init_5 11 rfl rfl)
theorem dX0_init_130 : decode cX0_init 130 = .ok (.dup, 1) := dk_89 (dk_at dksX0_init_5 14 rfl rfl)
theorem dX0_init_131 : decode cX0_init 131 = .ok (.iconst 0, 1) := dk_3 (dk_at dksX0_init_5 15 rfl rfl)
theorem dX0_init_132 : decode cX0_init 132 = .ok (.invokespecial 15, 3) := dk_183 0 15 (dk_at dksX0_init_5 16 rfl rfl)
theorem dX0_init_135 : decode cX0_init 135 = .ok (.aastore, 1) := dk_83 (dk_at dksX0_init_5 19 rfl rfl)
theorem dX0_init_136 : decode cX0_init 136 = .ok (.dup, 1) := dk_89 (dk_at dksX0_init_5 20 rfl rfl)
theorem dX0_init_137 : decode cX0_init 137 = .ok (.iconst 4, 1) := dk_7 (dk_at dksX0_init_5 21 rfl rfl)
theorem dX0_init_138 : decode cX0_init 138 = .ok (.new 16, 3) := dk_187 0 16 (dk_at dksX0_init_6 0 rfl rfl)
theorem dX0_init_141 : decode cX0_init 141 = .ok (.dup, 1) := dk_89 (dk_at dksX0_init_6 3 rfl rfl)
theorem dX0_init_142 : decode cX0_init 142 = .ok (.iconst 0, 1) := dk_3 (dk_at dksX0_init_6 4 rfl rfl)
theorem dX0_init_143 : decode cX0_init 143 = .ok (.invokespecial 18, 3) := dk_183 0 18 (dk_at dksX0_init_6 5 rfl rfl)
theorem dX0_init_146 : decode cX0_init 146 = .ok (.aastore, 1) := dk_83 (dk_at dksX0_init_6 8 rfl rfl)
theorem dX0_init_147 : decode cX0_init 147 = .ok (.putfield 69, 3) := dk_181 0 69 (dk_at dksX0_init_6 9 rfl rfl)
theorem dX0_init_150 : decode cX0_init 150 = .ok (.return_, 1) := dk_177 (dk_at dksX0_init_6 12 rfl rfl)
abbrev cX0_row : ByteArray := prog_1_method_10_code
def yX0_row : MethodName := ⟨RX0, "row", "(III)I"⟩
def dkwX0_row_3 : List UInt8 := [172]
abbrev dktX0_row_3 : List UInt8 := dkwX0_row_3 ++ []
def dkwX0_row_2 : List UInt8 := [187, 0, 26, 89, 28, 29, 183, 0, 101, 83, 42, 29, 182, 0, 104, 172, 58, 4, 42, 25, 4, 182, 0, 108]
abbrev dktX0_row_2 : List UInt8 := dkwX0_row_2 ++ dktX0_row_3
def dkwX0_row_1 : List UInt8 := [164, 0, 6, 18, 100, 172, 29, 155, 0, 7, 4, 167, 0, 4, 3, 7, 184, 0, 90, 42, 180, 0, 28, 27]
abbrev dktX0_row_1 : List UInt8 := dkwX0_row_1 ++ dktX0_row_2
def dkwX0_row_0 : List UInt8 := [27, 184, 0, 94, 153, 0, 21, 28, 133, 9, 20, 0, 98, 184, 0, 86, 153, 0, 9, 29, 16, 40]
abbrev dktX0_row_0 : List UInt8 := dkwX0_row_0 ++ dktX0_row_1
theorem dksX0_row_0 : cX0_row.data.toList.drop 0 = dktX0_row_0 := by decide +kernel
theorem dksX0_row_1 : cX0_row.data.toList.drop 22 = dktX0_row_1 := dk_seg dksX0_row_0 22 rfl rfl
theorem dksX0_row_2 : cX0_row.data.toList.drop 46 = dktX0_row_2 := dk_seg dksX0_row_1 24 rfl rfl
theorem dksX0_row_3 : cX0_row.data.toList.drop 70 = dktX0_row_3 := dk_seg dksX0_row_2 24 rfl rfl
theorem dX0_row_0 : decode cX0_row 0 = .ok (.iload_n 1, 1) := dk_27 (dk_at dksX0_row_0 0 rfl rfl)
theorem dX0_row_1 : decode cX0_row 1 = .ok (.invokestatic 94, 3) := dk_184 0 94 (dk_at dksX0_row_0 1 rfl rfl)
theorem dX0_row_4 : decode cX0_row 4 = .ok (.ifCond .eq 21, 3) := dk_153 0 21 (dk_at dksX0_row_0 4 rfl rfl)
theorem dX0_row_7 : decode cX0_row 7 = .ok (.iload_n 2, 1) := dk_28 (dk_at dksX0_row_0 7 rfl rfl)
theorem dX0_row_8 : decode cX0_row 8 = .ok (.i2l, 1) := dk_133 (dk_at dksX0_row_0 8 rfl rfl)
theorem dX0_row_9 : decode cX0_row 9 = .ok (.lconst 0, 1) := dk_9 (dk_at dksX0_row_0 9 rfl rfl)
theorem dX0_row_10 : decode cX0_row 10 = .ok (.ldc2_w 98, 3) := dk_20 0 98 (dk_at dksX0_row_0 10 rfl rfl)
theorem dX0_row_13 : decode cX0_row 13 = .ok (.invokestatic 86, 3) := dk_184 0 86 (dk_at dksX0_row_0 13 rfl rfl)
theorem dX0_row_16 : decode cX0_row 16 = .ok (.ifCond .eq 9, 3) := dk_153 0 9 (dk_at dksX0_row_0 16 rfl rfl)
theorem dX0_row_19 : decode cX0_row 19 = .ok (.iload_n 3, 1) := dk_29 (dk_at dksX0_row_0 19 rfl rfl)
theorem dX0_row_20 : decode cX0_row 20 = .ok (.bipush 40, 2) := dk_16 40 (dk_at dksX0_row_0 20 rfl rfl)
theorem dX0_row_22 : decode cX0_row 22 = .ok (.if_icmp .le 6, 3) := dk_164 0 6 (dk_at dksX0_row_1 0 rfl rfl)
theorem dX0_row_25 : decode cX0_row 25 = .ok (.ldc 100, 2) := dk_18 100 (dk_at dksX0_row_1 3 rfl rfl)
theorem dX0_row_27 : decode cX0_row 27 = .ok (.ireturn, 1) := dk_172 (dk_at dksX0_row_1 5 rfl rfl)
theorem dX0_row_28 : decode cX0_row 28 = .ok (.iload_n 3, 1) := dk_29 (dk_at dksX0_row_1 6 rfl rfl)
theorem dX0_row_29 : decode cX0_row 29 = .ok (.ifCond .lt 7, 3) := dk_155 0 7 (dk_at dksX0_row_1 7 rfl rfl)
theorem dX0_row_32 : decode cX0_row 32 = .ok (.iconst 1, 1) := dk_4 (dk_at dksX0_row_1 10 rfl rfl)
theorem dX0_row_33 : decode cX0_row 33 = .ok (.goto 4, 3) := dk_167 0 4 (dk_at dksX0_row_1 11 rfl rfl)
theorem dX0_row_36 : decode cX0_row 36 = .ok (.iconst 0, 1) := dk_3 (dk_at dksX0_row_1 14 rfl rfl)
theorem dX0_row_37 : decode cX0_row 37 = .ok (.iconst 4, 1) := dk_7 (dk_at dksX0_row_1 15 rfl rfl)
theorem dX0_row_38 : decode cX0_row 38 = .ok (.invokestatic 90, 3) := dk_184 0 90 (dk_at dksX0_row_1 16 rfl rfl)
theorem dX0_row_41 : decode cX0_row 41 = .ok (.aload_n 0, 1) := dk_42 (dk_at dksX0_row_1 19 rfl rfl)
theorem dX0_row_42 : decode cX0_row 42 = .ok (.getfield 28, 3) := dk_180 0 28 (dk_at dksX0_row_1 20 rfl rfl)
theorem dX0_row_45 : decode cX0_row 45 = .ok (.iload_n 1, 1) := dk_27 (dk_at dksX0_row_1 23 rfl rfl)
theorem dX0_row_46 : decode cX0_row 46 = .ok (.new 26, 3) := dk_187 0 26 (dk_at dksX0_row_2 0 rfl rfl)
theorem dX0_row_49 : decode cX0_row 49 = .ok (.dup, 1) := dk_89 (dk_at dksX0_row_2 3 rfl rfl)
theorem dX0_row_50 : decode cX0_row 50 = .ok (.iload_n 2, 1) := dk_28 (dk_at dksX0_row_2 4 rfl rfl)
theorem dX0_row_51 : decode cX0_row 51 = .ok (.iload_n 3, 1) := dk_29 (dk_at dksX0_row_2 5 rfl rfl)
theorem dX0_row_52 : decode cX0_row 52 = .ok (.invokespecial 101, 3) := dk_183 0 101 (dk_at dksX0_row_2 6 rfl rfl)
theorem dX0_row_55 : decode cX0_row 55 = .ok (.aastore, 1) := dk_83 (dk_at dksX0_row_2 9 rfl rfl)
theorem dX0_row_56 : decode cX0_row 56 = .ok (.aload_n 0, 1) := dk_42 (dk_at dksX0_row_2 10 rfl rfl)
theorem dX0_row_57 : decode cX0_row 57 = .ok (.iload_n 3, 1) := dk_29 (dk_at dksX0_row_2 11 rfl rfl)
theorem dX0_row_58 : decode cX0_row 58 = .ok (.invokevirtual 104, 3) := dk_182 0 104 (dk_at dksX0_row_2 12 rfl rfl)
theorem dX0_row_61 : decode cX0_row 61 = .ok (.ireturn, 1) := dk_172 (dk_at dksX0_row_2 15 rfl rfl)
theorem dX0_row_62 : decode cX0_row 62 = .ok (.astore 4, 2) := dk_58 4 (dk_at dksX0_row_2 16 rfl rfl)
theorem dX0_row_64 : decode cX0_row 64 = .ok (.aload_n 0, 1) := dk_42 (dk_at dksX0_row_2 18 rfl rfl)
theorem dX0_row_65 : decode cX0_row 65 = .ok (.aload 4, 2) := dk_25 4 (dk_at dksX0_row_2 19 rfl rfl)
theorem dX0_row_67 : decode cX0_row 67 = .ok (.invokevirtual 108, 3) := dk_182 0 108 (dk_at dksX0_row_2 21 rfl rfl)
theorem dX0_row_70 : decode cX0_row 70 = .ok (.ireturn, 1) := dk_172 (dk_at dksX0_row_3 0 rfl rfl)
abbrev cX0_isRow : ByteArray := prog_1_method_8_code
def yX0_isRow : MethodName := ⟨RX0, "isRow", "(I)Z"⟩
def dkwX0_isRow_0 : List UInt8 := [26, 133, 9, 20, 0, 84, 184, 0, 86, 172]
abbrev dktX0_isRow_0 : List UInt8 := dkwX0_isRow_0 ++ []
theorem dksX0_isRow_0 : cX0_isRow.data.toList.drop 0 = dktX0_isRow_0 := by decide +kernel
theorem dX0_isRow_0 : decode cX0_isRow 0 = .ok (.iload_n 0, 1) := dk_26 (dk_at dksX0_isRow_0 0 rfl rfl)
theorem dX0_isRow_1 : decode cX0_isRow 1 = .ok (.i2l, 1) := dk_133 (dk_at dksX0_isRow_0 1 rfl rfl)
theorem dX0_isRow_2 : decode cX0_isRow 2 = .ok (.lconst 0, 1) := dk_9 (dk_at dksX0_isRow_0 2 rfl rfl)
theorem dX0_isRow_3 : decode cX0_isRow 3 = .ok (.ldc2_w 84, 3) := dk_20 0 84 (dk_at dksX0_isRow_0 3 rfl rfl)
theorem dX0_isRow_6 : decode cX0_isRow 6 = .ok (.invokestatic 86, 3) := dk_184 0 86 (dk_at dksX0_isRow_0 6 rfl rfl)
theorem dX0_isRow_9 : decode cX0_isRow 9 = .ok (.ireturn, 1) := dk_172 (dk_at dksX0_isRow_0 9 rfl rfl)
abbrev cX0_isIn : ByteArray := prog_1_method_1_code
def yX0_isIn : MethodName := ⟨RX0, "isIn", "(JJJ)Z"⟩
def dkwX0_isIn_0 : List UInt8 := [30, 32, 148, 155, 0, 14, 30, 22, 4, 148, 157, 0, 7, 4, 167, 0, 4, 3, 172]
abbrev dktX0_isIn_0 : List UInt8 := dkwX0_isIn_0 ++ []
theorem dksX0_isIn_0 : cX0_isIn.data.toList.drop 0 = dktX0_isIn_0 := by decide +kernel
theorem dX0_isIn_0 : decode cX0_isIn 0 = .ok (.lload_n 0, 1) := dk_30 (dk_at dksX0_isIn_0 0 rfl rfl)
theorem dX0_isIn_1 : decode cX0_isIn 1 = .ok (.lload_n 2, 1) := dk_32 (dk_at dksX0_isIn_0 1 rfl rfl)
theorem dX0_isIn_2 : decode cX0_isIn 2 = .ok (.lcmp, 1) := dk_148 (dk_at dksX0_isIn_0 2 rfl rfl)
theorem dX0_isIn_3 : decode cX0_isIn 3 = .ok (.ifCond .lt 14, 3) := dk_155 0 14 (dk_at dksX0_isIn_0 3 rfl rfl)
theorem dX0_isIn_6 : decode cX0_isIn 6 = .ok (.lload_n 0, 1) := dk_30 (dk_at dksX0_isIn_0 6 rfl rfl)
theorem dX0_isIn_7 : decode cX0_isIn 7 = .ok (.lload 4, 2) := dk_22 4 (dk_at dksX0_isIn_0 7 rfl rfl)
theorem dX0_isIn_9 : decode cX0_isIn 9 = .ok (.lcmp, 1) := dk_148 (dk_at dksX0_isIn_0 9 rfl rfl)
theorem dX0_isIn_10 : decode cX0_isIn 10 = .ok (.ifCond .gt 7, 3) := dk_157 0 7 (dk_at dksX0_isIn_0 10 rfl rfl)
theorem dX0_isIn_13 : decode cX0_isIn 13 = .ok (.iconst 1, 1) := dk_4 (dk_at dksX0_isIn_0 13 rfl rfl)
theorem dX0_isIn_14 : decode cX0_isIn 14 = .ok (.goto 4, 3) := dk_167 0 4 (dk_at dksX0_isIn_0 14 rfl rfl)
theorem dX0_isIn_17 : decode cX0_isIn 17 = .ok (.iconst 0, 1) := dk_3 (dk_at dksX0_isIn_0 17 rfl rfl)
theorem dX0_isIn_18 : decode cX0_isIn 18 = .ok (.ireturn, 1) := dk_172 (dk_at dksX0_isIn_0 18 rfl rfl)
abbrev cX0_must : ByteArray := prog_1_method_7_code
def yX0_must : MethodName := ⟨RX0, "must", "(ZI)V"⟩
def dkwX0_must_0 : List UInt8 := [26, 154, 0, 12, 187, 0, 74, 89, 27, 183, 0, 83, 191, 177]
abbrev dktX0_must_0 : List UInt8 := dkwX0_must_0 ++ []
theorem dksX0_must_0 : cX0_must.data.toList.drop 0 = dktX0_must_0 := by decide +kernel
theorem dX0_must_0 : decode cX0_must 0 = .ok (.iload_n 0, 1) := dk_26 (dk_at dksX0_must_0 0 rfl rfl)
theorem dX0_must_1 : decode cX0_must 1 = .ok (.ifCond .ne 12, 3) := dk_154 0 12 (dk_at dksX0_must_0 1 rfl rfl)
theorem dX0_must_4 : decode cX0_must 4 = .ok (.new 74, 3) := dk_187 0 74 (dk_at dksX0_must_0 4 rfl rfl)
theorem dX0_must_7 : decode cX0_must 7 = .ok (.dup, 1) := dk_89 (dk_at dksX0_must_0 7 rfl rfl)
theorem dX0_must_8 : decode cX0_must 8 = .ok (.iload_n 1, 1) := dk_27 (dk_at dksX0_must_0 8 rfl rfl)
theorem dX0_must_9 : decode cX0_must 9 = .ok (.invokespecial 83, 3) := dk_183 0 83 (dk_at dksX0_must_0 9 rfl rfl)
theorem dX0_must_12 : decode cX0_must 12 = .ok (.athrow, 1) := dk_191 (dk_at dksX0_must_0 12 rfl rfl)
theorem dX0_must_13 : decode cX0_must 13 = .ok (.return_, 1) := dk_177 (dk_at dksX0_must_0 13 rfl rfl)
abbrev cX0_well : ByteArray := prog_1_method_6_code
def yX0_well : MethodName := ⟨RX0, "well", "(I)I"⟩
def dkwX0_well_0 : List UInt8 := [42, 3, 181, 0, 79, 27, 172]
abbrev dktX0_well_0 : List UInt8 := dkwX0_well_0 ++ []
theorem dksX0_well_0 : cX0_well.data.toList.drop 0 = dktX0_well_0 := by decide +kernel
theorem dX0_well_0 : decode cX0_well 0 = .ok (.aload_n 0, 1) := dk_42 (dk_at dksX0_well_0 0 rfl rfl)
theorem dX0_well_1 : decode cX0_well 1 = .ok (.iconst 0, 1) := dk_3 (dk_at dksX0_well_0 1 rfl rfl)
theorem dX0_well_2 : decode cX0_well 2 = .ok (.putfield 79, 3) := dk_181 0 79 (dk_at dksX0_well_0 2 rfl rfl)
theorem dX0_well_5 : decode cX0_well 5 = .ok (.iload_n 1, 1) := dk_27 (dk_at dksX0_well_0 5 rfl rfl)
theorem dX0_well_6 : decode cX0_well 6 = .ok (.ireturn, 1) := dk_172 (dk_at dksX0_well_0 6 rfl rfl)
abbrev cX0_found : ByteArray := prog_1_method_5_code
def yX0_found : MethodName := ⟨RX0, "found", "(LDishLift$Finding;)I"⟩
def dkwX0_found_0 : List UInt8 := [42, 43, 180, 0, 73, 181, 0, 79, 18, 82, 43, 180, 0, 73, 100, 172]
abbrev dktX0_found_0 : List UInt8 := dkwX0_found_0 ++ []
theorem dksX0_found_0 : cX0_found.data.toList.drop 0 = dktX0_found_0 := by decide +kernel
theorem dX0_found_0 : decode cX0_found 0 = .ok (.aload_n 0, 1) := dk_42 (dk_at dksX0_found_0 0 rfl rfl)
theorem dX0_found_1 : decode cX0_found 1 = .ok (.aload_n 1, 1) := dk_43 (dk_at dksX0_found_0 1 rfl rfl)
theorem dX0_found_2 : decode cX0_found 2 = .ok (.getfield 73, 3) := dk_180 0 73 (dk_at dksX0_found_0 2 rfl rfl)
theorem dX0_found_5 : decode cX0_found 5 = .ok (.putfield 79, 3) := dk_181 0 79 (dk_at dksX0_found_0 5 rfl rfl)
theorem dX0_found_8 : decode cX0_found 8 = .ok (.ldc 82, 2) := dk_18 82 (dk_at dksX0_found_0 8 rfl rfl)
theorem dX0_found_10 : decode cX0_found 10 = .ok (.aload_n 1, 1) := dk_43 (dk_at dksX0_found_0 10 rfl rfl)
theorem dX0_found_11 : decode cX0_found 11 = .ok (.getfield 73, 3) := dk_180 0 73 (dk_at dksX0_found_0 11 rfl rfl)
theorem dX0_found_14 : decode cX0_found 14 = .ok (.isub, 1) := dk_100 (dk_at dksX0_found_0 14 rfl rfl)
theorem dX0_found_15 : decode cX0_found 15 = .ok (.ireturn, 1) := dk_172 (dk_at dksX0_found_0 15 rfl rfl)
abbrev cX0_set : ByteArray := prog_1_method_11_code
def yX0_set : MethodName := ⟨RX0, "set", "(III)I"⟩
def dkwX0_set_3 : List UInt8 := [172]
abbrev dktX0_set_3 : List UInt8 := dkwX0_set_3 ++ []
def dkwX0_set_2 : List UInt8 := [182, 0, 119, 79, 42, 25, 4, 180, 0, 116, 28, 46, 182, 0, 104, 172, 58, 4, 42, 25, 4, 182, 0, 108]
abbrev dktX0_set_2 : List UInt8 := dkwX0_set_2 ++ dktX0_set_3
def dkwX0_set_1 : List UInt8 := [180, 0, 116, 190, 4, 100, 133, 184, 0, 86, 5, 184, 0, 90, 25, 4, 180, 0, 116, 28, 25, 4, 29]
abbrev dktX0_set_1 : List UInt8 := dkwX0_set_1 ++ dktX0_set_2
def dkwX0_set_0 : List UInt8 := [27, 184, 0, 94, 154, 0, 6, 18, 100, 172, 42, 27, 182, 0, 112, 58, 4, 28, 133, 9, 25, 4]
abbrev dktX0_set_0 : List UInt8 := dkwX0_set_0 ++ dktX0_set_1
theorem dksX0_set_0 : cX0_set.data.toList.drop 0 = dktX0_set_0 := by decide +kernel
theorem dksX0_set_1 : cX0_set.data.toList.drop 22 = dktX0_set_1 := dk_seg dksX0_set_0 22 rfl rfl
theorem dksX0_set_2 : cX0_set.data.toList.drop 45 = dktX0_set_2 := dk_seg dksX0_set_1 23 rfl rfl
theorem dksX0_set_3 : cX0_set.data.toList.drop 69 = dktX0_set_3 := dk_seg dksX0_set_2 24 rfl rfl
theorem dX0_set_0 : decode cX0_set 0 = .ok (.iload_n 1, 1) := dk_27 (dk_at dksX0_set_0 0 rfl rfl)
theorem dX0_set_1 : decode cX0_set 1 = .ok (.invokestatic 94, 3) := dk_184 0 94 (dk_at dksX0_set_0 1 rfl rfl)
theorem dX0_set_4 : decode cX0_set 4 = .ok (.ifCond .ne 6, 3) := dk_154 0 6 (dk_at dksX0_set_0 4 rfl rfl)
theorem dX0_set_7 : decode cX0_set 7 = .ok (.ldc 100, 2) := dk_18 100 (dk_at dksX0_set_0 7 rfl rfl)
theorem dX0_set_9 : decode cX0_set 9 = .ok (.ireturn, 1) := dk_172 (dk_at dksX0_set_0 9 rfl rfl)
theorem dX0_set_10 : decode cX0_set 10 = .ok (.aload_n 0, 1) := dk_42 (dk_at dksX0_set_0 10 rfl rfl)
theorem dX0_set_11 : decode cX0_set 11 = .ok (.iload_n 1, 1) := dk_27 (dk_at dksX0_set_0 11 rfl rfl)
theorem dX0_set_12 : decode cX0_set 12 = .ok (.invokevirtual 112, 3) := dk_182 0 112 (dk_at dksX0_set_0 12 rfl rfl)
theorem dX0_set_15 : decode cX0_set 15 = .ok (.astore 4, 2) := dk_58 4 (dk_at dksX0_set_0 15 rfl rfl)
theorem dX0_set_17 : decode cX0_set 17 = .ok (.iload_n 2, 1) := dk_28 (dk_at dksX0_set_0 17 rfl rfl)
theorem dX0_set_18 : decode cX0_set 18 = .ok (.i2l, 1) := dk_133 (dk_at dksX0_set_0 18 rfl rfl)
theorem dX0_set_19 : decode cX0_set 19 = .ok (.lconst 0, 1) := dk_9 (dk_at dksX0_set_0 19 rfl rfl)
theorem dX0_set_20 : decode cX0_set 20 = .ok (.aload 4, 2) := dk_25 4 (dk_at dksX0_set_0 20 rfl rfl)
theorem dX0_set_22 : decode cX0_set 22 = .ok (.getfield 116, 3) := dk_180 0 116 (dk_at dksX0_set_1 0 rfl rfl)
theorem dX0_set_25 : decode cX0_set 25 = .ok (.arraylength, 1) := dk_190 (dk_at dksX0_set_1 3 rfl rfl)
theorem dX0_set_26 : decode cX0_set 26 = .ok (.iconst 1, 1) := dk_4 (dk_at dksX0_set_1 4 rfl rfl)
theorem dX0_set_27 : decode cX0_set 27 = .ok (.isub, 1) := dk_100 (dk_at dksX0_set_1 5 rfl rfl)
theorem dX0_set_28 : decode cX0_set 28 = .ok (.i2l, 1) := dk_133 (dk_at dksX0_set_1 6 rfl rfl)
theorem dX0_set_29 : decode cX0_set 29 = .ok (.invokestatic 86, 3) := dk_184 0 86 (dk_at dksX0_set_1 7 rfl rfl)
theorem dX0_set_32 : decode cX0_set 32 = .ok (.iconst 2, 1) := dk_5 (dk_at dksX0_set_1 10 rfl rfl)
theorem dX0_set_33 : decode cX0_set 33 = .ok (.invokestatic 90, 3) := dk_184 0 90 (dk_at dksX0_set_1 11 rfl rfl)
theorem dX0_set_36 : decode cX0_set 36 = .ok (.aload 4, 2) := dk_25 4 (dk_at dksX0_set_1 14 rfl rfl)
theorem dX0_set_38 : decode cX0_set 38 = .ok (.getfield 116, 3) := dk_180 0 116 (dk_at dksX0_set_1 16 rfl rfl)
theorem dX0_set_41 : decode cX0_set 41 = .ok (.iload_n 2, 1) := dk_28 (dk_at dksX0_set_1 19 rfl rfl)
theorem dX0_set_42 : decode cX0_set 42 = .ok (.aload 4, 2) := dk_25 4 (dk_at dksX0_set_1 20 rfl rfl)
theorem dX0_set_44 : decode cX0_set 44 = .ok (.iload_n 3, 1) := dk_29 (dk_at dksX0_set_1 22 rfl rfl)
theorem dX0_set_45 : decode cX0_set 45 = .ok (.invokevirtual 119, 3) := dk_182 0 119 (dk_at dksX0_set_2 0 rfl rfl)
theorem dX0_set_48 : decode cX0_set 48 = .ok (.iastore, 1) := dk_79 (dk_at dksX0_set_2 3 rfl rfl)
theorem dX0_set_49 : decode cX0_set 49 = .ok (.aload_n 0, 1) := dk_42 (dk_at dksX0_set_2 4 rfl rfl)
theorem dX0_set_50 : decode cX0_set 50 = .ok (.aload 4, 2) := dk_25 4 (dk_at dksX0_set_2 5 rfl rfl)
theorem dX0_set_52 : decode cX0_set 52 = .ok (.getfield 116, 3) := dk_180 0 116 (dk_at dksX0_set_2 7 rfl rfl)
theorem dX0_set_55 : decode cX0_set 55 = .ok (.iload_n 2, 1) := dk_28 (dk_at dksX0_set_2 10 rfl rfl)
theorem dX0_set_56 : decode cX0_set 56 = .ok (.iaload, 1) := dk_46 (dk_at dksX0_set_2 11 rfl rfl)
theorem dX0_set_57 : decode cX0_set 57 = .ok (.invokevirtual 104, 3) := dk_182 0 104 (dk_at dksX0_set_2 12 rfl rfl)
theorem dX0_set_60 : decode cX0_set 60 = .ok (.ireturn, 1) := dk_172 (dk_at dksX0_set_2 15 rfl rfl)
theorem dX0_set_61 : decode cX0_set 61 = .ok (.astore 4, 2) := dk_58 4 (dk_at dksX0_set_2 16 rfl rfl)
theorem dX0_set_63 : decode cX0_set 63 = .ok (.aload_n 0, 1) := dk_42 (dk_at dksX0_set_2 18 rfl rfl)
theorem dX0_set_64 : decode cX0_set 64 = .ok (.aload 4, 2) := dk_25 4 (dk_at dksX0_set_2 19 rfl rfl)
theorem dX0_set_66 : decode cX0_set 66 = .ok (.invokevirtual 108, 3) := dk_182 0 108 (dk_at dksX0_set_2 21 rfl rfl)
theorem dX0_set_69 : decode cX0_set 69 = .ok (.ireturn, 1) := dk_172 (dk_at dksX0_set_3 0 rfl rfl)
abbrev cX0_rowAt : ByteArray := prog_1_method_9_code
def yX0_rowAt : MethodName := ⟨RX0, "rowAt", "(I)LDishLift$Row;"⟩
def dkwX0_rowAt_1 : List UInt8 := [176]
abbrev dktX0_rowAt_1 : List UInt8 := dkwX0_rowAt_1 ++ []
def dkwX0_rowAt_0 : List UInt8 := [42, 180, 0, 28, 27, 50, 198, 0, 7, 4, 167, 0, 4, 3, 4, 184, 0, 90, 42, 180, 0, 28, 27, 50]
abbrev dktX0_rowAt_0 : List UInt8 := dkwX0_rowAt_0 ++ dktX0_rowAt_1
theorem dksX0_rowAt_0 : cX0_rowAt.data.toList.drop 0 = dktX0_rowAt_0 := by decide +kernel
theorem dksX0_rowAt_1 : cX0_rowAt.data.toList.drop 24 = dktX0_rowAt_1 := dk_seg dksX0_rowAt_0 24 rfl rfl
theorem dX0_rowAt_0 : decode cX0_rowAt 0 = .ok (.aload_n 0, 1) := dk_42 (dk_at dksX0_rowAt_0 0 rfl rfl)
theorem dX0_rowAt_1 : decode cX0_rowAt 1 = .ok (.getfield 28, 3) := dk_180 0 28 (dk_at dksX0_rowAt_0 1 rfl rfl)
theorem dX0_rowAt_4 : decode cX0_rowAt 4 = .ok (.iload_n 1, 1) := dk_27 (dk_at dksX0_rowAt_0 4 rfl rfl)
theorem dX0_rowAt_5 : decode cX0_rowAt 5 = .ok (.aaload, 1) := dk_50 (dk_at dksX0_rowAt_0 5 rfl rfl)
theorem dX0_rowAt_6 : decode cX0_rowAt 6 = .ok (.ifnull 7, 3) := dk_198 0 7 (dk_at dksX0_rowAt_0 6 rfl rfl)
theorem dX0_rowAt_9 : decode cX0_rowAt 9 = .ok (.iconst 1, 1) := dk_4 (dk_at dksX0_rowAt_0 9 rfl rfl)
theorem dX0_rowAt_10 : decode cX0_rowAt 10 = .ok (.goto 4, 3) := dk_167 0 4 (dk_at dksX0_rowAt_0 10 rfl rfl)
theorem dX0_rowAt_13 : decode cX0_rowAt 13 = .ok (.iconst 0, 1) := dk_3 (dk_at dksX0_rowAt_0 13 rfl rfl)
theorem dX0_rowAt_14 : decode cX0_rowAt 14 = .ok (.iconst 1, 1) := dk_4 (dk_at dksX0_rowAt_0 14 rfl rfl)
theorem dX0_rowAt_15 : decode cX0_rowAt 15 = .ok (.invokestatic 90, 3) := dk_184 0 90 (dk_at dksX0_rowAt_0 15 rfl rfl)
theorem dX0_rowAt_18 : decode cX0_rowAt 18 = .ok (.aload_n 0, 1) := dk_42 (dk_at dksX0_rowAt_0 18 rfl rfl)
theorem dX0_rowAt_19 : decode cX0_rowAt 19 = .ok (.getfield 28, 3) := dk_180 0 28 (dk_at dksX0_rowAt_0 19 rfl rfl)
theorem dX0_rowAt_22 : decode cX0_rowAt 22 = .ok (.iload_n 1, 1) := dk_27 (dk_at dksX0_rowAt_0 22 rfl rfl)
theorem dX0_rowAt_23 : decode cX0_rowAt 23 = .ok (.aaload, 1) := dk_50 (dk_at dksX0_rowAt_0 23 rfl rfl)
theorem dX0_rowAt_24 : decode cX0_rowAt 24 = .ok (.areturn, 1) := dk_176 (dk_at dksX0_rowAt_1 0 rfl rfl)
abbrev cX0_copy : ByteArray := prog_1_method_12_code
def yX0_copy : MethodName := ⟨RX0, "copy", "(IIIII)I"⟩
def dkwX0_copy_4 : List UInt8 := [25, 6, 182, 0, 108, 172]
abbrev dktX0_copy_4 : List UInt8 := dkwX0_copy_4 ++ []
def dkwX0_copy_3 : List UInt8 := [167, 0, 14, 58, 8, 187, 0, 74, 89, 5, 183, 0, 83, 191, 42, 21, 5, 182, 0, 104, 172, 58, 6, 42]
abbrev dktX0_copy_3 : List UInt8 := dkwX0_copy_3 ++ dktX0_copy_4
def dkwX0_copy_2 : List UInt8 := [3, 8, 184, 0, 90, 25, 6, 180, 0, 116, 28, 25, 7, 180, 0, 116, 21, 4, 21, 5, 184, 0, 125]
abbrev dktX0_copy_2 : List UInt8 := dkwX0_copy_2 ++ dktX0_copy_3
def dkwX0_copy_1 : List UInt8 := [42, 29, 182, 0, 112, 58, 7, 25, 6, 180, 0, 122, 25, 7, 180, 0, 122, 160, 0, 7, 4, 167, 0, 4]
abbrev dktX0_copy_1 : List UInt8 := dkwX0_copy_1 ++ dktX0_copy_2
def dkwX0_copy_0 : List UInt8 := [27, 184, 0, 94, 153, 0, 10, 29, 184, 0, 94, 154, 0, 6, 18, 100, 172, 42, 27, 182, 0, 112, 58, 6]
abbrev dktX0_copy_0 : List UInt8 := dkwX0_copy_0 ++ dktX0_copy_1
theorem dksX0_copy_0 : cX0_copy.data.toList.drop 0 = dktX0_copy_0 := by decide +kernel
theorem dksX0_copy_1 : cX0_copy.data.toList.drop 24 = dktX0_copy_1 := dk_seg dksX0_copy_0 24 rfl rfl
theorem dksX0_copy_2 : cX0_copy.data.toList.drop 48 = dktX0_copy_2 := dk_seg dksX0_copy_1 24 rfl rfl
theorem dksX0_copy_3 : cX0_copy.data.toList.drop 71 = dktX0_copy_3 := dk_seg dksX0_copy_2 23 rfl rfl
theorem dksX0_copy_4 : cX0_copy.data.toList.drop 95 = dktX0_copy_4 := dk_seg dksX0_copy_3 24 rfl rfl
theorem dX0_copy_0 : decode cX0_copy 0 = .ok (.iload_n 1, 1) := dk_27 (dk_at dksX0_copy_0 0 rfl rfl)
theorem dX0_copy_1 : decode cX0_copy 1 = .ok (.invokestatic 94, 3) := dk_184 0 94 (dk_at dksX0_copy_0 1 rfl rfl)
theorem dX0_copy_4 : decode cX0_copy 4 = .ok (.ifCond .eq 10, 3) := dk_153 0 10 (dk_at dksX0_copy_0 4 rfl rfl)
theorem dX0_copy_7 : decode cX0_copy 7 = .ok (.iload_n 3, 1) := dk_29 (dk_at dksX0_copy_0 7 rfl rfl)
theorem dX0_copy_8 : decode cX0_copy 8 = .ok (.invokestatic 94, 3) := dk_184 0 94 (dk_at dksX0_copy_0 8 rfl rfl)
theorem dX0_copy_11 : decode cX0_copy 11 = .ok (.ifCond .ne 6, 3) := dk_154 0 6 (dk_at dksX0_copy_0 11 rfl rfl)
theorem dX0_copy_14 : decode cX0_copy 14 = .ok (.ldc 100, 2) := dk_18 100 (dk_at dksX0_copy_0 14 rfl rfl)
theorem dX0_copy_16 : decode cX0_copy 16 = .ok (.ireturn, 1) := dk_172 (dk_at dksX0_copy_0 16 rfl rfl)
theorem dX0_copy_17 : decode cX0_copy 17 = .ok (.aload_n 0, 1) := dk_42 (dk_at dksX0_copy_0 17 rfl rfl)
theorem dX0_copy_18 : decode cX0_copy 18 = .ok (.iload_n 1, 1) := dk_27 (dk_at dksX0_copy_0 18 rfl rfl)
theorem dX0_copy_19 : decode cX0_copy 19 = .ok (.invokevirtual 112, 3) := dk_182 0 112 (dk_at dksX0_copy_0 19 rfl rfl)
theorem dX0_copy_22 : decode cX0_copy 22 = .ok (.astore 6, 2) := dk_58 6 (dk_at dksX0_copy_0 22 rfl rfl)
theorem dX0_copy_24 : decode cX0_copy 24 = .ok (.aload_n 0, 1) := dk_42 (dk_at dksX0_copy_1 0 rfl rfl)
theorem dX0_copy_25 : decode cX0_copy 25 = .ok (.iload_n 3, 1) := dk_29 (dk_at dksX0_copy_1 1 rfl rfl)
theorem dX0_copy_26 : decode cX0_copy 26 = .ok (.invokevirtual 112, 3) := dk_182 0 112 (dk_at dksX0_copy_1 2 rfl rfl)
theorem dX0_copy_29 : decode cX0_copy 29 = .ok (.astore 7, 2) := dk_58 7 (dk_at dksX0_copy_1 5 rfl rfl)
theorem dX0_copy_31 : decode cX0_copy 31 = .ok (.aload 6, 2) := dk_25 6 (dk_at dksX0_copy_1 7 rfl rfl)
theorem dX0_copy_33 : decode cX0_copy 33 = .ok (.getfield 122, 3) := dk_180 0 122 (dk_at dksX0_copy_1 9 rfl rfl)
theorem dX0_copy_36 : decode cX0_copy 36 = .ok (.aload 7, 2) := dk_25 7 (dk_at dksX0_copy_1 12 rfl rfl)
theorem dX0_copy_38 : decode cX0_copy 38 = .ok (.getfield 122, 3) := dk_180 0 122 (dk_at dksX0_copy_1 14 rfl rfl)
theorem dX0_copy_41 : decode cX0_copy 41 = .ok (.if_icmp .ne 7, 3) := dk_160 0 7 (dk_at dksX0_copy_1 17 rfl rfl)
theorem dX0_copy_44 : decode cX0_copy 44 = .ok (.iconst 1, 1) := dk_4 (dk_at dksX0_copy_1 20 rfl rfl)
theorem dX0_copy_45 : decode cX0_copy 45 = .ok (.goto 4, 3) := dk_167 0 4 (dk_at dksX0_copy_1 21 rfl rfl)
theorem dX0_copy_48 : decode cX0_copy 48 = .ok (.iconst 0, 1) := dk_3 (dk_at dksX0_copy_2 0 rfl rfl)
theorem dX0_copy_49 : decode cX0_copy 49 = .ok (.iconst 5, 1) := dk_8 (dk_at dksX0_copy_2 1 rfl rfl)
theorem dX0_copy_50 : decode cX0_copy 50 = .ok (.invokestatic 90, 3) := dk_184 0 90 (dk_at dksX0_copy_2 2 rfl rfl)
theorem dX0_copy_53 : decode cX0_copy 53 = .ok (.aload 6, 2) := dk_25 6 (dk_at dksX0_copy_2 5 rfl rfl)
theorem dX0_copy_55 : decode cX0_copy 55 = .ok (.getfield 116, 3) := dk_180 0 116 (dk_at dksX0_copy_2 7 rfl rfl)
theorem dX0_copy_58 : decode cX0_copy 58 = .ok (.iload_n 2, 1) := dk_28 (dk_at dksX0_copy_2 10 rfl rfl)
theorem dX0_copy_59 : decode cX0_copy 59 = .ok (.aload 7, 2) := dk_25 7 (dk_at dksX0_copy_2 11 rfl rfl)
theorem dX0_copy_61 : decode cX0_copy 61 = .ok (.getfield 116, 3) := dk_180 0 116 (dk_at dksX0_copy_2 13 rfl rfl)
theorem dX0_copy_64 : decode cX0_copy 64 = .ok (.iload 4, 2) := dk_21 4 (dk_at dksX0_copy_2 16 rfl rfl)
theorem dX0_copy_66 : decode cX0_copy 66 = .ok (.iload 5, 2) := dk_21 5 (dk_at dksX0_copy_2 18 rfl rfl)
theorem dX0_copy_68 : decode cX0_copy 68 = .ok (.invokestatic 125, 3) := dk_184 0 125 (dk_at dksX0_copy_2 20 rfl rfl)
theorem dX0_copy_71 : decode cX0_copy 71 = .ok (.goto 14, 3) := dk_167 0 14 (dk_at dksX0_copy_3 0 rfl rfl)
theorem dX0_copy_74 : decode cX0_copy 74 = .ok (.astore 8, 2) := dk_58 8 (dk_at dksX0_copy_3 3 rfl rfl)
theorem dX0_copy_76 : decode cX0_copy 76 = .ok (.new 74, 3) := dk_187 0 74 (dk_at dksX0_copy_3 5 rfl rfl)
theorem dX0_copy_79 : decode cX0_copy 79 = .ok (.dup, 1) := dk_89 (dk_at dksX0_copy_3 8 rfl rfl)
theorem dX0_copy_80 : decode cX0_copy 80 = .ok (.iconst 2, 1) := dk_5 (dk_at dksX0_copy_3 9 rfl rfl)
theorem dX0_copy_81 : decode cX0_copy 81 = .ok (.invokespecial 83, 3) := dk_183 0 83 (dk_at dksX0_copy_3 10 rfl rfl)
theorem dX0_copy_84 : decode cX0_copy 84 = .ok (.athrow, 1) := dk_191 (dk_at dksX0_copy_3 13 rfl rfl)
theorem dX0_copy_85 : decode cX0_copy 85 = .ok (.aload_n 0, 1) := dk_42 (dk_at dksX0_copy_3 14 rfl rfl)
theorem dX0_copy_86 : decode cX0_copy 86 = .ok (.iload 5, 2) := dk_21 5 (dk_at dksX0_copy_3 15 rfl rfl)
theorem dX0_copy_88 : decode cX0_copy 88 = .ok (.invokevirtual 104, 3) := dk_182 0 104 (dk_at dksX0_copy_3 17 rfl rfl)
theorem dX0_copy_91 : decode cX0_copy 91 = .ok (.ireturn, 1) := dk_172 (dk_at dksX0_copy_3 20 rfl rfl)
theorem dX0_copy_92 : decode cX0_copy 92 = .ok (.astore 6, 2) := dk_58 6 (dk_at dksX0_copy_3 21 rfl rfl)
theorem dX0_copy_94 : decode cX0_copy 94 = .ok (.aload_n 0, 1) := dk_42 (dk_at dksX0_copy_3 23 rfl rfl)
theorem dX0_copy_95 : decode cX0_copy 95 = .ok (.aload 6, 2) := dk_25 6 (dk_at dksX0_copy_4 0 rfl rfl)
theorem dX0_copy_97 : decode cX0_copy 97 = .ok (.invokevirtual 108, 3) := dk_182 0 108 (dk_at dksX0_copy_4 2 rfl rfl)
theorem dX0_copy_100 : decode cX0_copy 100 = .ok (.ireturn, 1) := dk_172 (dk_at dksX0_copy_4 5 rfl rfl)
abbrev cX0_drop : ByteArray := prog_1_method_13_code
def yX0_drop : MethodName := ⟨RX0, "drop", "(I)I"⟩
def dkwX0_drop_1 : List UInt8 := [27, 1, 83, 42, 28, 182, 0, 104, 172, 77, 42, 44, 182, 0, 108, 172]
abbrev dktX0_drop_1 : List UInt8 := dkwX0_drop_1 ++ []
def dkwX0_drop_0 : List UInt8 := [27, 184, 0, 94, 154, 0, 6, 18, 100, 172, 42, 27, 182, 0, 112, 180, 0, 116, 190, 61, 42, 180, 0, 28]
abbrev dktX0_drop_0 : List UInt8 := dkwX0_drop_0 ++ dktX0_drop_1
theorem dksX0_drop_0 : cX0_drop.data.toList.drop 0 = dktX0_drop_0 := by decide +kernel
theorem dksX0_drop_1 : cX0_drop.data.toList.drop 24 = dktX0_drop_1 := dk_seg dksX0_drop_0 24 rfl rfl
theorem dX0_drop_0 : decode cX0_drop 0 = .ok (.iload_n 1, 1) := dk_27 (dk_at dksX0_drop_0 0 rfl rfl)
theorem dX0_drop_1 : decode cX0_drop 1 = .ok (.invokestatic 94, 3) := dk_184 0 94 (dk_at dksX0_drop_0 1 rfl rfl)
theorem dX0_drop_4 : decode cX0_drop 4 = .ok (.ifCond .ne 6, 3) := dk_154 0 6 (dk_at dksX0_drop_0 4 rfl rfl)
theorem dX0_drop_7 : decode cX0_drop 7 = .ok (.ldc 100, 2) := dk_18 100 (dk_at dksX0_drop_0 7 rfl rfl)
theorem dX0_drop_9 : decode cX0_drop 9 = .ok (.ireturn, 1) := dk_172 (dk_at dksX0_drop_0 9 rfl rfl)
theorem dX0_drop_10 : decode cX0_drop 10 = .ok (.aload_n 0, 1) := dk_42 (dk_at dksX0_drop_0 10 rfl rfl)
theorem dX0_drop_11 : decode cX0_drop 11 = .ok (.iload_n 1, 1) := dk_27 (dk_at dksX0_drop_0 11 rfl rfl)
theorem dX0_drop_12 : decode cX0_drop 12 = .ok (.invokevirtual 112, 3) := dk_182 0 112 (dk_at dksX0_drop_0 12 rfl rfl)
theorem dX0_drop_15 : decode cX0_drop 15 = .ok (.getfield 116, 3) := dk_180 0 116 (dk_at dksX0_drop_0 15 rfl rfl)
theorem dX0_drop_18 : decode cX0_drop 18 = .ok (.arraylength, 1) := dk_190 (dk_at dksX0_drop_0 18 rfl rfl)
theorem dX0_drop_19 : decode cX0_drop 19 = .ok (.istore_n 2, 1) := dk_61 (dk_at dksX0_drop_0 19 rfl rfl)
theorem dX0_drop_20 : decode cX0_drop 20 = .ok (.aload_n 0, 1) := dk_42 (dk_at dksX0_drop_0 20 rfl rfl)
theorem dX0_drop_21 : decode cX0_drop 21 = .ok (.getfield 28, 3) := dk_180 0 28 (dk_at dksX0_drop_0 21 rfl rfl)
theorem dX0_drop_24 : decode cX0_drop 24 = .ok (.iload_n 1, 1) := dk_27 (dk_at dksX0_drop_1 0 rfl rfl)
theorem dX0_drop_25 : decode cX0_drop 25 = .ok (.aconst_null, 1) := dk_1 (dk_at dksX0_drop_1 1 rfl rfl)
theorem dX0_drop_26 : decode cX0_drop 26 = .ok (.aastore, 1) := dk_83 (dk_at dksX0_drop_1 2 rfl rfl)
theorem dX0_drop_27 : decode cX0_drop 27 = .ok (.aload_n 0, 1) := dk_42 (dk_at dksX0_drop_1 3 rfl rfl)
theorem dX0_drop_28 : decode cX0_drop 28 = .ok (.iload_n 2, 1) := dk_28 (dk_at dksX0_drop_1 4 rfl rfl)
theorem dX0_drop_29 : decode cX0_drop 29 = .ok (.invokevirtual 104, 3) := dk_182 0 104 (dk_at dksX0_drop_1 5 rfl rfl)
theorem dX0_drop_32 : decode cX0_drop 32 = .ok (.ireturn, 1) := dk_172 (dk_at dksX0_drop_1 8 rfl rfl)
theorem dX0_drop_33 : decode cX0_drop 33 = .ok (.astore_n 2, 1) := dk_77 (dk_at dksX0_drop_1 9 rfl rfl)
theorem dX0_drop_34 : decode cX0_drop 34 = .ok (.aload_n 0, 1) := dk_42 (dk_at dksX0_drop_1 10 rfl rfl)
theorem dX0_drop_35 : decode cX0_drop 35 = .ok (.aload_n 2, 1) := dk_44 (dk_at dksX0_drop_1 11 rfl rfl)
theorem dX0_drop_36 : decode cX0_drop 36 = .ok (.invokevirtual 108, 3) := dk_182 0 108 (dk_at dksX0_drop_1 12 rfl rfl)
theorem dX0_drop_39 : decode cX0_drop 39 = .ok (.ireturn, 1) := dk_172 (dk_at dksX0_drop_1 15 rfl rfl)
abbrev cX0_feed : ByteArray := prog_1_method_14_code
def yX0_feed : MethodName := ⟨RX0, "feed", "(I)I"⟩
def dkwX0_feed_2 : List UInt8 := [180, 0, 135, 172]
abbrev dktX0_feed_2 : List UInt8 := dkwX0_feed_2 ++ []
def dkwX0_feed_1 : List UInt8 := [18, 138, 172, 42, 180, 0, 32, 42, 89, 180, 0, 135, 90, 4, 96, 181, 0, 135, 27, 145, 84, 42]
abbrev dktX0_feed_1 : List UInt8 := dkwX0_feed_1 ++ dktX0_feed_2
def dkwX0_feed_0 : List UInt8 := [27, 133, 9, 20, 0, 133, 184, 0, 86, 154, 0, 6, 18, 100, 172, 42, 180, 0, 135, 16, 110, 160, 0, 6]
abbrev dktX0_feed_0 : List UInt8 := dkwX0_feed_0 ++ dktX0_feed_1
theorem dksX0_feed_0 : cX0_feed.data.toList.drop 0 = dktX0_feed_0 := by decide +kernel
theorem dksX0_feed_1 : cX0_feed.data.toList.drop 24 = dktX0_feed_1 := dk_seg dksX0_feed_0 24 rfl rfl
theorem dksX0_feed_2 : cX0_feed.data.toList.drop 46 = dktX0_feed_2 := dk_seg dksX0_feed_1 22 rfl rfl
theorem dX0_feed_0 : decode cX0_feed 0 = .ok (.iload_n 1, 1) := dk_27 (dk_at dksX0_feed_0 0 rfl rfl)
theorem dX0_feed_1 : decode cX0_feed 1 = .ok (.i2l, 1) := dk_133 (dk_at dksX0_feed_0 1 rfl rfl)
theorem dX0_feed_2 : decode cX0_feed 2 = .ok (.lconst 0, 1) := dk_9 (dk_at dksX0_feed_0 2 rfl rfl)
theorem dX0_feed_3 : decode cX0_feed 3 = .ok (.ldc2_w 133, 3) := dk_20 0 133 (dk_at dksX0_feed_0 3 rfl rfl)
theorem dX0_feed_6 : decode cX0_feed 6 = .ok (.invokestatic 86, 3) := dk_184 0 86 (dk_at dksX0_feed_0 6 rfl rfl)
theorem dX0_feed_9 : decode cX0_feed 9 = .ok (.ifCond .ne 6, 3) := dk_154 0 6 (dk_at dksX0_feed_0 9 rfl rfl)
theorem dX0_feed_12 : decode cX0_feed 12 = .ok (.ldc 100, 2) := dk_18 100 (dk_at dksX0_feed_0 12 rfl rfl)
theorem dX0_feed_14 : decode cX0_feed 14 = .ok (.ireturn, 1) := dk_172 (dk_at dksX0_feed_0 14 rfl rfl)
theorem dX0_feed_15 : decode cX0_feed 15 = .ok (.aload_n 0, 1) := dk_42 (dk_at dksX0_feed_0 15 rfl rfl)
theorem dX0_feed_16 : decode cX0_feed 16 = .ok (.getfield 135, 3) := dk_180 0 135 (dk_at dksX0_feed_0 16 rfl rfl)
theorem dX0_feed_19 : decode cX0_feed 19 = .ok (.bipush 110, 2) := dk_16 110 (dk_at dksX0_feed_0 19 rfl rfl)
theorem dX0_feed_21 : decode cX0_feed 21 = .ok (.if_icmp .ne 6, 3) := dk_160 0 6 (dk_at dksX0_feed_0 21 rfl rfl)
theorem dX0_feed_24 : decode cX0_feed 24 = .ok (.ldc 138, 2) := dk_18 138 (dk_at dksX0_feed_1 0 rfl rfl)
theorem dX0_feed_26 : decode cX0_feed 26 = .ok (.ireturn, 1) := dk_172 (dk_at dksX0_feed_1 2 rfl rfl)
theorem dX0_feed_27 : decode cX0_feed 27 = .ok (.aload_n 0, 1) := dk_42 (dk_at dksX0_feed_1 3 rfl rfl)
theorem dX0_feed_28 : decode cX0_feed 28 = .ok (.getfield 32, 3) := dk_180 0 32 (dk_at dksX0_feed_1 4 rfl rfl)
theorem dX0_feed_31 : decode cX0_feed 31 = .ok (.aload_n 0, 1) := dk_42 (dk_at dksX0_feed_1 7 rfl rfl)
theorem dX0_feed_32 : decode cX0_feed 32 = .ok (.dup, 1) := dk_89 (dk_at dksX0_feed_1 8 rfl rfl)
theorem dX0_feed_33 : decode cX0_feed 33 = .ok (.getfield 135, 3) := dk_180 0 135 (dk_at dksX0_feed_1 9 rfl rfl)
theorem dX0_feed_36 : decode cX0_feed 36 = .ok (.dup_x1, 1) := dk_90 (dk_at dksX0_feed_1 12 rfl rfl)
theorem dX0_feed_37 : decode cX0_feed 37 = .ok (.iconst 1, 1) := dk_4 (dk_at dksX0_feed_1 13 rfl rfl)
theorem dX0_feed_38 : decode cX0_feed 38 = .ok (.iadd, 1) := dk_96 (dk_at dksX0_feed_1 14 rfl rfl)
theorem dX0_feed_39 : decode cX0_feed 39 = .ok (.putfield 135, 3) := dk_181 0 135 (dk_at dksX0_feed_1 15 rfl rfl)
theorem dX0_feed_42 : decode cX0_feed 42 = .ok (.iload_n 1, 1) := dk_27 (dk_at dksX0_feed_1 18 rfl rfl)
theorem dX0_feed_43 : decode cX0_feed 43 = .ok (.i2b, 1) := dk_145 (dk_at dksX0_feed_1 19 rfl rfl)
theorem dX0_feed_44 : decode cX0_feed 44 = .ok (.bastore, 1) := dk_84 (dk_at dksX0_feed_1 20 rfl rfl)
theorem dX0_feed_45 : decode cX0_feed 45 = .ok (.aload_n 0, 1) := dk_42 (dk_at dksX0_feed_1 21 rfl rfl)
theorem dX0_feed_46 : decode cX0_feed 46 = .ok (.getfield 135, 3) := dk_180 0 135 (dk_at dksX0_feed_2 0 rfl rfl)
theorem dX0_feed_49 : decode cX0_feed 49 = .ok (.ireturn, 1) := dk_172 (dk_at dksX0_feed_2 3 rfl rfl)
abbrev cX0_house : ByteArray := prog_1_method_15_code
def yX0_house : MethodName := ⟨RX0, "house", "()I"⟩
def dkwX0_house_2 : List UInt8 := [180, 0, 39, 43, 180, 0, 159, 182, 0, 162, 87, 42, 3, 181, 0, 166, 42, 180, 0, 39, 182, 0, 169, 172]
abbrev dktX0_house_2 : List UInt8 := dkwX0_house_2 ++ []
def dkwX0_house_1 : List UInt8 := [182, 0, 144, 167, 0, 20, 77, 42, 44, 180, 0, 149, 181, 0, 152, 18, 155, 44, 180, 0, 156, 100, 172, 42]
abbrev dktX0_house_1 : List UInt8 := dkwX0_house_1 ++ dktX0_house_2
def dkwX0_house_0 : List UInt8 := [187, 0, 139, 89, 42, 180, 0, 32, 42, 180, 0, 135, 183, 0, 141, 76, 42, 3, 181, 0, 135, 43]
abbrev dktX0_house_0 : List UInt8 := dkwX0_house_0 ++ dktX0_house_1
theorem dksX0_house_0 : cX0_house.data.toList.drop 0 = dktX0_house_0 := by decide +kernel
theorem dksX0_house_1 : cX0_house.data.toList.drop 22 = dktX0_house_1 := dk_seg dksX0_house_0 22 rfl rfl
theorem dksX0_house_2 : cX0_house.data.toList.drop 46 = dktX0_house_2 := dk_seg dksX0_house_1 24 rfl rfl
theorem dX0_house_0 : decode cX0_house 0 = .ok (.new 139, 3) := dk_187 0 139 (dk_at dksX0_house_0 0 rfl rfl)
theorem dX0_house_3 : decode cX0_house 3 = .ok (.dup, 1) := dk_89 (dk_at dksX0_house_0 3 rfl rfl)
theorem dX0_house_4 : decode cX0_house 4 = .ok (.aload_n 0, 1) := dk_42 (dk_at dksX0_house_0 4 rfl rfl)
theorem dX0_house_5 : decode cX0_house 5 = .ok (.getfield 32, 3) := dk_180 0 32 (dk_at dksX0_house_0 5 rfl rfl)
theorem dX0_house_8 : decode cX0_house 8 = .ok (.aload_n 0, 1) := dk_42 (dk_at dksX0_house_0 8 rfl rfl)
theorem dX0_house_9 : decode cX0_house 9 = .ok (.getfield 135, 3) := dk_180 0 135 (dk_at dksX0_house_0 9 rfl rfl)
theorem dX0_house_12 : decode cX0_house 12 = .ok (.invokespecial 141, 3) := dk_183 0 141 (dk_at dksX0_house_0 12 rfl rfl)
theorem dX0_house_15 : decode cX0_house 15 = .ok (.astore_n 1, 1) := dk_76 (dk_at dksX0_house_0 15 rfl rfl)
theorem dX0_house_16 : decode cX0_house 16 = .ok (.aload_n 0, 1) := dk_42 (dk_at dksX0_house_0 16 rfl rfl)
theorem dX0_house_17 : decode cX0_house 17 = .ok (.iconst 0, 1) := dk_3 (dk_at dksX0_house_0 17 rfl rfl)
theorem dX0_house_18 : decode cX0_house 18 = .ok (.putfield 135, 3) := dk_181 0 135 (dk_at dksX0_house_0 18 rfl rfl)
theorem dX0_house_21 : decode cX0_house 21 = .ok (.aload_n 1, 1) := dk_43 (dk_at dksX0_house_0 21 rfl rfl)
theorem dX0_house_22 : decode cX0_house 22 = .ok (.invokevirtual 144, 3) := dk_182 0 144 (dk_at dksX0_house_1 0 rfl rfl)
theorem dX0_house_25 : decode cX0_house 25 = .ok (.goto 20, 3) := dk_167 0 20 (dk_at dksX0_house_1 3 rfl rfl)
theorem dX0_house_28 : decode cX0_house 28 = .ok (.astore_n 2, 1) := dk_77 (dk_at dksX0_house_1 6 rfl rfl)
theorem dX0_house_29 : decode cX0_house 29 = .ok (.aload_n 0, 1) := dk_42 (dk_at dksX0_house_1 7 rfl rfl)
theorem dX0_house_30 : decode cX0_house 30 = .ok (.aload_n 2, 1) := dk_44 (dk_at dksX0_house_1 8 rfl rfl)
theorem dX0_house_31 : decode cX0_house 31 = .ok (.getfield 149, 3) := dk_180 0 149 (dk_at dksX0_house_1 9 rfl rfl)
theorem dX0_house_34 : decode cX0_house 34 = .ok (.putfield 152, 3) := dk_181 0 152 (dk_at dksX0_house_1 12 rfl rfl)
theorem dX0_house_37 : decode cX0_house 37 = .ok (.ldc 155, 2) := dk_18 155 (dk_at dksX0_house_1 15 rfl rfl)
theorem dX0_house_39 : decode cX0_house 39 = .ok (.aload_n 2, 1) := dk_44 (dk_at dksX0_house_1 17 rfl rfl)
theorem dX0_house_40 : decode cX0_house 40 = .ok (.getfield 156, 3) := dk_180 0 156 (dk_at dksX0_house_1 18 rfl rfl)
theorem dX0_house_43 : decode cX0_house 43 = .ok (.isub, 1) := dk_100 (dk_at dksX0_house_1 21 rfl rfl)
theorem dX0_house_44 : decode cX0_house 44 = .ok (.ireturn, 1) := dk_172 (dk_at dksX0_house_1 22 rfl rfl)
theorem dX0_house_45 : decode cX0_house 45 = .ok (.aload_n 0, 1) := dk_42 (dk_at dksX0_house_1 23 rfl rfl)
theorem dX0_house_46 : decode cX0_house 46 = .ok (.getfield 39, 3) := dk_180 0 39 (dk_at dksX0_house_2 0 rfl rfl)
theorem dX0_house_49 : decode cX0_house 49 = .ok (.aload_n 1, 1) := dk_43 (dk_at dksX0_house_2 3 rfl rfl)
theorem dX0_house_50 : decode cX0_house 50 = .ok (.getfield 159, 3) := dk_180 0 159 (dk_at dksX0_house_2 4 rfl rfl)
theorem dX0_house_53 : decode cX0_house 53 = .ok (.invokevirtual 162, 3) := dk_182 0 162 (dk_at dksX0_house_2 7 rfl rfl)
theorem dX0_house_56 : decode cX0_house 56 = .ok (.pop, 1) := dk_87 (dk_at dksX0_house_2 10 rfl rfl)
theorem dX0_house_57 : decode cX0_house 57 = .ok (.aload_n 0, 1) := dk_42 (dk_at dksX0_house_2 11 rfl rfl)
theorem dX0_house_58 : decode cX0_house 58 = .ok (.iconst 0, 1) := dk_3 (dk_at dksX0_house_2 12 rfl rfl)
theorem dX0_house_59 : decode cX0_house 59 = .ok (.putfield 166, 3) := dk_181 0 166 (dk_at dksX0_house_2 13 rfl rfl)
theorem dX0_house_62 : decode cX0_house 62 = .ok (.aload_n 0, 1) := dk_42 (dk_at dksX0_house_2 16 rfl rfl)
theorem dX0_house_63 : decode cX0_house 63 = .ok (.getfield 39, 3) := dk_180 0 39 (dk_at dksX0_house_2 17 rfl rfl)
theorem dX0_house_66 : decode cX0_house 66 = .ok (.invokevirtual 169, 3) := dk_182 0 169 (dk_at dksX0_house_2 20 rfl rfl)
theorem dX0_house_69 : decode cX0_house 69 = .ok (.ireturn, 1) := dk_172 (dk_at dksX0_house_2 23 rfl rfl)
abbrev cX0_dishBy : ByteArray := prog_1_method_3_code
def yX0_dishBy : MethodName := ⟨RX0, "dishBy", "(II)LDishLift$Dish;"⟩
def dkwX0_dishBy_3 : List UInt8 := [183, 0, 12, 176, 187, 0, 13, 89, 27, 183, 0, 15, 176, 187, 0, 16, 89, 27, 183, 0, 18, 176]
abbrev dktX0_dishBy_3 : List UInt8 := dkwX0_dishBy_3 ++ []
def dkwX0_dishBy_2 : List UInt8 := [187, 0, 1, 89, 27, 183, 0, 3, 176, 187, 0, 7, 89, 27, 183, 0, 9, 176, 187, 0, 10, 89, 27]
abbrev dktX0_dishBy_2 : List UInt8 := dkwX0_dishBy_2 ++ dktX0_dishBy_3
def dkwX0_dishBy_1 : List UInt8 := [170, 0, 0, 0, 0, 0, 67, 0, 0, 0, 0, 0, 0, 0, 3, 0, 0, 0, 31, 0, 0, 0, 40, 0, 0, 0, 49, 0, 0, 0, 58]
abbrev dktX0_dishBy_1 : List UInt8 := dkwX0_dishBy_1 ++ dktX0_dishBy_2
def dkwX0_dishBy_0 : List UInt8 := [26]
abbrev dktX0_dishBy_0 : List UInt8 := dkwX0_dishBy_0 ++ dktX0_dishBy_1
theorem dksX0_dishBy_0 : cX0_dishBy.data.toList.drop 0 = dktX0_dishBy_0 := by decide +kernel
theorem dksX0_dishBy_1 : cX0_dishBy.data.toList.drop 1 = dktX0_dishBy_1 := dk_seg dksX0_dishBy_0 1 rfl rfl
theorem dksX0_dishBy_2 : cX0_dishBy.data.toList.drop 32 = dktX0_dishBy_2 := dk_seg dksX0_dishBy_1 31 rfl rfl
theorem dksX0_dishBy_3 : cX0_dishBy.data.toList.drop 55 = dktX0_dishBy_3 := dk_seg dksX0_dishBy_2 23 rfl rfl
theorem dX0_dishBy_0 : decode cX0_dishBy 0 = .ok (.iload_n 0, 1) := dk_26 (dk_at dksX0_dishBy_0 0 rfl rfl)
theorem dX0_dishBy_1 : decode cX0_dishBy 1 = .ok (.tableswitch 67 0 3 #[31, 40, 49, 58], 31) := by decide +kernel
theorem dX0_dishBy_32 : decode cX0_dishBy 32 = .ok (.new 1, 3) := dk_187 0 1 (dk_at dksX0_dishBy_2 0 rfl rfl)
theorem dX0_dishBy_35 : decode cX0_dishBy 35 = .ok (.dup, 1) := dk_89 (dk_at dksX0_dishBy_2 3 rfl rfl)
theorem dX0_dishBy_36 : decode cX0_dishBy 36 = .ok (.iload_n 1, 1) := dk_27 (dk_at dksX0_dishBy_2 4 rfl rfl)
theorem dX0_dishBy_37 : decode cX0_dishBy 37 = .ok (.invokespecial 3, 3) := dk_183 0 3 (dk_at dksX0_dishBy_2 5 rfl rfl)
theorem dX0_dishBy_40 : decode cX0_dishBy 40 = .ok (.areturn, 1) := dk_176 (dk_at dksX0_dishBy_2 8 rfl rfl)
theorem dX0_dishBy_41 : decode cX0_dishBy 41 = .ok (.new 7, 3) := dk_187 0 7 (dk_at dksX0_dishBy_2 9 rfl rfl)
theorem dX0_dishBy_44 : decode cX0_dishBy 44 = .ok (.dup, 1) := dk_89 (dk_at dksX0_dishBy_2 12 rfl rfl)
theorem dX0_dishBy_45 : decode cX0_dishBy 45 = .ok (.iload_n 1, 1) := dk_27 (dk_at dksX0_dishBy_2 13 rfl rfl)
theorem dX0_dishBy_46 : decode cX0_dishBy 46 = .ok (.invokespecial 9, 3) := dk_183 0 9 (dk_at dksX0_dishBy_2 14 rfl rfl)
theorem dX0_dishBy_49 : decode cX0_dishBy 49 = .ok (.areturn, 1) := dk_176 (dk_at dksX0_dishBy_2 17 rfl rfl)
theorem dX0_dishBy_50 : decode cX0_dishBy 50 = .ok (.new 10, 3) := dk_187 0 10 (dk_at dksX0_dishBy_2 18 rfl rfl)
theorem dX0_dishBy_53 : decode cX0_dishBy 53 = .ok (.dup, 1) := dk_89 (dk_at dksX0_dishBy_2 21 rfl rfl)
theorem dX0_dishBy_54 : decode cX0_dishBy 54 = .ok (.iload_n 1, 1) := dk_27 (dk_at dksX0_dishBy_2 22 rfl rfl)
theorem dX0_dishBy_55 : decode cX0_dishBy 55 = .ok (.invokespecial 12, 3) := dk_183 0 12 (dk_at dksX0_dishBy_3 0 rfl rfl)
theorem dX0_dishBy_58 : decode cX0_dishBy 58 = .ok (.areturn, 1) := dk_176 (dk_at dksX0_dishBy_3 3 rfl rfl)
theorem dX0_dishBy_59 : decode cX0_dishBy 59 = .ok (.new 13, 3) := dk_187 0 13 (dk_at dksX0_dishBy_3 4 rfl rfl)
theorem dX0_dishBy_62 : decode cX0_dishBy 62 = .ok (.dup, 1) := dk_89 (dk_at dksX0_dishBy_3 7 rfl rfl)
theorem dX0_dishBy_63 : decode cX0_dishBy 63 = .ok (.iload_n 1, 1) := dk_27 (dk_at dksX0_dishBy_3 8 rfl rfl)
theorem dX0_dishBy_64 : decode cX0_dishBy 64 = .ok (.invokespecial 15, 3) := dk_183 0 15 (dk_at dksX0_dishBy_3 9 rfl rfl)
theorem dX0_dishBy_67 : decode cX0_dishBy 67 = .ok (.areturn, 1) := dk_176 (dk_at dksX0_dishBy_3 12 rfl rfl)
theorem dX0_dishBy_68 : decode cX0_dishBy 68 = .ok (.new 16, 3) := dk_187 0 16 (dk_at dksX0_dishBy_3 13 rfl rfl)
theorem dX0_dishBy_71 : decode cX0_dishBy 71 = .ok (.dup, 1) := dk_89 (dk_at dksX0_dishBy_3 16 rfl rfl)
theorem dX0_dishBy_72 : decode cX0_dishBy 72 = .ok (.iload_n 1, 1) := dk_27 (dk_at dksX0_dishBy_3 17 rfl rfl)
theorem dX0_dishBy_73 : decode cX0_dishBy 73 = .ok (.invokespecial 18, 3) := dk_183 0 18 (dk_at dksX0_dishBy_3 18 rfl rfl)
theorem dX0_dishBy_76 : decode cX0_dishBy 76 = .ok (.areturn, 1) := dk_176 (dk_at dksX0_dishBy_3 21 rfl rfl)
abbrev cX0_fault : ByteArray := prog_1_method_16_code
def yX0_fault : MethodName := ⟨RX0, "fault", "()I"⟩
theorem dX0_fault_0 : decode cX0_fault 0 = .ok (.aload_n 0, 1) := by decide +kernel
theorem dX0_fault_1 : decode cX0_fault 1 = .ok (.getfield 152, 3) := by decide +kernel
theorem dX0_fault_4 : decode cX0_fault 4 = .ok (.ireturn, 1) := by decide +kernel
abbrev cX0_undo : ByteArray := prog_1_method_19_code
def yX0_undo : MethodName := ⟨RX0, "undo", "()I"⟩
def dkwX0_undo_1 : List UInt8 := [42, 180, 0, 46, 42, 180, 0, 166, 50, 182, 0, 162, 87, 42, 180, 0, 166, 172]
abbrev dktX0_undo_1 : List UInt8 := dkwX0_undo_1 ++ []
def dkwX0_undo_0 : List UInt8 := [42, 180, 0, 166, 154, 0, 6, 18, 173, 172, 42, 89, 180, 0, 166, 4, 100, 181, 0, 166, 42, 180, 0, 39]
abbrev dktX0_undo_0 : List UInt8 := dkwX0_undo_0 ++ dktX0_undo_1
theorem dksX0_undo_0 : cX0_undo.data.toList.drop 0 = dktX0_undo_0 := by decide +kernel
theorem dksX0_undo_1 : cX0_undo.data.toList.drop 24 = dktX0_undo_1 := dk_seg dksX0_undo_0 24 rfl rfl
theorem dX0_undo_0 : decode cX0_undo 0 = .ok (.aload_n 0, 1) := dk_42 (dk_at dksX0_undo_0 0 rfl rfl)
theorem dX0_undo_1 : decode cX0_undo 1 = .ok (.getfield 166, 3) := dk_180 0 166 (dk_at dksX0_undo_0 1 rfl rfl)
theorem dX0_undo_4 : decode cX0_undo 4 = .ok (.ifCond .ne 6, 3) := dk_154 0 6 (dk_at dksX0_undo_0 4 rfl rfl)
theorem dX0_undo_7 : decode cX0_undo 7 = .ok (.ldc 173, 2) := dk_18 173 (dk_at dksX0_undo_0 7 rfl rfl)
theorem dX0_undo_9 : decode cX0_undo 9 = .ok (.ireturn, 1) := dk_172 (dk_at dksX0_undo_0 9 rfl rfl)
theorem dX0_undo_10 : decode cX0_undo 10 = .ok (.aload_n 0, 1) := dk_42 (dk_at dksX0_undo_0 10 rfl rfl)
theorem dX0_undo_11 : decode cX0_undo 11 = .ok (.dup, 1) := dk_89 (dk_at dksX0_undo_0 11 rfl rfl)
theorem dX0_undo_12 : decode cX0_undo 12 = .ok (.getfield 166, 3) := dk_180 0 166 (dk_at dksX0_undo_0 12 rfl rfl)
theorem dX0_undo_15 : decode cX0_undo 15 = .ok (.iconst 1, 1) := dk_4 (dk_at dksX0_undo_0 15 rfl rfl)
theorem dX0_undo_16 : decode cX0_undo 16 = .ok (.isub, 1) := dk_100 (dk_at dksX0_undo_0 16 rfl rfl)
theorem dX0_undo_17 : decode cX0_undo 17 = .ok (.putfield 166, 3) := dk_181 0 166 (dk_at dksX0_undo_0 17 rfl rfl)
theorem dX0_undo_20 : decode cX0_undo 20 = .ok (.aload_n 0, 1) := dk_42 (dk_at dksX0_undo_0 20 rfl rfl)
theorem dX0_undo_21 : decode cX0_undo 21 = .ok (.getfield 39, 3) := dk_180 0 39 (dk_at dksX0_undo_0 21 rfl rfl)
theorem dX0_undo_24 : decode cX0_undo 24 = .ok (.aload_n 0, 1) := dk_42 (dk_at dksX0_undo_1 0 rfl rfl)
theorem dX0_undo_25 : decode cX0_undo 25 = .ok (.getfield 46, 3) := dk_180 0 46 (dk_at dksX0_undo_1 1 rfl rfl)
theorem dX0_undo_28 : decode cX0_undo 28 = .ok (.aload_n 0, 1) := dk_42 (dk_at dksX0_undo_1 4 rfl rfl)
theorem dX0_undo_29 : decode cX0_undo 29 = .ok (.getfield 166, 3) := dk_180 0 166 (dk_at dksX0_undo_1 5 rfl rfl)
theorem dX0_undo_32 : decode cX0_undo 32 = .ok (.aaload, 1) := dk_50 (dk_at dksX0_undo_1 8 rfl rfl)
theorem dX0_undo_33 : decode cX0_undo 33 = .ok (.invokevirtual 162, 3) := dk_182 0 162 (dk_at dksX0_undo_1 9 rfl rfl)
theorem dX0_undo_36 : decode cX0_undo 36 = .ok (.pop, 1) := dk_87 (dk_at dksX0_undo_1 12 rfl rfl)
theorem dX0_undo_37 : decode cX0_undo 37 = .ok (.aload_n 0, 1) := dk_42 (dk_at dksX0_undo_1 13 rfl rfl)
theorem dX0_undo_38 : decode cX0_undo 38 = .ok (.getfield 166, 3) := dk_180 0 166 (dk_at dksX0_undo_1 14 rfl rfl)
theorem dX0_undo_41 : decode cX0_undo 41 = .ok (.ireturn, 1) := dk_172 (dk_at dksX0_undo_1 17 rfl rfl)
abbrev cX0_minutes : ByteArray := prog_1_method_25_code
def yX0_minutes : MethodName := ⟨RX0, "minutes", "(I)I"⟩
def dkwX0_minutes_3 : List UInt8 := [180, 0, 39, 5, 182, 0, 197, 172]
abbrev dktX0_minutes_3 : List UInt8 := dkwX0_minutes_3 ++ []
def dkwX0_minutes_2 : List UInt8 := [162, 0, 21, 42, 182, 0, 190, 42, 180, 0, 39, 182, 0, 193, 87, 132, 2, 1, 167, 255, 236, 42]
abbrev dktX0_minutes_2 : List UInt8 := dkwX0_minutes_2 ++ dktX0_minutes_3
def dkwX0_minutes_1 : List UInt8 := [172, 42, 180, 0, 39, 180, 0, 187, 27, 96, 17, 3, 231, 164, 0, 6, 18, 138, 172, 3, 61, 28, 27]
abbrev dktX0_minutes_1 : List UInt8 := dkwX0_minutes_1 ++ dktX0_minutes_2
def dkwX0_minutes_0 : List UInt8 := [42, 182, 0, 181, 154, 0, 6, 18, 173, 172, 27, 133, 10, 20, 0, 185, 184, 0, 86, 154, 0, 6, 18, 100]
abbrev dktX0_minutes_0 : List UInt8 := dkwX0_minutes_0 ++ dktX0_minutes_1
theorem dksX0_minutes_0 : cX0_minutes.data.toList.drop 0 = dktX0_minutes_0 := by decide +kernel
theorem dksX0_minutes_1 : cX0_minutes.data.toList.drop 24 = dktX0_minutes_1 := dk_seg dksX0_minutes_0 24 rfl rfl
theorem dksX0_minutes_2 : cX0_minutes.data.toList.drop 47 = dktX0_minutes_2 := dk_seg dksX0_minutes_1 23 rfl rfl
theorem dksX0_minutes_3 : cX0_minutes.data.toList.drop 69 = dktX0_minutes_3 := dk_seg dksX0_minutes_2 22 rfl rfl
theorem dX0_minutes_0 : decode cX0_minutes 0 = .ok (.aload_n 0, 1) := dk_42 (dk_at dksX0_minutes_0 0 rfl rfl)
theorem dX0_minutes_1 : decode cX0_minutes 1 = .ok (.invokevirtual 181, 3) := dk_182 0 181 (dk_at dksX0_minutes_0 1 rfl rfl)
theorem dX0_minutes_4 : decode cX0_minutes 4 = .ok (.ifCond .ne 6, 3) := dk_154 0 6 (dk_at dksX0_minutes_0 4 rfl rfl)
theorem dX0_minutes_7 : decode cX0_minutes 7 = .ok (.ldc 173, 2) := dk_18 173 (dk_at dksX0_minutes_0 7 rfl rfl)
theorem dX0_minutes_9 : decode cX0_minutes 9 = .ok (.ireturn, 1) := dk_172 (dk_at dksX0_minutes_0 9 rfl rfl)
theorem dX0_minutes_10 : decode cX0_minutes 10 = .ok (.iload_n 1, 1) := dk_27 (dk_at dksX0_minutes_0 10 rfl rfl)
theorem dX0_minutes_11 : decode cX0_minutes 11 = .ok (.i2l, 1) := dk_133 (dk_at dksX0_minutes_0 11 rfl rfl)
theorem dX0_minutes_12 : decode cX0_minutes 12 = .ok (.lconst 1, 1) := dk_10 (dk_at dksX0_minutes_0 12 rfl rfl)
theorem dX0_minutes_13 : decode cX0_minutes 13 = .ok (.ldc2_w 185, 3) := dk_20 0 185 (dk_at dksX0_minutes_0 13 rfl rfl)
theorem dX0_minutes_16 : decode cX0_minutes 16 = .ok (.invokestatic 86, 3) := dk_184 0 86 (dk_at dksX0_minutes_0 16 rfl rfl)
theorem dX0_minutes_19 : decode cX0_minutes 19 = .ok (.ifCond .ne 6, 3) := dk_154 0 6 (dk_at dksX0_minutes_0 19 rfl rfl)
theorem dX0_minutes_22 : decode cX0_minutes 22 = .ok (.ldc 100, 2) := dk_18 100 (dk_at dksX0_minutes_0 22 rfl rfl)
theorem dX0_minutes_24 : decode cX0_minutes 24 = .ok (.ireturn, 1) := dk_172 (dk_at dksX0_minutes_1 0 rfl rfl)
theorem dX0_minutes_25 : decode cX0_minutes 25 = .ok (.aload_n 0, 1) := dk_42 (dk_at dksX0_minutes_1 1 rfl rfl)
theorem dX0_minutes_26 : decode cX0_minutes 26 = .ok (.getfield 39, 3) := dk_180 0 39 (dk_at dksX0_minutes_1 2 rfl rfl)
theorem dX0_minutes_29 : decode cX0_minutes 29 = .ok (.getfield 187, 3) := dk_180 0 187 (dk_at dksX0_minutes_1 5 rfl rfl)
theorem dX0_minutes_32 : decode cX0_minutes 32 = .ok (.iload_n 1, 1) := dk_27 (dk_at dksX0_minutes_1 8 rfl rfl)
theorem dX0_minutes_33 : decode cX0_minutes 33 = .ok (.iadd, 1) := dk_96 (dk_at dksX0_minutes_1 9 rfl rfl)
theorem dX0_minutes_34 : decode cX0_minutes 34 = .ok (.sipush 999, 3) := dk_17 3 231 (dk_at dksX0_minutes_1 10 rfl rfl)
theorem dX0_minutes_37 : decode cX0_minutes 37 = .ok (.if_icmp .le 6, 3) := dk_164 0 6 (dk_at dksX0_minutes_1 13 rfl rfl)
theorem dX0_minutes_40 : decode cX0_minutes 40 = .ok (.ldc 138, 2) := dk_18 138 (dk_at dksX0_minutes_1 16 rfl rfl)
theorem dX0_minutes_42 : decode cX0_minutes 42 = .ok (.ireturn, 1) := dk_172 (dk_at dksX0_minutes_1 18 rfl rfl)
theorem dX0_minutes_43 : decode cX0_minutes 43 = .ok (.iconst 0, 1) := dk_3 (dk_at dksX0_minutes_1 19 rfl rfl)
theorem dX0_minutes_44 : decode cX0_minutes 44 = .ok (.istore_n 2, 1) := dk_61 (dk_at dksX0_minutes_1 20 rfl rfl)
theorem dX0_minutes_45 : decode cX0_minutes 45 = .ok (.iload_n 2, 1) := dk_28 (dk_at dksX0_minutes_1 21 rfl rfl)
theorem dX0_minutes_46 : decode cX0_minutes 46 = .ok (.iload_n 1, 1) := dk_27 (dk_at dksX0_minutes_1 22 rfl rfl)
theorem dX0_minutes_47 : decode cX0_minutes 47 = .ok (.if_icmp .ge 21, 3) := dk_162 0 21 (dk_at dksX0_minutes_2 0 rfl rfl)
theorem dX0_minutes_50 : decode cX0_minutes 50 = .ok (.aload_n 0, 1) := dk_42 (dk_at dksX0_minutes_2 3 rfl rfl)
theorem dX0_minutes_51 : decode cX0_minutes 51 = .ok (.invokevirtual 190, 3) := dk_182 0 190 (dk_at dksX0_minutes_2 4 rfl rfl)
theorem dX0_minutes_54 : decode cX0_minutes 54 = .ok (.aload_n 0, 1) := dk_42 (dk_at dksX0_minutes_2 7 rfl rfl)
theorem dX0_minutes_55 : decode cX0_minutes 55 = .ok (.getfield 39, 3) := dk_180 0 39 (dk_at dksX0_minutes_2 8 rfl rfl)
theorem dX0_minutes_58 : decode cX0_minutes 58 = .ok (.invokevirtual 193, 3) := dk_182 0 193 (dk_at dksX0_minutes_2 11 rfl rfl)
theorem dX0_minutes_61 : decode cX0_minutes 61 = .ok (.pop, 1) := dk_87 (dk_at dksX0_minutes_2 14 rfl rfl)
theorem dX0_minutes_62 : decode cX0_minutes 62 = .ok (.iinc 2 1, 3) := dk_132 2 1 (dk_at dksX0_minutes_2 15 rfl rfl)
theorem dX0_minutes_65 : decode cX0_minutes 65 = .ok (.goto (-20), 3) := dk_167 255 236 (dk_at dksX0_minutes_2 18 rfl rfl)
theorem dX0_minutes_68 : decode cX0_minutes 68 = .ok (.aload_n 0, 1) := dk_42 (dk_at dksX0_minutes_2 21 rfl rfl)
theorem dX0_minutes_69 : decode cX0_minutes 69 = .ok (.getfield 39, 3) := dk_180 0 39 (dk_at dksX0_minutes_3 0 rfl rfl)
theorem dX0_minutes_72 : decode cX0_minutes 72 = .ok (.iconst 2, 1) := dk_5 (dk_at dksX0_minutes_3 3 rfl rfl)
theorem dX0_minutes_73 : decode cX0_minutes 73 = .ok (.invokevirtual 197, 3) := dk_182 0 197 (dk_at dksX0_minutes_3 4 rfl rfl)
theorem dX0_minutes_76 : decode cX0_minutes 76 = .ok (.ireturn, 1) := dk_172 (dk_at dksX0_minutes_3 7 rfl rfl)
abbrev cX0_isHouse : ByteArray := prog_1_method_20_code
def yX0_isHouse : MethodName := ⟨RX0, "isHouse", "()Z"⟩
def dkwX0_isHouse_0 : List UInt8 := [42, 180, 0, 39, 180, 0, 174, 158, 0, 7, 4, 167, 0, 4, 3, 172]
abbrev dktX0_isHouse_0 : List UInt8 := dkwX0_isHouse_0 ++ []
theorem dksX0_isHouse_0 : cX0_isHouse.data.toList.drop 0 = dktX0_isHouse_0 := by decide +kernel
theorem dX0_isHouse_0 : decode cX0_isHouse 0 = .ok (.aload_n 0, 1) := dk_42 (dk_at dksX0_isHouse_0 0 rfl rfl)
theorem dX0_isHouse_1 : decode cX0_isHouse 1 = .ok (.getfield 39, 3) := dk_180 0 39 (dk_at dksX0_isHouse_0 1 rfl rfl)
theorem dX0_isHouse_4 : decode cX0_isHouse 4 = .ok (.getfield 174, 3) := dk_180 0 174 (dk_at dksX0_isHouse_0 4 rfl rfl)
theorem dX0_isHouse_7 : decode cX0_isHouse 7 = .ok (.ifCond .le 7, 3) := dk_158 0 7 (dk_at dksX0_isHouse_0 7 rfl rfl)
theorem dX0_isHouse_10 : decode cX0_isHouse 10 = .ok (.iconst 1, 1) := dk_4 (dk_at dksX0_isHouse_0 10 rfl rfl)
theorem dX0_isHouse_11 : decode cX0_isHouse 11 = .ok (.goto 4, 3) := dk_167 0 4 (dk_at dksX0_isHouse_0 11 rfl rfl)
theorem dX0_isHouse_14 : decode cX0_isHouse 14 = .ok (.iconst 0, 1) := dk_3 (dk_at dksX0_isHouse_0 14 rfl rfl)
theorem dX0_isHouse_15 : decode cX0_isHouse 15 = .ok (.ireturn, 1) := dk_172 (dk_at dksX0_isHouse_0 15 rfl rfl)
abbrev cX0_keep : ByteArray := prog_1_method_18_code
def yX0_keep : MethodName := ⟨RX0, "keep", "()V"⟩
def dkwX0_keep_4 : List UInt8 := [180, 0, 166, 50, 42, 180, 0, 39, 182, 0, 162, 87, 42, 89, 180, 0, 166, 4, 96, 181, 0, 166, 177]
abbrev dktX0_keep_4 : List UInt8 := dkwX0_keep_4 ++ []
def dkwX0_keep_3 : List UInt8 := [199, 0, 19, 42, 180, 0, 46, 42, 180, 0, 166, 187, 0, 36, 89, 183, 0, 38, 83, 42, 180, 0, 46, 42]
abbrev dktX0_keep_3 : List UInt8 := dkwX0_keep_3 ++ dktX0_keep_4
def dkwX0_keep_2 : List UInt8 := [16, 23, 43, 83, 42, 89, 180, 0, 166, 4, 100, 181, 0, 166, 42, 180, 0, 46, 42, 180, 0, 166, 50]
abbrev dktX0_keep_2 : List UInt8 := dkwX0_keep_2 ++ dktX0_keep_3
def dkwX0_keep_1 : List UInt8 := [42, 180, 0, 46, 28, 4, 100, 42, 180, 0, 46, 28, 50, 83, 132, 2, 1, 167, 255, 233, 42, 180, 0, 46]
abbrev dktX0_keep_1 : List UInt8 := dkwX0_keep_1 ++ dktX0_keep_2
def dkwX0_keep_0 : List UInt8 := [42, 180, 0, 166, 16, 24, 160, 0, 56, 42, 180, 0, 46, 3, 50, 76, 4, 61, 28, 16, 24, 162, 0, 23]
abbrev dktX0_keep_0 : List UInt8 := dkwX0_keep_0 ++ dktX0_keep_1
theorem dksX0_keep_0 : cX0_keep.data.toList.drop 0 = dktX0_keep_0 := by decide +kernel
theorem dksX0_keep_1 : cX0_keep.data.toList.drop 24 = dktX0_keep_1 := dk_seg dksX0_keep_0 24 rfl rfl
theorem dksX0_keep_2 : cX0_keep.data.toList.drop 48 = dktX0_keep_2 := dk_seg dksX0_keep_1 24 rfl rfl
theorem dksX0_keep_3 : cX0_keep.data.toList.drop 71 = dktX0_keep_3 := dk_seg dksX0_keep_2 23 rfl rfl
theorem dksX0_keep_4 : cX0_keep.data.toList.drop 95 = dktX0_keep_4 := dk_seg dksX0_keep_3 24 rfl rfl
theorem dX0_keep_0 : decode cX0_keep 0 = .ok (.aload_n 0, 1) := dk_42 (dk_at dksX0_keep_0 0 rfl rfl)
theorem dX0_keep_1 : decode cX0_keep 1 = .ok (.getfield 166, 3) := dk_180 0 166 (dk_at dksX0_keep_0 1 rfl rfl)
theorem dX0_keep_4 : decode cX0_keep 4 = .ok (.bipush 24, 2) := dk_16 24 (dk_at dksX0_keep_0 4 rfl rfl)
theorem dX0_keep_6 : decode cX0_keep 6 = .ok (.if_icmp .ne 56, 3) := dk_160 0 56 (dk_at dksX0_keep_0 6 rfl rfl)
theorem dX0_keep_9 : decode cX0_keep 9 = .ok (.aload_n 0, 1) := dk_42 (dk_at dksX0_keep_0 9 rfl rfl)
theorem dX0_keep_10 : decode cX0_keep 10 = .ok (.getfield 46, 3) := dk_180 0 46 (dk_at dksX0_keep_0 10 rfl rfl)
theorem dX0_keep_13 : decode cX0_keep 13 = .ok (.iconst 0, 1) := dk_3 (dk_at dksX0_keep_0 13 rfl rfl)
theorem dX0_keep_14 : decode cX0_keep 14 = .ok (.aaload, 1) := dk_50 (dk_at dksX0_keep_0 14 rfl rfl)
theorem dX0_keep_15 : decode cX0_keep 15 = .ok (.astore_n 1, 1) := dk_76 (dk_at dksX0_keep_0 15 rfl rfl)
theorem dX0_keep_16 : decode cX0_keep 16 = .ok (.iconst 1, 1) := dk_4 (dk_at dksX0_keep_0 16 rfl rfl)
theorem dX0_keep_17 : decode cX0_keep 17 = .ok (.istore_n 2, 1) := dk_61 (dk_at dksX0_keep_0 17 rfl rfl)
theorem dX0_keep_18 : decode cX0_keep 18 = .ok (.iload_n 2, 1) := dk_28 (dk_at dksX0_keep_0 18 rfl rfl)
theorem dX0_keep_19 : decode cX0_keep 19 = .ok (.bipush 24, 2) := dk_16 24 (dk_at dksX0_keep_0 19 rfl rfl)
theorem dX0_keep_21 : decode cX0_keep 21 = .ok (.if_icmp .ge 23, 3) := dk_162 0 23 (dk_at dksX0_keep_0 21 rfl rfl)
theorem dX0_keep_24 : decode cX0_keep 24 = .ok (.aload_n 0, 1) := dk_42 (dk_at dksX0_keep_1 0 rfl rfl)
theorem dX0_keep_25 : decode cX0_keep 25 = .ok (.getfield 46, 3) := dk_180 0 46 (dk_at dksX0_keep_1 1 rfl rfl)
theorem dX0_keep_28 : decode cX0_keep 28 = .ok (.iload_n 2, 1) := dk_28 (dk_at dksX0_keep_1 4 rfl rfl)
theorem dX0_keep_29 : decode cX0_keep 29 = .ok (.iconst 1, 1) := dk_4 (dk_at dksX0_keep_1 5 rfl rfl)
theorem dX0_keep_30 : decode cX0_keep 30 = .ok (.isub, 1) := dk_100 (dk_at dksX0_keep_1 6 rfl rfl)
theorem dX0_keep_31 : decode cX0_keep 31 = .ok (.aload_n 0, 1) := dk_42 (dk_at dksX0_keep_1 7 rfl rfl)
theorem dX0_keep_32 : decode cX0_keep 32 = .ok (.getfield 46, 3) := dk_180 0 46 (dk_at dksX0_keep_1 8 rfl rfl)
theorem dX0_keep_35 : decode cX0_keep 35 = .ok (.iload_n 2, 1) := dk_28 (dk_at dksX0_keep_1 11 rfl rfl)
theorem dX0_keep_36 : decode cX0_keep 36 = .ok (.aaload, 1) := dk_50 (dk_at dksX0_keep_1 12 rfl rfl)
theorem dX0_keep_37 : decode cX0_keep 37 = .ok (.aastore, 1) := dk_83 (dk_at dksX0_keep_1 13 rfl rfl)
theorem dX0_keep_38 : decode cX0_keep 38 = .ok (.iinc 2 1, 3) := dk_132 2 1 (dk_at dksX0_keep_1 14 rfl rfl)
theorem dX0_keep_41 : decode cX0_keep 41 = .ok (.goto (-23), 3) := dk_167 255 233 (dk_at dksX0_keep_1 17 rfl rfl)
theorem dX0_keep_44 : decode cX0_keep 44 = .ok (.aload_n 0, 1) := dk_42 (dk_at dksX0_keep_1 20 rfl rfl)
theorem dX0_keep_45 : decode cX0_keep 45 = .ok (.getfield 46, 3) := dk_180 0 46 (dk_at dksX0_keep_1 21 rfl rfl)
theorem dX0_keep_48 : decode cX0_keep 48 = .ok (.bipush 23, 2) := dk_16 23 (dk_at dksX0_keep_2 0 rfl rfl)
theorem dX0_keep_50 : decode cX0_keep 50 = .ok (.aload_n 1, 1) := dk_43 (dk_at dksX0_keep_2 2 rfl rfl)
theorem dX0_keep_51 : decode cX0_keep 51 = .ok (.aastore, 1) := dk_83 (dk_at dksX0_keep_2 3 rfl rfl)
theorem dX0_keep_52 : decode cX0_keep 52 = .ok (.aload_n 0, 1) := dk_42 (dk_at dksX0_keep_2 4 rfl rfl)
theorem dX0_keep_53 : decode cX0_keep 53 = .ok (.dup, 1) := dk_89 (dk_at dksX0_keep_2 5 rfl rfl)
theorem dX0_keep_54 : decode cX0_keep 54 = .ok (.getfield 166, 3) := dk_180 0 166 (dk_at dksX0_keep_2 6 rfl rfl)
theorem dX0_keep_57 : decode cX0_keep 57 = .ok (.iconst 1, 1) := dk_4 (dk_at dksX0_keep_2 9 rfl rfl)
theorem dX0_keep_58 : decode cX0_keep 58 = .ok (.isub, 1) := dk_100 (dk_at dksX0_keep_2 10 rfl rfl)
theorem dX0_keep_59 : decode cX0_keep 59 = .ok (.putfield 166, 3) := dk_181 0 166 (dk_at dksX0_keep_2 11 rfl rfl)
theorem dX0_keep_62 : decode cX0_keep 62 = .ok (.aload_n 0, 1) := dk_42 (dk_at dksX0_keep_2 14 rfl rfl)
theorem dX0_keep_63 : decode cX0_keep 63 = .ok (.getfield 46, 3) := dk_180 0 46 (dk_at dksX0_keep_2 15 rfl rfl)
theorem dX0_keep_66 : decode cX0_keep 66 = .ok (.aload_n 0, 1) := dk_42 (dk_at dksX0_keep_2 18 rfl rfl)
theorem dX0_keep_67 : decode cX0_keep 67 = .ok (.getfield 166, 3) := dk_180 0 166 (dk_at dksX0_keep_2 19 rfl rfl)
theorem dX0_keep_70 : decode cX0_keep 70 = .ok (.aaload, 1) := dk_50 (dk_at dksX0_keep_2 22 rfl rfl)
theorem dX0_keep_71 : decode cX0_keep 71 = .ok (.ifnonnull 19, 3) := dk_199 0 19 (dk_at dksX0_keep_3 0 rfl rfl)
theorem dX0_keep_74 : decode cX0_keep 74 = .ok (.aload_n 0, 1) := dk_42 (dk_at dksX0_keep_3 3 rfl rfl)
theorem dX0_keep_75 : decode cX0_keep 75 = .ok (.getfield 46, 3) := dk_180 0 46 (dk_at dksX0_keep_3 4 rfl rfl)
theorem dX0_keep_78 : decode cX0_keep 78 = .ok (.aload_n 0, 1) := dk_42 (dk_at dksX0_keep_3 7 rfl rfl)
theorem dX0_keep_79 : decode cX0_keep 79 = .ok (.getfield 166, 3) := dk_180 0 166 (dk_at dksX0_keep_3 8 rfl rfl)
theorem dX0_keep_82 : decode cX0_keep 82 = .ok (.new 36, 3) := dk_187 0 36 (dk_at dksX0_keep_3 11 rfl rfl)
theorem dX0_keep_85 : decode cX0_keep 85 = .ok (.dup, 1) := dk_89 (dk_at dksX0_keep_3 14 rfl rfl)
theorem dX0_keep_86 : decode cX0_keep 86 = .ok (.invokespecial 38, 3) := dk_183 0 38 (dk_at dksX0_keep_3 15 rfl rfl)
theorem dX0_keep_89 : decode cX0_keep 89 = .ok (.aastore, 1) := dk_83 (dk_at dksX0_keep_3 18 rfl rfl)
theorem dX0_keep_90 : decode cX0_keep 90 = .ok (.aload_n 0, 1) := dk_42 (dk_at dksX0_keep_3 19 rfl rfl)
theorem dX0_keep_91 : decode cX0_keep 91 = .ok (.getfield 46, 3) := dk_180 0 46 (dk_at dksX0_keep_3 20 rfl rfl)
theorem dX0_keep_94 : decode cX0_keep 94 = .ok (.aload_n 0, 1) := dk_42 (dk_at dksX0_keep_3 23 rfl rfl)
theorem dX0_keep_95 : decode cX0_keep 95 = .ok (.getfield 166, 3) := dk_180 0 166 (dk_at dksX0_keep_4 0 rfl rfl)
theorem dX0_keep_98 : decode cX0_keep 98 = .ok (.aaload, 1) := dk_50 (dk_at dksX0_keep_4 3 rfl rfl)
theorem dX0_keep_99 : decode cX0_keep 99 = .ok (.aload_n 0, 1) := dk_42 (dk_at dksX0_keep_4 4 rfl rfl)
theorem dX0_keep_100 : decode cX0_keep 100 = .ok (.getfield 39, 3) := dk_180 0 39 (dk_at dksX0_keep_4 5 rfl rfl)
theorem dX0_keep_103 : decode cX0_keep 103 = .ok (.invokevirtual 162, 3) := dk_182 0 162 (dk_at dksX0_keep_4 8 rfl rfl)
theorem dX0_keep_106 : decode cX0_keep 106 = .ok (.pop, 1) := dk_87 (dk_at dksX0_keep_4 11 rfl rfl)
theorem dX0_keep_107 : decode cX0_keep 107 = .ok (.aload_n 0, 1) := dk_42 (dk_at dksX0_keep_4 12 rfl rfl)
theorem dX0_keep_108 : decode cX0_keep 108 = .ok (.dup, 1) := dk_89 (dk_at dksX0_keep_4 13 rfl rfl)
theorem dX0_keep_109 : decode cX0_keep 109 = .ok (.getfield 166, 3) := dk_180 0 166 (dk_at dksX0_keep_4 14 rfl rfl)
theorem dX0_keep_112 : decode cX0_keep 112 = .ok (.iconst 1, 1) := dk_4 (dk_at dksX0_keep_4 17 rfl rfl)
theorem dX0_keep_113 : decode cX0_keep 113 = .ok (.iadd, 1) := dk_96 (dk_at dksX0_keep_4 18 rfl rfl)
theorem dX0_keep_114 : decode cX0_keep 114 = .ok (.putfield 166, 3) := dk_181 0 166 (dk_at dksX0_keep_4 19 rfl rfl)
theorem dX0_keep_117 : decode cX0_keep 117 = .ok (.return_, 1) := dk_177 (dk_at dksX0_keep_4 22 rfl rfl)
abbrev cX0_pull : ByteArray := prog_1_method_26_code
def yX0_pull : MethodName := ⟨RX0, "pull", "(I)I"⟩
def dkwX0_pull_1 : List UInt8 := [172, 42, 182, 0, 190, 42, 180, 0, 39, 180, 0, 203, 61, 42, 180, 0, 39, 27, 181, 0, 203, 28, 172]
abbrev dktX0_pull_1 : List UInt8 := dkwX0_pull_1 ++ []
def dkwX0_pull_0 : List UInt8 := [42, 27, 182, 0, 200, 154, 0, 6, 18, 100, 172, 42, 180, 0, 39, 180, 0, 203, 27, 160, 0, 6, 18, 173]
abbrev dktX0_pull_0 : List UInt8 := dkwX0_pull_0 ++ dktX0_pull_1
theorem dksX0_pull_0 : cX0_pull.data.toList.drop 0 = dktX0_pull_0 := by decide +kernel
theorem dksX0_pull_1 : cX0_pull.data.toList.drop 24 = dktX0_pull_1 := dk_seg dksX0_pull_0 24 rfl rfl
theorem dX0_pull_0 : decode cX0_pull 0 = .ok (.aload_n 0, 1) := dk_42 (dk_at dksX0_pull_0 0 rfl rfl)
theorem dX0_pull_1 : decode cX0_pull 1 = .ok (.iload_n 1, 1) := dk_27 (dk_at dksX0_pull_0 1 rfl rfl)
theorem dX0_pull_2 : decode cX0_pull 2 = .ok (.invokevirtual 200, 3) := dk_182 0 200 (dk_at dksX0_pull_0 2 rfl rfl)
theorem dX0_pull_5 : decode cX0_pull 5 = .ok (.ifCond .ne 6, 3) := dk_154 0 6 (dk_at dksX0_pull_0 5 rfl rfl)
theorem dX0_pull_8 : decode cX0_pull 8 = .ok (.ldc 100, 2) := dk_18 100 (dk_at dksX0_pull_0 8 rfl rfl)
theorem dX0_pull_10 : decode cX0_pull 10 = .ok (.ireturn, 1) := dk_172 (dk_at dksX0_pull_0 10 rfl rfl)
theorem dX0_pull_11 : decode cX0_pull 11 = .ok (.aload_n 0, 1) := dk_42 (dk_at dksX0_pull_0 11 rfl rfl)
theorem dX0_pull_12 : decode cX0_pull 12 = .ok (.getfield 39, 3) := dk_180 0 39 (dk_at dksX0_pull_0 12 rfl rfl)
theorem dX0_pull_15 : decode cX0_pull 15 = .ok (.getfield 203, 3) := dk_180 0 203 (dk_at dksX0_pull_0 15 rfl rfl)
theorem dX0_pull_18 : decode cX0_pull 18 = .ok (.iload_n 1, 1) := dk_27 (dk_at dksX0_pull_0 18 rfl rfl)
theorem dX0_pull_19 : decode cX0_pull 19 = .ok (.if_icmp .ne 6, 3) := dk_160 0 6 (dk_at dksX0_pull_0 19 rfl rfl)
theorem dX0_pull_22 : decode cX0_pull 22 = .ok (.ldc 173, 2) := dk_18 173 (dk_at dksX0_pull_0 22 rfl rfl)
theorem dX0_pull_24 : decode cX0_pull 24 = .ok (.ireturn, 1) := dk_172 (dk_at dksX0_pull_1 0 rfl rfl)
theorem dX0_pull_25 : decode cX0_pull 25 = .ok (.aload_n 0, 1) := dk_42 (dk_at dksX0_pull_1 1 rfl rfl)
theorem dX0_pull_26 : decode cX0_pull 26 = .ok (.invokevirtual 190, 3) := dk_182 0 190 (dk_at dksX0_pull_1 2 rfl rfl)
theorem dX0_pull_29 : decode cX0_pull 29 = .ok (.aload_n 0, 1) := dk_42 (dk_at dksX0_pull_1 5 rfl rfl)
theorem dX0_pull_30 : decode cX0_pull 30 = .ok (.getfield 39, 3) := dk_180 0 39 (dk_at dksX0_pull_1 6 rfl rfl)
theorem dX0_pull_33 : decode cX0_pull 33 = .ok (.getfield 203, 3) := dk_180 0 203 (dk_at dksX0_pull_1 9 rfl rfl)
theorem dX0_pull_36 : decode cX0_pull 36 = .ok (.istore_n 2, 1) := dk_61 (dk_at dksX0_pull_1 12 rfl rfl)
theorem dX0_pull_37 : decode cX0_pull 37 = .ok (.aload_n 0, 1) := dk_42 (dk_at dksX0_pull_1 13 rfl rfl)
theorem dX0_pull_38 : decode cX0_pull 38 = .ok (.getfield 39, 3) := dk_180 0 39 (dk_at dksX0_pull_1 14 rfl rfl)
theorem dX0_pull_41 : decode cX0_pull 41 = .ok (.iload_n 1, 1) := dk_27 (dk_at dksX0_pull_1 17 rfl rfl)
theorem dX0_pull_42 : decode cX0_pull 42 = .ok (.putfield 203, 3) := dk_181 0 203 (dk_at dksX0_pull_1 18 rfl rfl)
theorem dX0_pull_45 : decode cX0_pull 45 = .ok (.iload_n 2, 1) := dk_28 (dk_at dksX0_pull_1 21 rfl rfl)
theorem dX0_pull_46 : decode cX0_pull 46 = .ok (.ireturn, 1) := dk_172 (dk_at dksX0_pull_1 22 rfl rfl)
abbrev cX0_isFloor : ByteArray := prog_1_method_22_code
def yX0_isFloor : MethodName := ⟨RX0, "isFloor", "(I)Z"⟩
def dkwX0_isFloor_0 : List UInt8 := [27, 133, 9, 42, 180, 0, 39, 180, 0, 174, 4, 100, 133, 184, 0, 86, 172]
abbrev dktX0_isFloor_0 : List UInt8 := dkwX0_isFloor_0 ++ []
theorem dksX0_isFloor_0 : cX0_isFloor.data.toList.drop 0 = dktX0_isFloor_0 := by decide +kernel
theorem dX0_isFloor_0 : decode cX0_isFloor 0 = .ok (.iload_n 1, 1) := dk_27 (dk_at dksX0_isFloor_0 0 rfl rfl)
theorem dX0_isFloor_1 : decode cX0_isFloor 1 = .ok (.i2l, 1) := dk_133 (dk_at dksX0_isFloor_0 1 rfl rfl)
theorem dX0_isFloor_2 : decode cX0_isFloor 2 = .ok (.lconst 0, 1) := dk_9 (dk_at dksX0_isFloor_0 2 rfl rfl)
theorem dX0_isFloor_3 : decode cX0_isFloor 3 = .ok (.aload_n 0, 1) := dk_42 (dk_at dksX0_isFloor_0 3 rfl rfl)
theorem dX0_isFloor_4 : decode cX0_isFloor 4 = .ok (.getfield 39, 3) := dk_180 0 39 (dk_at dksX0_isFloor_0 4 rfl rfl)
theorem dX0_isFloor_7 : decode cX0_isFloor 7 = .ok (.getfield 174, 3) := dk_180 0 174 (dk_at dksX0_isFloor_0 7 rfl rfl)
theorem dX0_isFloor_10 : decode cX0_isFloor 10 = .ok (.iconst 1, 1) := dk_4 (dk_at dksX0_isFloor_0 10 rfl rfl)
theorem dX0_isFloor_11 : decode cX0_isFloor 11 = .ok (.isub, 1) := dk_100 (dk_at dksX0_isFloor_0 11 rfl rfl)
theorem dX0_isFloor_12 : decode cX0_isFloor 12 = .ok (.i2l, 1) := dk_133 (dk_at dksX0_isFloor_0 12 rfl rfl)
theorem dX0_isFloor_13 : decode cX0_isFloor 13 = .ok (.invokestatic 86, 3) := dk_184 0 86 (dk_at dksX0_isFloor_0 13 rfl rfl)
theorem dX0_isFloor_16 : decode cX0_isFloor 16 = .ok (.ireturn, 1) := dk_172 (dk_at dksX0_isFloor_0 16 rfl rfl)
abbrev cX0_rope : ByteArray := prog_1_method_27_code
def yX0_rope : MethodName := ⟨RX0, "rope", "(I)I"⟩
def dkwX0_rope_1 : List UInt8 := [172, 42, 182, 0, 190, 42, 180, 0, 39, 180, 0, 206, 61, 42, 180, 0, 39, 27, 181, 0, 206, 28, 172]
abbrev dktX0_rope_1 : List UInt8 := dkwX0_rope_1 ++ []
def dkwX0_rope_0 : List UInt8 := [42, 182, 0, 181, 154, 0, 6, 18, 173, 172, 27, 133, 10, 20, 0, 179, 184, 0, 86, 154, 0, 6, 18, 100]
abbrev dktX0_rope_0 : List UInt8 := dkwX0_rope_0 ++ dktX0_rope_1
theorem dksX0_rope_0 : cX0_rope.data.toList.drop 0 = dktX0_rope_0 := by decide +kernel
theorem dksX0_rope_1 : cX0_rope.data.toList.drop 24 = dktX0_rope_1 := dk_seg dksX0_rope_0 24 rfl rfl
theorem dX0_rope_0 : decode cX0_rope 0 = .ok (.aload_n 0, 1) := dk_42 (dk_at dksX0_rope_0 0 rfl rfl)
theorem dX0_rope_1 : decode cX0_rope 1 = .ok (.invokevirtual 181, 3) := dk_182 0 181 (dk_at dksX0_rope_0 1 rfl rfl)
theorem dX0_rope_4 : decode cX0_rope 4 = .ok (.ifCond .ne 6, 3) := dk_154 0 6 (dk_at dksX0_rope_0 4 rfl rfl)
theorem dX0_rope_7 : decode cX0_rope 7 = .ok (.ldc 173, 2) := dk_18 173 (dk_at dksX0_rope_0 7 rfl rfl)
theorem dX0_rope_9 : decode cX0_rope 9 = .ok (.ireturn, 1) := dk_172 (dk_at dksX0_rope_0 9 rfl rfl)
theorem dX0_rope_10 : decode cX0_rope 10 = .ok (.iload_n 1, 1) := dk_27 (dk_at dksX0_rope_0 10 rfl rfl)
theorem dX0_rope_11 : decode cX0_rope 11 = .ok (.i2l, 1) := dk_133 (dk_at dksX0_rope_0 11 rfl rfl)
theorem dX0_rope_12 : decode cX0_rope 12 = .ok (.lconst 1, 1) := dk_10 (dk_at dksX0_rope_0 12 rfl rfl)
theorem dX0_rope_13 : decode cX0_rope 13 = .ok (.ldc2_w 179, 3) := dk_20 0 179 (dk_at dksX0_rope_0 13 rfl rfl)
theorem dX0_rope_16 : decode cX0_rope 16 = .ok (.invokestatic 86, 3) := dk_184 0 86 (dk_at dksX0_rope_0 16 rfl rfl)
theorem dX0_rope_19 : decode cX0_rope 19 = .ok (.ifCond .ne 6, 3) := dk_154 0 6 (dk_at dksX0_rope_0 19 rfl rfl)
theorem dX0_rope_22 : decode cX0_rope 22 = .ok (.ldc 100, 2) := dk_18 100 (dk_at dksX0_rope_0 22 rfl rfl)
theorem dX0_rope_24 : decode cX0_rope 24 = .ok (.ireturn, 1) := dk_172 (dk_at dksX0_rope_1 0 rfl rfl)
theorem dX0_rope_25 : decode cX0_rope 25 = .ok (.aload_n 0, 1) := dk_42 (dk_at dksX0_rope_1 1 rfl rfl)
theorem dX0_rope_26 : decode cX0_rope 26 = .ok (.invokevirtual 190, 3) := dk_182 0 190 (dk_at dksX0_rope_1 2 rfl rfl)
theorem dX0_rope_29 : decode cX0_rope 29 = .ok (.aload_n 0, 1) := dk_42 (dk_at dksX0_rope_1 5 rfl rfl)
theorem dX0_rope_30 : decode cX0_rope 30 = .ok (.getfield 39, 3) := dk_180 0 39 (dk_at dksX0_rope_1 6 rfl rfl)
theorem dX0_rope_33 : decode cX0_rope 33 = .ok (.getfield 206, 3) := dk_180 0 206 (dk_at dksX0_rope_1 9 rfl rfl)
theorem dX0_rope_36 : decode cX0_rope 36 = .ok (.istore_n 2, 1) := dk_61 (dk_at dksX0_rope_1 12 rfl rfl)
theorem dX0_rope_37 : decode cX0_rope 37 = .ok (.aload_n 0, 1) := dk_42 (dk_at dksX0_rope_1 13 rfl rfl)
theorem dX0_rope_38 : decode cX0_rope 38 = .ok (.getfield 39, 3) := dk_180 0 39 (dk_at dksX0_rope_1 14 rfl rfl)
theorem dX0_rope_41 : decode cX0_rope 41 = .ok (.iload_n 1, 1) := dk_27 (dk_at dksX0_rope_1 17 rfl rfl)
theorem dX0_rope_42 : decode cX0_rope 42 = .ok (.putfield 206, 3) := dk_181 0 206 (dk_at dksX0_rope_1 18 rfl rfl)
theorem dX0_rope_45 : decode cX0_rope 45 = .ok (.iload_n 2, 1) := dk_28 (dk_at dksX0_rope_1 21 rfl rfl)
theorem dX0_rope_46 : decode cX0_rope 46 = .ok (.ireturn, 1) := dk_172 (dk_at dksX0_rope_1 22 rfl rfl)
abbrev cX0_room : ByteArray := prog_1_method_28_code
def yX0_room : MethodName := ⟨RX0, "room", "(I)I"⟩
def dkwX0_room_1 : List UInt8 := [172, 42, 182, 0, 190, 42, 180, 0, 39, 180, 0, 211, 61, 42, 180, 0, 39, 27, 181, 0, 211, 28, 172]
abbrev dktX0_room_1 : List UInt8 := dkwX0_room_1 ++ []
def dkwX0_room_0 : List UInt8 := [42, 182, 0, 181, 154, 0, 6, 18, 173, 172, 27, 133, 10, 20, 0, 209, 184, 0, 86, 154, 0, 6, 18, 100]
abbrev dktX0_room_0 : List UInt8 := dkwX0_room_0 ++ dktX0_room_1
theorem dksX0_room_0 : cX0_room.data.toList.drop 0 = dktX0_room_0 := by decide +kernel
theorem dksX0_room_1 : cX0_room.data.toList.drop 24 = dktX0_room_1 := dk_seg dksX0_room_0 24 rfl rfl
theorem dX0_room_0 : decode cX0_room 0 = .ok (.aload_n 0, 1) := dk_42 (dk_at dksX0_room_0 0 rfl rfl)
theorem dX0_room_1 : decode cX0_room 1 = .ok (.invokevirtual 181, 3) := dk_182 0 181 (dk_at dksX0_room_0 1 rfl rfl)
theorem dX0_room_4 : decode cX0_room 4 = .ok (.ifCond .ne 6, 3) := dk_154 0 6 (dk_at dksX0_room_0 4 rfl rfl)
theorem dX0_room_7 : decode cX0_room 7 = .ok (.ldc 173, 2) := dk_18 173 (dk_at dksX0_room_0 7 rfl rfl)
theorem dX0_room_9 : decode cX0_room 9 = .ok (.ireturn, 1) := dk_172 (dk_at dksX0_room_0 9 rfl rfl)
theorem dX0_room_10 : decode cX0_room 10 = .ok (.iload_n 1, 1) := dk_27 (dk_at dksX0_room_0 10 rfl rfl)
theorem dX0_room_11 : decode cX0_room 11 = .ok (.i2l, 1) := dk_133 (dk_at dksX0_room_0 11 rfl rfl)
theorem dX0_room_12 : decode cX0_room 12 = .ok (.lconst 1, 1) := dk_10 (dk_at dksX0_room_0 12 rfl rfl)
theorem dX0_room_13 : decode cX0_room 13 = .ok (.ldc2_w 209, 3) := dk_20 0 209 (dk_at dksX0_room_0 13 rfl rfl)
theorem dX0_room_16 : decode cX0_room 16 = .ok (.invokestatic 86, 3) := dk_184 0 86 (dk_at dksX0_room_0 16 rfl rfl)
theorem dX0_room_19 : decode cX0_room 19 = .ok (.ifCond .ne 6, 3) := dk_154 0 6 (dk_at dksX0_room_0 19 rfl rfl)
theorem dX0_room_22 : decode cX0_room 22 = .ok (.ldc 100, 2) := dk_18 100 (dk_at dksX0_room_0 22 rfl rfl)
theorem dX0_room_24 : decode cX0_room 24 = .ok (.ireturn, 1) := dk_172 (dk_at dksX0_room_1 0 rfl rfl)
theorem dX0_room_25 : decode cX0_room 25 = .ok (.aload_n 0, 1) := dk_42 (dk_at dksX0_room_1 1 rfl rfl)
theorem dX0_room_26 : decode cX0_room 26 = .ok (.invokevirtual 190, 3) := dk_182 0 190 (dk_at dksX0_room_1 2 rfl rfl)
theorem dX0_room_29 : decode cX0_room 29 = .ok (.aload_n 0, 1) := dk_42 (dk_at dksX0_room_1 5 rfl rfl)
theorem dX0_room_30 : decode cX0_room 30 = .ok (.getfield 39, 3) := dk_180 0 39 (dk_at dksX0_room_1 6 rfl rfl)
theorem dX0_room_33 : decode cX0_room 33 = .ok (.getfield 211, 3) := dk_180 0 211 (dk_at dksX0_room_1 9 rfl rfl)
theorem dX0_room_36 : decode cX0_room 36 = .ok (.istore_n 2, 1) := dk_61 (dk_at dksX0_room_1 12 rfl rfl)
theorem dX0_room_37 : decode cX0_room 37 = .ok (.aload_n 0, 1) := dk_42 (dk_at dksX0_room_1 13 rfl rfl)
theorem dX0_room_38 : decode cX0_room 38 = .ok (.getfield 39, 3) := dk_180 0 39 (dk_at dksX0_room_1 14 rfl rfl)
theorem dX0_room_41 : decode cX0_room 41 = .ok (.iload_n 1, 1) := dk_27 (dk_at dksX0_room_1 17 rfl rfl)
theorem dX0_room_42 : decode cX0_room 42 = .ok (.putfield 211, 3) := dk_181 0 211 (dk_at dksX0_room_1 18 rfl rfl)
theorem dX0_room_45 : decode cX0_room 45 = .ok (.iload_n 2, 1) := dk_28 (dk_at dksX0_room_1 21 rfl rfl)
theorem dX0_room_46 : decode cX0_room 46 = .ok (.ireturn, 1) := dk_172 (dk_at dksX0_room_1 22 rfl rfl)
abbrev cX0_send : ByteArray := prog_1_method_29_code
def yX0_send : MethodName := ⟨RX0, "send", "(III)I"⟩
def dkwX0_send_3 : List UInt8 := [28, 29, 182, 0, 223, 42, 180, 0, 39, 5, 182, 0, 197, 172]
abbrev dktX0_send_3 : List UInt8 := dkwX0_send_3 ++ []
def dkwX0_send_2 : List UInt8 := [180, 0, 39, 180, 0, 220, 27, 46, 28, 160, 0, 6, 18, 173, 172, 42, 182, 0, 190, 42, 180, 0, 39, 27]
abbrev dktX0_send_2 : List UInt8 := dkwX0_send_2 ++ dktX0_send_3
def dkwX0_send_1 : List UInt8 := [184, 0, 86, 154, 0, 6, 18, 100, 172, 42, 180, 0, 39, 180, 0, 217, 27, 46, 5, 160, 0, 16, 42]
abbrev dktX0_send_1 : List UInt8 := dkwX0_send_1 ++ dktX0_send_2
def dkwX0_send_0 : List UInt8 := [42, 27, 182, 0, 214, 153, 0, 23, 42, 28, 182, 0, 200, 153, 0, 15, 29, 133, 9, 20, 0, 177]
abbrev dktX0_send_0 : List UInt8 := dkwX0_send_0 ++ dktX0_send_1
theorem dksX0_send_0 : cX0_send.data.toList.drop 0 = dktX0_send_0 := by decide +kernel
theorem dksX0_send_1 : cX0_send.data.toList.drop 22 = dktX0_send_1 := dk_seg dksX0_send_0 22 rfl rfl
theorem dksX0_send_2 : cX0_send.data.toList.drop 45 = dktX0_send_2 := dk_seg dksX0_send_1 23 rfl rfl
theorem dksX0_send_3 : cX0_send.data.toList.drop 69 = dktX0_send_3 := dk_seg dksX0_send_2 24 rfl rfl
theorem dX0_send_0 : decode cX0_send 0 = .ok (.aload_n 0, 1) := dk_42 (dk_at dksX0_send_0 0 rfl rfl)
theorem dX0_send_1 : decode cX0_send 1 = .ok (.iload_n 1, 1) := dk_27 (dk_at dksX0_send_0 1 rfl rfl)
theorem dX0_send_2 : decode cX0_send 2 = .ok (.invokevirtual 214, 3) := dk_182 0 214 (dk_at dksX0_send_0 2 rfl rfl)
theorem dX0_send_5 : decode cX0_send 5 = .ok (.ifCond .eq 23, 3) := dk_153 0 23 (dk_at dksX0_send_0 5 rfl rfl)
theorem dX0_send_8 : decode cX0_send 8 = .ok (.aload_n 0, 1) := dk_42 (dk_at dksX0_send_0 8 rfl rfl)
theorem dX0_send_9 : decode cX0_send 9 = .ok (.iload_n 2, 1) := dk_28 (dk_at dksX0_send_0 9 rfl rfl)
theorem dX0_send_10 : decode cX0_send 10 = .ok (.invokevirtual 200, 3) := dk_182 0 200 (dk_at dksX0_send_0 10 rfl rfl)
theorem dX0_send_13 : decode cX0_send 13 = .ok (.ifCond .eq 15, 3) := dk_153 0 15 (dk_at dksX0_send_0 13 rfl rfl)
theorem dX0_send_16 : decode cX0_send 16 = .ok (.iload_n 3, 1) := dk_29 (dk_at dksX0_send_0 16 rfl rfl)
theorem dX0_send_17 : decode cX0_send 17 = .ok (.i2l, 1) := dk_133 (dk_at dksX0_send_0 17 rfl rfl)
theorem dX0_send_18 : decode cX0_send 18 = .ok (.lconst 0, 1) := dk_9 (dk_at dksX0_send_0 18 rfl rfl)
theorem dX0_send_19 : decode cX0_send 19 = .ok (.ldc2_w 177, 3) := dk_20 0 177 (dk_at dksX0_send_0 19 rfl rfl)
theorem dX0_send_22 : decode cX0_send 22 = .ok (.invokestatic 86, 3) := dk_184 0 86 (dk_at dksX0_send_1 0 rfl rfl)
theorem dX0_send_25 : decode cX0_send 25 = .ok (.ifCond .ne 6, 3) := dk_154 0 6 (dk_at dksX0_send_1 3 rfl rfl)
theorem dX0_send_28 : decode cX0_send 28 = .ok (.ldc 100, 2) := dk_18 100 (dk_at dksX0_send_1 6 rfl rfl)
theorem dX0_send_30 : decode cX0_send 30 = .ok (.ireturn, 1) := dk_172 (dk_at dksX0_send_1 8 rfl rfl)
theorem dX0_send_31 : decode cX0_send 31 = .ok (.aload_n 0, 1) := dk_42 (dk_at dksX0_send_1 9 rfl rfl)
theorem dX0_send_32 : decode cX0_send 32 = .ok (.getfield 39, 3) := dk_180 0 39 (dk_at dksX0_send_1 10 rfl rfl)
theorem dX0_send_35 : decode cX0_send 35 = .ok (.getfield 217, 3) := dk_180 0 217 (dk_at dksX0_send_1 13 rfl rfl)
theorem dX0_send_38 : decode cX0_send 38 = .ok (.iload_n 1, 1) := dk_27 (dk_at dksX0_send_1 16 rfl rfl)
theorem dX0_send_39 : decode cX0_send 39 = .ok (.iaload, 1) := dk_46 (dk_at dksX0_send_1 17 rfl rfl)
theorem dX0_send_40 : decode cX0_send 40 = .ok (.iconst 2, 1) := dk_5 (dk_at dksX0_send_1 18 rfl rfl)
theorem dX0_send_41 : decode cX0_send 41 = .ok (.if_icmp .ne 16, 3) := dk_160 0 16 (dk_at dksX0_send_1 19 rfl rfl)
theorem dX0_send_44 : decode cX0_send 44 = .ok (.aload_n 0, 1) := dk_42 (dk_at dksX0_send_1 22 rfl rfl)
theorem dX0_send_45 : decode cX0_send 45 = .ok (.getfield 39, 3) := dk_180 0 39 (dk_at dksX0_send_2 0 rfl rfl)
theorem dX0_send_48 : decode cX0_send 48 = .ok (.getfield 220, 3) := dk_180 0 220 (dk_at dksX0_send_2 3 rfl rfl)
theorem dX0_send_51 : decode cX0_send 51 = .ok (.iload_n 1, 1) := dk_27 (dk_at dksX0_send_2 6 rfl rfl)
theorem dX0_send_52 : decode cX0_send 52 = .ok (.iaload, 1) := dk_46 (dk_at dksX0_send_2 7 rfl rfl)
theorem dX0_send_53 : decode cX0_send 53 = .ok (.iload_n 2, 1) := dk_28 (dk_at dksX0_send_2 8 rfl rfl)
theorem dX0_send_54 : decode cX0_send 54 = .ok (.if_icmp .ne 6, 3) := dk_160 0 6 (dk_at dksX0_send_2 9 rfl rfl)
theorem dX0_send_57 : decode cX0_send 57 = .ok (.ldc 173, 2) := dk_18 173 (dk_at dksX0_send_2 12 rfl rfl)
theorem dX0_send_59 : decode cX0_send 59 = .ok (.ireturn, 1) := dk_172 (dk_at dksX0_send_2 14 rfl rfl)
theorem dX0_send_60 : decode cX0_send 60 = .ok (.aload_n 0, 1) := dk_42 (dk_at dksX0_send_2 15 rfl rfl)
theorem dX0_send_61 : decode cX0_send 61 = .ok (.invokevirtual 190, 3) := dk_182 0 190 (dk_at dksX0_send_2 16 rfl rfl)
theorem dX0_send_64 : decode cX0_send 64 = .ok (.aload_n 0, 1) := dk_42 (dk_at dksX0_send_2 19 rfl rfl)
theorem dX0_send_65 : decode cX0_send 65 = .ok (.getfield 39, 3) := dk_180 0 39 (dk_at dksX0_send_2 20 rfl rfl)
theorem dX0_send_68 : decode cX0_send 68 = .ok (.iload_n 1, 1) := dk_27 (dk_at dksX0_send_2 23 rfl rfl)
theorem dX0_send_69 : decode cX0_send 69 = .ok (.iload_n 2, 1) := dk_28 (dk_at dksX0_send_3 0 rfl rfl)
theorem dX0_send_70 : decode cX0_send 70 = .ok (.iload_n 3, 1) := dk_29 (dk_at dksX0_send_3 1 rfl rfl)
theorem dX0_send_71 : decode cX0_send 71 = .ok (.invokevirtual 223, 3) := dk_182 0 223 (dk_at dksX0_send_3 2 rfl rfl)
theorem dX0_send_74 : decode cX0_send 74 = .ok (.aload_n 0, 1) := dk_42 (dk_at dksX0_send_3 5 rfl rfl)
theorem dX0_send_75 : decode cX0_send 75 = .ok (.getfield 39, 3) := dk_180 0 39 (dk_at dksX0_send_3 6 rfl rfl)
theorem dX0_send_78 : decode cX0_send 78 = .ok (.iconst 2, 1) := dk_5 (dk_at dksX0_send_3 9 rfl rfl)
theorem dX0_send_79 : decode cX0_send 79 = .ok (.invokevirtual 197, 3) := dk_182 0 197 (dk_at dksX0_send_3 10 rfl rfl)
theorem dX0_send_82 : decode cX0_send 82 = .ok (.ireturn, 1) := dk_172 (dk_at dksX0_send_3 13 rfl rfl)
abbrev cX0_isDish : ByteArray := prog_1_method_21_code
def yX0_isDish : MethodName := ⟨RX0, "isDish", "(I)Z"⟩
def dkwX0_isDish_0 : List UInt8 := [27, 133, 9, 42, 180, 0, 39, 182, 0, 169, 4, 100, 133, 184, 0, 86, 172]
abbrev dktX0_isDish_0 : List UInt8 := dkwX0_isDish_0 ++ []
theorem dksX0_isDish_0 : cX0_isDish.data.toList.drop 0 = dktX0_isDish_0 := by decide +kernel
theorem dX0_isDish_0 : decode cX0_isDish 0 = .ok (.iload_n 1, 1) := dk_27 (dk_at dksX0_isDish_0 0 rfl rfl)
theorem dX0_isDish_1 : decode cX0_isDish 1 = .ok (.i2l, 1) := dk_133 (dk_at dksX0_isDish_0 1 rfl rfl)
theorem dX0_isDish_2 : decode cX0_isDish 2 = .ok (.lconst 0, 1) := dk_9 (dk_at dksX0_isDish_0 2 rfl rfl)
theorem dX0_isDish_3 : decode cX0_isDish 3 = .ok (.aload_n 0, 1) := dk_42 (dk_at dksX0_isDish_0 3 rfl rfl)
theorem dX0_isDish_4 : decode cX0_isDish 4 = .ok (.getfield 39, 3) := dk_180 0 39 (dk_at dksX0_isDish_0 4 rfl rfl)
theorem dX0_isDish_7 : decode cX0_isDish 7 = .ok (.invokevirtual 169, 3) := dk_182 0 169 (dk_at dksX0_isDish_0 7 rfl rfl)
theorem dX0_isDish_10 : decode cX0_isDish 10 = .ok (.iconst 1, 1) := dk_4 (dk_at dksX0_isDish_0 10 rfl rfl)
theorem dX0_isDish_11 : decode cX0_isDish 11 = .ok (.isub, 1) := dk_100 (dk_at dksX0_isDish_0 11 rfl rfl)
theorem dX0_isDish_12 : decode cX0_isDish 12 = .ok (.i2l, 1) := dk_133 (dk_at dksX0_isDish_0 12 rfl rfl)
theorem dX0_isDish_13 : decode cX0_isDish 13 = .ok (.invokestatic 86, 3) := dk_184 0 86 (dk_at dksX0_isDish_0 13 rfl rfl)
theorem dX0_isDish_16 : decode cX0_isDish 16 = .ok (.ireturn, 1) := dk_172 (dk_at dksX0_isDish_0 16 rfl rfl)
abbrev cX0_dish : ByteArray := prog_1_method_31_code
def yX0_dish : MethodName := ⟨RX0, "dish", "(II)I"⟩
def dkwX0_dish_4 : List UInt8 := [42, 180, 0, 39, 180, 0, 237, 27, 46, 182, 0, 244, 153, 0, 7, 4, 167, 0, 4, 3, 172, 18, 100, 172]
abbrev dktX0_dish_4 : List UInt8 := dkwX0_dish_4 ++ []
def dkwX0_dish_3 : List UInt8 := [180, 0, 234, 27, 46, 172, 42, 180, 0, 39, 180, 0, 237, 27, 46, 172, 42, 180, 0, 39, 27, 182, 0, 240]
abbrev dktX0_dish_3 : List UInt8 := dkwX0_dish_3 ++ dktX0_dish_4
def dkwX0_dish_2 : List UInt8 := [42, 180, 0, 39, 27, 184, 0, 230, 172, 42, 180, 0, 39, 180, 0, 220, 27, 46, 172, 42, 180, 0, 39]
abbrev dktX0_dish_2 : List UInt8 := dkwX0_dish_2 ++ dktX0_dish_3
def dkwX0_dish_1 : List UInt8 := [170, 0, 0, 0, 0, 0, 0, 104, 0, 0, 0, 0, 0, 0, 0, 4, 0, 0, 0, 36, 0, 0, 0, 45, 0, 0, 0, 55, 0, 0, 0, 65, 0, 0, 0, 75]
abbrev dktX0_dish_1 : List UInt8 := dkwX0_dish_1 ++ dktX0_dish_2
def dkwX0_dish_0 : List UInt8 := [42, 27, 182, 0, 214, 154, 0, 6, 18, 100, 172, 28]
abbrev dktX0_dish_0 : List UInt8 := dkwX0_dish_0 ++ dktX0_dish_1
theorem dksX0_dish_0 : cX0_dish.data.toList.drop 0 = dktX0_dish_0 := by decide +kernel
theorem dksX0_dish_1 : cX0_dish.data.toList.drop 12 = dktX0_dish_1 := dk_seg dksX0_dish_0 12 rfl rfl
theorem dksX0_dish_2 : cX0_dish.data.toList.drop 48 = dktX0_dish_2 := dk_seg dksX0_dish_1 36 rfl rfl
theorem dksX0_dish_3 : cX0_dish.data.toList.drop 71 = dktX0_dish_3 := dk_seg dksX0_dish_2 23 rfl rfl
theorem dksX0_dish_4 : cX0_dish.data.toList.drop 95 = dktX0_dish_4 := dk_seg dksX0_dish_3 24 rfl rfl
theorem dX0_dish_0 : decode cX0_dish 0 = .ok (.aload_n 0, 1) := dk_42 (dk_at dksX0_dish_0 0 rfl rfl)
theorem dX0_dish_1 : decode cX0_dish 1 = .ok (.iload_n 1, 1) := dk_27 (dk_at dksX0_dish_0 1 rfl rfl)
theorem dX0_dish_2 : decode cX0_dish 2 = .ok (.invokevirtual 214, 3) := dk_182 0 214 (dk_at dksX0_dish_0 2 rfl rfl)
theorem dX0_dish_5 : decode cX0_dish 5 = .ok (.ifCond .ne 6, 3) := dk_154 0 6 (dk_at dksX0_dish_0 5 rfl rfl)
theorem dX0_dish_8 : decode cX0_dish 8 = .ok (.ldc 100, 2) := dk_18 100 (dk_at dksX0_dish_0 8 rfl rfl)
theorem dX0_dish_10 : decode cX0_dish 10 = .ok (.ireturn, 1) := dk_172 (dk_at dksX0_dish_0 10 rfl rfl)
theorem dX0_dish_11 : decode cX0_dish 11 = .ok (.iload_n 2, 1) := dk_28 (dk_at dksX0_dish_0 11 rfl rfl)
theorem dX0_dish_12 : decode cX0_dish 12 = .ok (.tableswitch 104 0 4 #[36, 45, 55, 65, 75], 36) := by decide +kernel
theorem dX0_dish_48 : decode cX0_dish 48 = .ok (.aload_n 0, 1) := dk_42 (dk_at dksX0_dish_2 0 rfl rfl)
theorem dX0_dish_49 : decode cX0_dish 49 = .ok (.getfield 39, 3) := dk_180 0 39 (dk_at dksX0_dish_2 1 rfl rfl)
theorem dX0_dish_52 : decode cX0_dish 52 = .ok (.iload_n 1, 1) := dk_27 (dk_at dksX0_dish_2 4 rfl rfl)
theorem dX0_dish_53 : decode cX0_dish 53 = .ok (.invokestatic 230, 3) := dk_184 0 230 (dk_at dksX0_dish_2 5 rfl rfl)
theorem dX0_dish_56 : decode cX0_dish 56 = .ok (.ireturn, 1) := dk_172 (dk_at dksX0_dish_2 8 rfl rfl)
theorem dX0_dish_57 : decode cX0_dish 57 = .ok (.aload_n 0, 1) := dk_42 (dk_at dksX0_dish_2 9 rfl rfl)
theorem dX0_dish_58 : decode cX0_dish 58 = .ok (.getfield 39, 3) := dk_180 0 39 (dk_at dksX0_dish_2 10 rfl rfl)
theorem dX0_dish_61 : decode cX0_dish 61 = .ok (.getfield 220, 3) := dk_180 0 220 (dk_at dksX0_dish_2 13 rfl rfl)
theorem dX0_dish_64 : decode cX0_dish 64 = .ok (.iload_n 1, 1) := dk_27 (dk_at dksX0_dish_2 16 rfl rfl)
theorem dX0_dish_65 : decode cX0_dish 65 = .ok (.iaload, 1) := dk_46 (dk_at dksX0_dish_2 17 rfl rfl)
theorem dX0_dish_66 : decode cX0_dish 66 = .ok (.ireturn, 1) := dk_172 (dk_at dksX0_dish_2 18 rfl rfl)
theorem dX0_dish_67 : decode cX0_dish 67 = .ok (.aload_n 0, 1) := dk_42 (dk_at dksX0_dish_2 19 rfl rfl)
theorem dX0_dish_68 : decode cX0_dish 68 = .ok (.getfield 39, 3) := dk_180 0 39 (dk_at dksX0_dish_2 20 rfl rfl)
theorem dX0_dish_71 : decode cX0_dish 71 = .ok (.getfield 234, 3) := dk_180 0 234 (dk_at dksX0_dish_3 0 rfl rfl)
theorem dX0_dish_74 : decode cX0_dish 74 = .ok (.iload_n 1, 1) := dk_27 (dk_at dksX0_dish_3 3 rfl rfl)
theorem dX0_dish_75 : decode cX0_dish 75 = .ok (.iaload, 1) := dk_46 (dk_at dksX0_dish_3 4 rfl rfl)
theorem dX0_dish_76 : decode cX0_dish 76 = .ok (.ireturn, 1) := dk_172 (dk_at dksX0_dish_3 5 rfl rfl)
theorem dX0_dish_77 : decode cX0_dish 77 = .ok (.aload_n 0, 1) := dk_42 (dk_at dksX0_dish_3 6 rfl rfl)
theorem dX0_dish_78 : decode cX0_dish 78 = .ok (.getfield 39, 3) := dk_180 0 39 (dk_at dksX0_dish_3 7 rfl rfl)
theorem dX0_dish_81 : decode cX0_dish 81 = .ok (.getfield 237, 3) := dk_180 0 237 (dk_at dksX0_dish_3 10 rfl rfl)
theorem dX0_dish_84 : decode cX0_dish 84 = .ok (.iload_n 1, 1) := dk_27 (dk_at dksX0_dish_3 13 rfl rfl)
theorem dX0_dish_85 : decode cX0_dish 85 = .ok (.iaload, 1) := dk_46 (dk_at dksX0_dish_3 14 rfl rfl)
theorem dX0_dish_86 : decode cX0_dish 86 = .ok (.ireturn, 1) := dk_172 (dk_at dksX0_dish_3 15 rfl rfl)
theorem dX0_dish_87 : decode cX0_dish 87 = .ok (.aload_n 0, 1) := dk_42 (dk_at dksX0_dish_3 16 rfl rfl)
theorem dX0_dish_88 : decode cX0_dish 88 = .ok (.getfield 39, 3) := dk_180 0 39 (dk_at dksX0_dish_3 17 rfl rfl)
theorem dX0_dish_91 : decode cX0_dish 91 = .ok (.iload_n 1, 1) := dk_27 (dk_at dksX0_dish_3 20 rfl rfl)
theorem dX0_dish_92 : decode cX0_dish 92 = .ok (.invokevirtual 240, 3) := dk_182 0 240 (dk_at dksX0_dish_3 21 rfl rfl)
theorem dX0_dish_95 : decode cX0_dish 95 = .ok (.aload_n 0, 1) := dk_42 (dk_at dksX0_dish_4 0 rfl rfl)
theorem dX0_dish_96 : decode cX0_dish 96 = .ok (.getfield 39, 3) := dk_180 0 39 (dk_at dksX0_dish_4 1 rfl rfl)
theorem dX0_dish_99 : decode cX0_dish 99 = .ok (.getfield 237, 3) := dk_180 0 237 (dk_at dksX0_dish_4 4 rfl rfl)
theorem dX0_dish_102 : decode cX0_dish 102 = .ok (.iload_n 1, 1) := dk_27 (dk_at dksX0_dish_4 7 rfl rfl)
theorem dX0_dish_103 : decode cX0_dish 103 = .ok (.iaload, 1) := dk_46 (dk_at dksX0_dish_4 8 rfl rfl)
theorem dX0_dish_104 : decode cX0_dish 104 = .ok (.invokevirtual 244, 3) := dk_182 0 244 (dk_at dksX0_dish_4 9 rfl rfl)
theorem dX0_dish_107 : decode cX0_dish 107 = .ok (.ifCond .eq 7, 3) := dk_153 0 7 (dk_at dksX0_dish_4 12 rfl rfl)
theorem dX0_dish_110 : decode cX0_dish 110 = .ok (.iconst 1, 1) := dk_4 (dk_at dksX0_dish_4 15 rfl rfl)
theorem dX0_dish_111 : decode cX0_dish 111 = .ok (.goto 4, 3) := dk_167 0 4 (dk_at dksX0_dish_4 16 rfl rfl)
theorem dX0_dish_114 : decode cX0_dish 114 = .ok (.iconst 0, 1) := dk_3 (dk_at dksX0_dish_4 19 rfl rfl)
theorem dX0_dish_115 : decode cX0_dish 115 = .ok (.ireturn, 1) := dk_172 (dk_at dksX0_dish_4 20 rfl rfl)
theorem dX0_dish_116 : decode cX0_dish 116 = .ok (.ldc 100, 2) := dk_18 100 (dk_at dksX0_dish_4 21 rfl rfl)
theorem dX0_dish_118 : decode cX0_dish 118 = .ok (.ireturn, 1) := dk_172 (dk_at dksX0_dish_4 23 rfl rfl)
abbrev cX0_whereIn : ByteArray := prog_1_method_30_code
def yX0_whereIn : MethodName := ⟨RX0, "whereIn", "(LDishLift$House;I)I"⟩
def dkwX0_whereIn_1 : List UInt8 := [160, 0, 8, 16, 11, 167, 0, 9, 42, 180, 0, 227, 27, 46, 172]
abbrev dktX0_whereIn_1 : List UInt8 := dkwX0_whereIn_1 ++ []
def dkwX0_whereIn_0 : List UInt8 := [42, 180, 0, 217, 27, 46, 4, 160, 0, 8, 16, 10, 167, 0, 24, 42, 180, 0, 217, 27, 46, 5]
abbrev dktX0_whereIn_0 : List UInt8 := dkwX0_whereIn_0 ++ dktX0_whereIn_1
theorem dksX0_whereIn_0 : cX0_whereIn.data.toList.drop 0 = dktX0_whereIn_0 := by decide +kernel
theorem dksX0_whereIn_1 : cX0_whereIn.data.toList.drop 22 = dktX0_whereIn_1 := dk_seg dksX0_whereIn_0 22 rfl rfl
theorem dX0_whereIn_0 : decode cX0_whereIn 0 = .ok (.aload_n 0, 1) := dk_42 (dk_at dksX0_whereIn_0 0 rfl rfl)
theorem dX0_whereIn_1 : decode cX0_whereIn 1 = .ok (.getfield 217, 3) := dk_180 0 217 (dk_at dksX0_whereIn_0 1 rfl rfl)
theorem dX0_whereIn_4 : decode cX0_whereIn 4 = .ok (.iload_n 1, 1) := dk_27 (dk_at dksX0_whereIn_0 4 rfl rfl)
theorem dX0_whereIn_5 : decode cX0_whereIn 5 = .ok (.iaload, 1) := dk_46 (dk_at dksX0_whereIn_0 5 rfl rfl)
theorem dX0_whereIn_6 : decode cX0_whereIn 6 = .ok (.iconst 1, 1) := dk_4 (dk_at dksX0_whereIn_0 6 rfl rfl)
theorem dX0_whereIn_7 : decode cX0_whereIn 7 = .ok (.if_icmp .ne 8, 3) := dk_160 0 8 (dk_at dksX0_whereIn_0 7 rfl rfl)
theorem dX0_whereIn_10 : decode cX0_whereIn 10 = .ok (.bipush 10, 2) := dk_16 10 (dk_at dksX0_whereIn_0 10 rfl rfl)
theorem dX0_whereIn_12 : decode cX0_whereIn 12 = .ok (.goto 24, 3) := dk_167 0 24 (dk_at dksX0_whereIn_0 12 rfl rfl)
theorem dX0_whereIn_15 : decode cX0_whereIn 15 = .ok (.aload_n 0, 1) := dk_42 (dk_at dksX0_whereIn_0 15 rfl rfl)
theorem dX0_whereIn_16 : decode cX0_whereIn 16 = .ok (.getfield 217, 3) := dk_180 0 217 (dk_at dksX0_whereIn_0 16 rfl rfl)
theorem dX0_whereIn_19 : decode cX0_whereIn 19 = .ok (.iload_n 1, 1) := dk_27 (dk_at dksX0_whereIn_0 19 rfl rfl)
theorem dX0_whereIn_20 : decode cX0_whereIn 20 = .ok (.iaload, 1) := dk_46 (dk_at dksX0_whereIn_0 20 rfl rfl)
theorem dX0_whereIn_21 : decode cX0_whereIn 21 = .ok (.iconst 2, 1) := dk_5 (dk_at dksX0_whereIn_0 21 rfl rfl)
theorem dX0_whereIn_22 : decode cX0_whereIn 22 = .ok (.if_icmp .ne 8, 3) := dk_160 0 8 (dk_at dksX0_whereIn_1 0 rfl rfl)
theorem dX0_whereIn_25 : decode cX0_whereIn 25 = .ok (.bipush 11, 2) := dk_16 11 (dk_at dksX0_whereIn_1 3 rfl rfl)
theorem dX0_whereIn_27 : decode cX0_whereIn 27 = .ok (.goto 9, 3) := dk_167 0 9 (dk_at dksX0_whereIn_1 5 rfl rfl)
theorem dX0_whereIn_30 : decode cX0_whereIn 30 = .ok (.aload_n 0, 1) := dk_42 (dk_at dksX0_whereIn_1 8 rfl rfl)
theorem dX0_whereIn_31 : decode cX0_whereIn 31 = .ok (.getfield 227, 3) := dk_180 0 227 (dk_at dksX0_whereIn_1 9 rfl rfl)
theorem dX0_whereIn_34 : decode cX0_whereIn 34 = .ok (.iload_n 1, 1) := dk_27 (dk_at dksX0_whereIn_1 12 rfl rfl)
theorem dX0_whereIn_35 : decode cX0_whereIn 35 = .ok (.iaload, 1) := dk_46 (dk_at dksX0_whereIn_1 13 rfl rfl)
theorem dX0_whereIn_36 : decode cX0_whereIn 36 = .ok (.ireturn, 1) := dk_172 (dk_at dksX0_whereIn_1 14 rfl rfl)
abbrev cX0_car : ByteArray := prog_1_method_32_code
def yX0_car : MethodName := ⟨RX0, "car", "(I)I"⟩
def dkwX0_car_5 : List UInt8 := [182, 0, 253, 172, 18, 100, 172]
abbrev dktX0_car_5 : List UInt8 := dkwX0_car_5 ++ []
def dkwX0_car_4 : List UInt8 := [172, 42, 180, 0, 39, 5, 182, 0, 197, 172, 42, 180, 0, 39, 182, 0, 250, 172, 42, 180, 0, 39]
abbrev dktX0_car_4 : List UInt8 := dkwX0_car_4 ++ dktX0_car_5
def dkwX0_car_3 : List UInt8 := [42, 180, 0, 39, 180, 0, 211, 172, 42, 180, 0, 39, 180, 0, 206, 172, 42, 180, 0, 39, 4, 182, 0, 197]
abbrev dktX0_car_3 : List UInt8 := dkwX0_car_3 ++ dktX0_car_4
def dkwX0_car_2 : List UInt8 := [42, 180, 0, 39, 180, 0, 174, 172, 42, 180, 0, 39, 180, 0, 203, 172, 42, 180, 0, 39, 180, 0, 247, 172]
abbrev dktX0_car_2 : List UInt8 := dkwX0_car_2 ++ dktX0_car_3
def dkwX0_car_1 : List UInt8 := [170, 0, 0, 0, 123, 0, 0, 0, 0, 0, 0, 0, 8, 0, 0, 0, 49, 0, 0, 0, 57, 0, 0, 0, 65, 0, 0, 0, 73, 0, 0, 0, 81, 0, 0, 0, 89, 0, 0, 0, 98, 0, 0, 0, 107, 0, 0, 0, 115]
abbrev dktX0_car_1 : List UInt8 := dkwX0_car_1 ++ dktX0_car_2
def dkwX0_car_0 : List UInt8 := [42, 182, 0, 181, 154, 0, 6, 18, 173, 172, 27]
abbrev dktX0_car_0 : List UInt8 := dkwX0_car_0 ++ dktX0_car_1
theorem dksX0_car_0 : cX0_car.data.toList.drop 0 = dktX0_car_0 := by decide +kernel
theorem dksX0_car_1 : cX0_car.data.toList.drop 11 = dktX0_car_1 := dk_seg dksX0_car_0 11 rfl rfl
theorem dksX0_car_2 : cX0_car.data.toList.drop 60 = dktX0_car_2 := dk_seg dksX0_car_1 49 rfl rfl
theorem dksX0_car_3 : cX0_car.data.toList.drop 84 = dktX0_car_3 := dk_seg dksX0_car_2 24 rfl rfl
theorem dksX0_car_4 : cX0_car.data.toList.drop 108 = dktX0_car_4 := dk_seg dksX0_car_3 24 rfl rfl
theorem dksX0_car_5 : cX0_car.data.toList.drop 130 = dktX0_car_5 := dk_seg dksX0_car_4 22 rfl rfl
theorem dX0_car_0 : decode cX0_car 0 = .ok (.aload_n 0, 1) := dk_42 (dk_at dksX0_car_0 0 rfl rfl)
theorem dX0_car_1 : decode cX0_car 1 = .ok (.invokevirtual 181, 3) := dk_182 0 181 (dk_at dksX0_car_0 1 rfl rfl)
theorem dX0_car_4 : decode cX0_car 4 = .ok (.ifCond .ne 6, 3) := dk_154 0 6 (dk_at dksX0_car_0 4 rfl rfl)
theorem dX0_car_7 : decode cX0_car 7 = .ok (.ldc 173, 2) := dk_18 173 (dk_at dksX0_car_0 7 rfl rfl)
theorem dX0_car_9 : decode cX0_car 9 = .ok (.ireturn, 1) := dk_172 (dk_at dksX0_car_0 9 rfl rfl)
theorem dX0_car_10 : decode cX0_car 10 = .ok (.iload_n 1, 1) := dk_27 (dk_at dksX0_car_0 10 rfl rfl)
theorem dX0_car_11 : decode cX0_car 11 = .ok (.tableswitch 123 0 8 #[49, 57, 65, 73, 81, 89, 98, 107, 115], 49) := by decide +kernel
theorem dX0_car_60 : decode cX0_car 60 = .ok (.aload_n 0, 1) := dk_42 (dk_at dksX0_car_2 0 rfl rfl)
theorem dX0_car_61 : decode cX0_car 61 = .ok (.getfield 39, 3) := dk_180 0 39 (dk_at dksX0_car_2 1 rfl rfl)
theorem dX0_car_64 : decode cX0_car 64 = .ok (.getfield 174, 3) := dk_180 0 174 (dk_at dksX0_car_2 4 rfl rfl)
theorem dX0_car_67 : decode cX0_car 67 = .ok (.ireturn, 1) := dk_172 (dk_at dksX0_car_2 7 rfl rfl)
theorem dX0_car_68 : decode cX0_car 68 = .ok (.aload_n 0, 1) := dk_42 (dk_at dksX0_car_2 8 rfl rfl)
theorem dX0_car_69 : decode cX0_car 69 = .ok (.getfield 39, 3) := dk_180 0 39 (dk_at dksX0_car_2 9 rfl rfl)
theorem dX0_car_72 : decode cX0_car 72 = .ok (.getfield 203, 3) := dk_180 0 203 (dk_at dksX0_car_2 12 rfl rfl)
theorem dX0_car_75 : decode cX0_car 75 = .ok (.ireturn, 1) := dk_172 (dk_at dksX0_car_2 15 rfl rfl)
theorem dX0_car_76 : decode cX0_car 76 = .ok (.aload_n 0, 1) := dk_42 (dk_at dksX0_car_2 16 rfl rfl)
theorem dX0_car_77 : decode cX0_car 77 = .ok (.getfield 39, 3) := dk_180 0 39 (dk_at dksX0_car_2 17 rfl rfl)
theorem dX0_car_80 : decode cX0_car 80 = .ok (.getfield 247, 3) := dk_180 0 247 (dk_at dksX0_car_2 20 rfl rfl)
theorem dX0_car_83 : decode cX0_car 83 = .ok (.ireturn, 1) := dk_172 (dk_at dksX0_car_2 23 rfl rfl)
theorem dX0_car_84 : decode cX0_car 84 = .ok (.aload_n 0, 1) := dk_42 (dk_at dksX0_car_3 0 rfl rfl)
theorem dX0_car_85 : decode cX0_car 85 = .ok (.getfield 39, 3) := dk_180 0 39 (dk_at dksX0_car_3 1 rfl rfl)
theorem dX0_car_88 : decode cX0_car 88 = .ok (.getfield 211, 3) := dk_180 0 211 (dk_at dksX0_car_3 4 rfl rfl)
theorem dX0_car_91 : decode cX0_car 91 = .ok (.ireturn, 1) := dk_172 (dk_at dksX0_car_3 7 rfl rfl)
theorem dX0_car_92 : decode cX0_car 92 = .ok (.aload_n 0, 1) := dk_42 (dk_at dksX0_car_3 8 rfl rfl)
theorem dX0_car_93 : decode cX0_car 93 = .ok (.getfield 39, 3) := dk_180 0 39 (dk_at dksX0_car_3 9 rfl rfl)
theorem dX0_car_96 : decode cX0_car 96 = .ok (.getfield 206, 3) := dk_180 0 206 (dk_at dksX0_car_3 12 rfl rfl)
theorem dX0_car_99 : decode cX0_car 99 = .ok (.ireturn, 1) := dk_172 (dk_at dksX0_car_3 15 rfl rfl)
theorem dX0_car_100 : decode cX0_car 100 = .ok (.aload_n 0, 1) := dk_42 (dk_at dksX0_car_3 16 rfl rfl)
theorem dX0_car_101 : decode cX0_car 101 = .ok (.getfield 39, 3) := dk_180 0 39 (dk_at dksX0_car_3 17 rfl rfl)
theorem dX0_car_104 : decode cX0_car 104 = .ok (.iconst 1, 1) := dk_4 (dk_at dksX0_car_3 20 rfl rfl)
theorem dX0_car_105 : decode cX0_car 105 = .ok (.invokevirtual 197, 3) := dk_182 0 197 (dk_at dksX0_car_3 21 rfl rfl)
theorem dX0_car_108 : decode cX0_car 108 = .ok (.ireturn, 1) := dk_172 (dk_at dksX0_car_4 0 rfl rfl)
theorem dX0_car_109 : decode cX0_car 109 = .ok (.aload_n 0, 1) := dk_42 (dk_at dksX0_car_4 1 rfl rfl)
theorem dX0_car_110 : decode cX0_car 110 = .ok (.getfield 39, 3) := dk_180 0 39 (dk_at dksX0_car_4 2 rfl rfl)
theorem dX0_car_113 : decode cX0_car 113 = .ok (.iconst 2, 1) := dk_5 (dk_at dksX0_car_4 5 rfl rfl)
theorem dX0_car_114 : decode cX0_car 114 = .ok (.invokevirtual 197, 3) := dk_182 0 197 (dk_at dksX0_car_4 6 rfl rfl)
theorem dX0_car_117 : decode cX0_car 117 = .ok (.ireturn, 1) := dk_172 (dk_at dksX0_car_4 9 rfl rfl)
theorem dX0_car_118 : decode cX0_car 118 = .ok (.aload_n 0, 1) := dk_42 (dk_at dksX0_car_4 10 rfl rfl)
theorem dX0_car_119 : decode cX0_car 119 = .ok (.getfield 39, 3) := dk_180 0 39 (dk_at dksX0_car_4 11 rfl rfl)
theorem dX0_car_122 : decode cX0_car 122 = .ok (.invokevirtual 250, 3) := dk_182 0 250 (dk_at dksX0_car_4 14 rfl rfl)
theorem dX0_car_125 : decode cX0_car 125 = .ok (.ireturn, 1) := dk_172 (dk_at dksX0_car_4 17 rfl rfl)
theorem dX0_car_126 : decode cX0_car 126 = .ok (.aload_n 0, 1) := dk_42 (dk_at dksX0_car_4 18 rfl rfl)
theorem dX0_car_127 : decode cX0_car 127 = .ok (.getfield 39, 3) := dk_180 0 39 (dk_at dksX0_car_4 19 rfl rfl)
theorem dX0_car_130 : decode cX0_car 130 = .ok (.invokevirtual 253, 3) := dk_182 0 253 (dk_at dksX0_car_5 0 rfl rfl)
theorem dX0_car_133 : decode cX0_car 133 = .ok (.ireturn, 1) := dk_172 (dk_at dksX0_car_5 3 rfl rfl)
theorem dX0_car_134 : decode cX0_car 134 = .ok (.ldc 100, 2) := dk_18 100 (dk_at dksX0_car_5 4 rfl rfl)
theorem dX0_car_136 : decode cX0_car 136 = .ok (.ireturn, 1) := dk_172 (dk_at dksX0_car_5 6 rfl rfl)
abbrev cX0_ahead : ByteArray := prog_1_method_35_code
def yX0_ahead : MethodName := ⟨RX0, "ahead", "(III)I"⟩
def dkwX0_ahead_3 : List UInt8 := [167, 0, 12, 42, 180, 0, 43, 180, 0, 234, 27, 46, 172]
abbrev dktX0_ahead_3 : List UInt8 := dkwX0_ahead_3 ++ []
def dkwX0_ahead_2 : List UInt8 := [180, 0, 43, 27, 184, 0, 230, 167, 0, 29, 29, 4, 160, 0, 15, 42, 180, 0, 43, 180, 0, 237, 27, 46]
abbrev dktX0_ahead_2 : List UInt8 := dkwX0_ahead_2 ++ dktX0_ahead_3
def dkwX0_ahead_1 : List UInt8 := [154, 0, 6, 18, 100, 172, 42, 182, 1, 3, 87, 42, 28, 182, 1, 6, 87, 29, 154, 0, 14, 42]
abbrev dktX0_ahead_1 : List UInt8 := dkwX0_ahead_1 ++ dktX0_ahead_2
def dkwX0_ahead_0 : List UInt8 := [42, 27, 182, 0, 214, 153, 0, 22, 28, 184, 1, 0, 153, 0, 15, 29, 133, 9, 20, 0, 98, 184, 0, 86]
abbrev dktX0_ahead_0 : List UInt8 := dkwX0_ahead_0 ++ dktX0_ahead_1
theorem dksX0_ahead_0 : cX0_ahead.data.toList.drop 0 = dktX0_ahead_0 := by decide +kernel
theorem dksX0_ahead_1 : cX0_ahead.data.toList.drop 24 = dktX0_ahead_1 := dk_seg dksX0_ahead_0 24 rfl rfl
theorem dksX0_ahead_2 : cX0_ahead.data.toList.drop 46 = dktX0_ahead_2 := dk_seg dksX0_ahead_1 22 rfl rfl
theorem dksX0_ahead_3 : cX0_ahead.data.toList.drop 70 = dktX0_ahead_3 := dk_seg dksX0_ahead_2 24 rfl rfl
theorem dX0_ahead_0 : decode cX0_ahead 0 = .ok (.aload_n 0, 1) := dk_42 (dk_at dksX0_ahead_0 0 rfl rfl)
theorem dX0_ahead_1 : decode cX0_ahead 1 = .ok (.iload_n 1, 1) := dk_27 (dk_at dksX0_ahead_0 1 rfl rfl)
theorem dX0_ahead_2 : decode cX0_ahead 2 = .ok (.invokevirtual 214, 3) := dk_182 0 214 (dk_at dksX0_ahead_0 2 rfl rfl)
theorem dX0_ahead_5 : decode cX0_ahead 5 = .ok (.ifCond .eq 22, 3) := dk_153 0 22 (dk_at dksX0_ahead_0 5 rfl rfl)
theorem dX0_ahead_8 : decode cX0_ahead 8 = .ok (.iload_n 2, 1) := dk_28 (dk_at dksX0_ahead_0 8 rfl rfl)
theorem dX0_ahead_9 : decode cX0_ahead 9 = .ok (.invokestatic 256, 3) := dk_184 1 0 (dk_at dksX0_ahead_0 9 rfl rfl)
theorem dX0_ahead_12 : decode cX0_ahead 12 = .ok (.ifCond .eq 15, 3) := dk_153 0 15 (dk_at dksX0_ahead_0 12 rfl rfl)
theorem dX0_ahead_15 : decode cX0_ahead 15 = .ok (.iload_n 3, 1) := dk_29 (dk_at dksX0_ahead_0 15 rfl rfl)
theorem dX0_ahead_16 : decode cX0_ahead 16 = .ok (.i2l, 1) := dk_133 (dk_at dksX0_ahead_0 16 rfl rfl)
theorem dX0_ahead_17 : decode cX0_ahead 17 = .ok (.lconst 0, 1) := dk_9 (dk_at dksX0_ahead_0 17 rfl rfl)
theorem dX0_ahead_18 : decode cX0_ahead 18 = .ok (.ldc2_w 98, 3) := dk_20 0 98 (dk_at dksX0_ahead_0 18 rfl rfl)
theorem dX0_ahead_21 : decode cX0_ahead 21 = .ok (.invokestatic 86, 3) := dk_184 0 86 (dk_at dksX0_ahead_0 21 rfl rfl)
theorem dX0_ahead_24 : decode cX0_ahead 24 = .ok (.ifCond .ne 6, 3) := dk_154 0 6 (dk_at dksX0_ahead_1 0 rfl rfl)
theorem dX0_ahead_27 : decode cX0_ahead 27 = .ok (.ldc 100, 2) := dk_18 100 (dk_at dksX0_ahead_1 3 rfl rfl)
theorem dX0_ahead_29 : decode cX0_ahead 29 = .ok (.ireturn, 1) := dk_172 (dk_at dksX0_ahead_1 5 rfl rfl)
theorem dX0_ahead_30 : decode cX0_ahead 30 = .ok (.aload_n 0, 1) := dk_42 (dk_at dksX0_ahead_1 6 rfl rfl)
theorem dX0_ahead_31 : decode cX0_ahead 31 = .ok (.invokevirtual 259, 3) := dk_182 1 3 (dk_at dksX0_ahead_1 7 rfl rfl)
theorem dX0_ahead_34 : decode cX0_ahead 34 = .ok (.pop, 1) := dk_87 (dk_at dksX0_ahead_1 10 rfl rfl)
theorem dX0_ahead_35 : decode cX0_ahead 35 = .ok (.aload_n 0, 1) := dk_42 (dk_at dksX0_ahead_1 11 rfl rfl)
theorem dX0_ahead_36 : decode cX0_ahead 36 = .ok (.iload_n 2, 1) := dk_28 (dk_at dksX0_ahead_1 12 rfl rfl)
theorem dX0_ahead_37 : decode cX0_ahead 37 = .ok (.invokevirtual 262, 3) := dk_182 1 6 (dk_at dksX0_ahead_1 13 rfl rfl)
theorem dX0_ahead_40 : decode cX0_ahead 40 = .ok (.pop, 1) := dk_87 (dk_at dksX0_ahead_1 16 rfl rfl)
theorem dX0_ahead_41 : decode cX0_ahead 41 = .ok (.iload_n 3, 1) := dk_29 (dk_at dksX0_ahead_1 17 rfl rfl)
theorem dX0_ahead_42 : decode cX0_ahead 42 = .ok (.ifCond .ne 14, 3) := dk_154 0 14 (dk_at dksX0_ahead_1 18 rfl rfl)
theorem dX0_ahead_45 : decode cX0_ahead 45 = .ok (.aload_n 0, 1) := dk_42 (dk_at dksX0_ahead_1 21 rfl rfl)
theorem dX0_ahead_46 : decode cX0_ahead 46 = .ok (.getfield 43, 3) := dk_180 0 43 (dk_at dksX0_ahead_2 0 rfl rfl)
theorem dX0_ahead_49 : decode cX0_ahead 49 = .ok (.iload_n 1, 1) := dk_27 (dk_at dksX0_ahead_2 3 rfl rfl)
theorem dX0_ahead_50 : decode cX0_ahead 50 = .ok (.invokestatic 230, 3) := dk_184 0 230 (dk_at dksX0_ahead_2 4 rfl rfl)
theorem dX0_ahead_53 : decode cX0_ahead 53 = .ok (.goto 29, 3) := dk_167 0 29 (dk_at dksX0_ahead_2 7 rfl rfl)
theorem dX0_ahead_56 : decode cX0_ahead 56 = .ok (.iload_n 3, 1) := dk_29 (dk_at dksX0_ahead_2 10 rfl rfl)
theorem dX0_ahead_57 : decode cX0_ahead 57 = .ok (.iconst 1, 1) := dk_4 (dk_at dksX0_ahead_2 11 rfl rfl)
theorem dX0_ahead_58 : decode cX0_ahead 58 = .ok (.if_icmp .ne 15, 3) := dk_160 0 15 (dk_at dksX0_ahead_2 12 rfl rfl)
theorem dX0_ahead_61 : decode cX0_ahead 61 = .ok (.aload_n 0, 1) := dk_42 (dk_at dksX0_ahead_2 15 rfl rfl)
theorem dX0_ahead_62 : decode cX0_ahead 62 = .ok (.getfield 43, 3) := dk_180 0 43 (dk_at dksX0_ahead_2 16 rfl rfl)
theorem dX0_ahead_65 : decode cX0_ahead 65 = .ok (.getfield 237, 3) := dk_180 0 237 (dk_at dksX0_ahead_2 19 rfl rfl)
theorem dX0_ahead_68 : decode cX0_ahead 68 = .ok (.iload_n 1, 1) := dk_27 (dk_at dksX0_ahead_2 22 rfl rfl)
theorem dX0_ahead_69 : decode cX0_ahead 69 = .ok (.iaload, 1) := dk_46 (dk_at dksX0_ahead_2 23 rfl rfl)
theorem dX0_ahead_70 : decode cX0_ahead 70 = .ok (.goto 12, 3) := dk_167 0 12 (dk_at dksX0_ahead_3 0 rfl rfl)
theorem dX0_ahead_73 : decode cX0_ahead 73 = .ok (.aload_n 0, 1) := dk_42 (dk_at dksX0_ahead_3 3 rfl rfl)
theorem dX0_ahead_74 : decode cX0_ahead 74 = .ok (.getfield 43, 3) := dk_180 0 43 (dk_at dksX0_ahead_3 4 rfl rfl)
theorem dX0_ahead_77 : decode cX0_ahead 77 = .ok (.getfield 234, 3) := dk_180 0 234 (dk_at dksX0_ahead_3 7 rfl rfl)
theorem dX0_ahead_80 : decode cX0_ahead 80 = .ok (.iload_n 1, 1) := dk_27 (dk_at dksX0_ahead_3 10 rfl rfl)
theorem dX0_ahead_81 : decode cX0_ahead 81 = .ok (.iaload, 1) := dk_46 (dk_at dksX0_ahead_3 11 rfl rfl)
theorem dX0_ahead_82 : decode cX0_ahead 82 = .ok (.ireturn, 1) := dk_172 (dk_at dksX0_ahead_3 12 rfl rfl)
abbrev cX0_isFar : ByteArray := prog_1_method_23_code
def yX0_isFar : MethodName := ⟨RX0, "isFar", "(I)Z"⟩
def dkwX0_isFar_0 : List UInt8 := [26, 133, 9, 20, 0, 177, 184, 0, 86, 172]
abbrev dktX0_isFar_0 : List UInt8 := dkwX0_isFar_0 ++ []
theorem dksX0_isFar_0 : cX0_isFar.data.toList.drop 0 = dktX0_isFar_0 := by decide +kernel
theorem dX0_isFar_0 : decode cX0_isFar 0 = .ok (.iload_n 0, 1) := dk_26 (dk_at dksX0_isFar_0 0 rfl rfl)
theorem dX0_isFar_1 : decode cX0_isFar 1 = .ok (.i2l, 1) := dk_133 (dk_at dksX0_isFar_0 1 rfl rfl)
theorem dX0_isFar_2 : decode cX0_isFar 2 = .ok (.lconst 0, 1) := dk_9 (dk_at dksX0_isFar_0 2 rfl rfl)
theorem dX0_isFar_3 : decode cX0_isFar 3 = .ok (.ldc2_w 177, 3) := dk_20 0 177 (dk_at dksX0_isFar_0 3 rfl rfl)
theorem dX0_isFar_6 : decode cX0_isFar 6 = .ok (.invokestatic 86, 3) := dk_184 0 86 (dk_at dksX0_isFar_0 6 rfl rfl)
theorem dX0_isFar_9 : decode cX0_isFar 9 = .ok (.ireturn, 1) := dk_172 (dk_at dksX0_isFar_0 9 rfl rfl)
abbrev cX0_tried : ByteArray := prog_1_method_33_code
def yX0_tried : MethodName := ⟨RX0, "tried", "()LDishLift$House;"⟩
def dkwX0_tried_0 : List UInt8 := [42, 180, 0, 43, 42, 180, 0, 39, 182, 0, 162, 176]
abbrev dktX0_tried_0 : List UInt8 := dkwX0_tried_0 ++ []
theorem dksX0_tried_0 : cX0_tried.data.toList.drop 0 = dktX0_tried_0 := by decide +kernel
theorem dX0_tried_0 : decode cX0_tried 0 = .ok (.aload_n 0, 1) := dk_42 (dk_at dksX0_tried_0 0 rfl rfl)
theorem dX0_tried_1 : decode cX0_tried 1 = .ok (.getfield 43, 3) := dk_180 0 43 (dk_at dksX0_tried_0 1 rfl rfl)
theorem dX0_tried_4 : decode cX0_tried 4 = .ok (.aload_n 0, 1) := dk_42 (dk_at dksX0_tried_0 4 rfl rfl)
theorem dX0_tried_5 : decode cX0_tried 5 = .ok (.getfield 39, 3) := dk_180 0 39 (dk_at dksX0_tried_0 5 rfl rfl)
theorem dX0_tried_8 : decode cX0_tried 8 = .ok (.invokevirtual 162, 3) := dk_182 0 162 (dk_at dksX0_tried_0 8 rfl rfl)
theorem dX0_tried_11 : decode cX0_tried 11 = .ok (.areturn, 1) := dk_176 (dk_at dksX0_tried_0 11 rfl rfl)
abbrev cX0_goOn : ByteArray := prog_1_method_34_code
def yX0_goOn : MethodName := ⟨RX0, "goOn", "(I)LDishLift$House;"⟩
def dkwX0_goOn_1 : List UInt8 := [180, 0, 43, 176]
abbrev dktX0_goOn_1 : List UInt8 := dkwX0_goOn_1 ++ []
def dkwX0_goOn_0 : List UInt8 := [3, 61, 28, 27, 162, 0, 17, 42, 180, 0, 43, 182, 0, 193, 87, 132, 2, 1, 167, 255, 240, 42]
abbrev dktX0_goOn_0 : List UInt8 := dkwX0_goOn_0 ++ dktX0_goOn_1
theorem dksX0_goOn_0 : cX0_goOn.data.toList.drop 0 = dktX0_goOn_0 := by decide +kernel
theorem dksX0_goOn_1 : cX0_goOn.data.toList.drop 22 = dktX0_goOn_1 := dk_seg dksX0_goOn_0 22 rfl rfl
theorem dX0_goOn_0 : decode cX0_goOn 0 = .ok (.iconst 0, 1) := dk_3 (dk_at dksX0_goOn_0 0 rfl rfl)
theorem dX0_goOn_1 : decode cX0_goOn 1 = .ok (.istore_n 2, 1) := dk_61 (dk_at dksX0_goOn_0 1 rfl rfl)
theorem dX0_goOn_2 : decode cX0_goOn 2 = .ok (.iload_n 2, 1) := dk_28 (dk_at dksX0_goOn_0 2 rfl rfl)
theorem dX0_goOn_3 : decode cX0_goOn 3 = .ok (.iload_n 1, 1) := dk_27 (dk_at dksX0_goOn_0 3 rfl rfl)
theorem dX0_goOn_4 : decode cX0_goOn 4 = .ok (.if_icmp .ge 17, 3) := dk_162 0 17 (dk_at dksX0_goOn_0 4 rfl rfl)
theorem dX0_goOn_7 : decode cX0_goOn 7 = .ok (.aload_n 0, 1) := dk_42 (dk_at dksX0_goOn_0 7 rfl rfl)
theorem dX0_goOn_8 : decode cX0_goOn 8 = .ok (.getfield 43, 3) := dk_180 0 43 (dk_at dksX0_goOn_0 8 rfl rfl)
theorem dX0_goOn_11 : decode cX0_goOn 11 = .ok (.invokevirtual 193, 3) := dk_182 0 193 (dk_at dksX0_goOn_0 11 rfl rfl)
theorem dX0_goOn_14 : decode cX0_goOn 14 = .ok (.pop, 1) := dk_87 (dk_at dksX0_goOn_0 14 rfl rfl)
theorem dX0_goOn_15 : decode cX0_goOn 15 = .ok (.iinc 2 1, 3) := dk_132 2 1 (dk_at dksX0_goOn_0 15 rfl rfl)
theorem dX0_goOn_18 : decode cX0_goOn 18 = .ok (.goto (-16), 3) := dk_167 255 240 (dk_at dksX0_goOn_0 18 rfl rfl)
theorem dX0_goOn_21 : decode cX0_goOn 21 = .ok (.aload_n 0, 1) := dk_42 (dk_at dksX0_goOn_0 21 rfl rfl)
theorem dX0_goOn_22 : decode cX0_goOn 22 = .ok (.getfield 43, 3) := dk_180 0 43 (dk_at dksX0_goOn_1 0 rfl rfl)
theorem dX0_goOn_25 : decode cX0_goOn 25 = .ok (.areturn, 1) := dk_176 (dk_at dksX0_goOn_1 3 rfl rfl)
abbrev cX0_later : ByteArray := prog_1_method_36_code
def yX0_later : MethodName := ⟨RX0, "later", "(I)I"⟩
def dkwX0_later_1 : List UInt8 := [87, 42, 27, 182, 1, 6, 180, 0, 203, 172]
abbrev dktX0_later_1 : List UInt8 := dkwX0_later_1 ++ []
def dkwX0_later_0 : List UInt8 := [42, 182, 0, 181, 154, 0, 6, 18, 173, 172, 27, 184, 1, 0, 154, 0, 6, 18, 100, 172, 42, 182, 1, 3]
abbrev dktX0_later_0 : List UInt8 := dkwX0_later_0 ++ dktX0_later_1
theorem dksX0_later_0 : cX0_later.data.toList.drop 0 = dktX0_later_0 := by decide +kernel
theorem dksX0_later_1 : cX0_later.data.toList.drop 24 = dktX0_later_1 := dk_seg dksX0_later_0 24 rfl rfl
theorem dX0_later_0 : decode cX0_later 0 = .ok (.aload_n 0, 1) := dk_42 (dk_at dksX0_later_0 0 rfl rfl)
theorem dX0_later_1 : decode cX0_later 1 = .ok (.invokevirtual 181, 3) := dk_182 0 181 (dk_at dksX0_later_0 1 rfl rfl)
theorem dX0_later_4 : decode cX0_later 4 = .ok (.ifCond .ne 6, 3) := dk_154 0 6 (dk_at dksX0_later_0 4 rfl rfl)
theorem dX0_later_7 : decode cX0_later 7 = .ok (.ldc 173, 2) := dk_18 173 (dk_at dksX0_later_0 7 rfl rfl)
theorem dX0_later_9 : decode cX0_later 9 = .ok (.ireturn, 1) := dk_172 (dk_at dksX0_later_0 9 rfl rfl)
theorem dX0_later_10 : decode cX0_later 10 = .ok (.iload_n 1, 1) := dk_27 (dk_at dksX0_later_0 10 rfl rfl)
theorem dX0_later_11 : decode cX0_later 11 = .ok (.invokestatic 256, 3) := dk_184 1 0 (dk_at dksX0_later_0 11 rfl rfl)
theorem dX0_later_14 : decode cX0_later 14 = .ok (.ifCond .ne 6, 3) := dk_154 0 6 (dk_at dksX0_later_0 14 rfl rfl)
theorem dX0_later_17 : decode cX0_later 17 = .ok (.ldc 100, 2) := dk_18 100 (dk_at dksX0_later_0 17 rfl rfl)
theorem dX0_later_19 : decode cX0_later 19 = .ok (.ireturn, 1) := dk_172 (dk_at dksX0_later_0 19 rfl rfl)
theorem dX0_later_20 : decode cX0_later 20 = .ok (.aload_n 0, 1) := dk_42 (dk_at dksX0_later_0 20 rfl rfl)
theorem dX0_later_21 : decode cX0_later 21 = .ok (.invokevirtual 259, 3) := dk_182 1 3 (dk_at dksX0_later_0 21 rfl rfl)
theorem dX0_later_24 : decode cX0_later 24 = .ok (.pop, 1) := dk_87 (dk_at dksX0_later_1 0 rfl rfl)
theorem dX0_later_25 : decode cX0_later 25 = .ok (.aload_n 0, 1) := dk_42 (dk_at dksX0_later_1 1 rfl rfl)
theorem dX0_later_26 : decode cX0_later 26 = .ok (.iload_n 1, 1) := dk_27 (dk_at dksX0_later_1 2 rfl rfl)
theorem dX0_later_27 : decode cX0_later 27 = .ok (.invokevirtual 262, 3) := dk_182 1 6 (dk_at dksX0_later_1 3 rfl rfl)
theorem dX0_later_30 : decode cX0_later 30 = .ok (.getfield 203, 3) := dk_180 0 203 (dk_at dksX0_later_1 6 rfl rfl)
theorem dX0_later_33 : decode cX0_later 33 = .ok (.ireturn, 1) := dk_172 (dk_at dksX0_later_1 9 rfl rfl)
abbrev cX0_when : ByteArray := prog_1_method_37_code
def yX0_when : MethodName := ⟨RX0, "when", "(I)I"⟩
def dkwX0_when_2 : List UInt8 := [132, 2, 1, 167, 255, 224, 19, 1, 10, 172]
abbrev dktX0_when_2 : List UInt8 := dkwX0_when_2 ++ []
def dkwX0_when_1 : List UInt8 := [42, 180, 0, 43, 180, 0, 217, 27, 46, 5, 160, 0, 5, 28, 172, 42, 180, 0, 43, 182, 0, 193, 87]
abbrev dktX0_when_1 : List UInt8 := dkwX0_when_1 ++ dktX0_when_2
def dkwX0_when_0 : List UInt8 := [42, 27, 182, 0, 214, 154, 0, 6, 18, 100, 172, 42, 182, 1, 3, 87, 3, 61, 28, 16, 60, 163, 0, 32]
abbrev dktX0_when_0 : List UInt8 := dkwX0_when_0 ++ dktX0_when_1
theorem dksX0_when_0 : cX0_when.data.toList.drop 0 = dktX0_when_0 := by decide +kernel
theorem dksX0_when_1 : cX0_when.data.toList.drop 24 = dktX0_when_1 := dk_seg dksX0_when_0 24 rfl rfl
theorem dksX0_when_2 : cX0_when.data.toList.drop 47 = dktX0_when_2 := dk_seg dksX0_when_1 23 rfl rfl
theorem dX0_when_0 : decode cX0_when 0 = .ok (.aload_n 0, 1) := dk_42 (dk_at dksX0_when_0 0 rfl rfl)
theorem dX0_when_1 : decode cX0_when 1 = .ok (.iload_n 1, 1) := dk_27 (dk_at dksX0_when_0 1 rfl rfl)
theorem dX0_when_2 : decode cX0_when 2 = .ok (.invokevirtual 214, 3) := dk_182 0 214 (dk_at dksX0_when_0 2 rfl rfl)
theorem dX0_when_5 : decode cX0_when 5 = .ok (.ifCond .ne 6, 3) := dk_154 0 6 (dk_at dksX0_when_0 5 rfl rfl)
theorem dX0_when_8 : decode cX0_when 8 = .ok (.ldc 100, 2) := dk_18 100 (dk_at dksX0_when_0 8 rfl rfl)
theorem dX0_when_10 : decode cX0_when 10 = .ok (.ireturn, 1) := dk_172 (dk_at dksX0_when_0 10 rfl rfl)
theorem dX0_when_11 : decode cX0_when 11 = .ok (.aload_n 0, 1) := dk_42 (dk_at dksX0_when_0 11 rfl rfl)
theorem dX0_when_12 : decode cX0_when 12 = .ok (.invokevirtual 259, 3) := dk_182 1 3 (dk_at dksX0_when_0 12 rfl rfl)
theorem dX0_when_15 : decode cX0_when 15 = .ok (.pop, 1) := dk_87 (dk_at dksX0_when_0 15 rfl rfl)
theorem dX0_when_16 : decode cX0_when 16 = .ok (.iconst 0, 1) := dk_3 (dk_at dksX0_when_0 16 rfl rfl)
theorem dX0_when_17 : decode cX0_when 17 = .ok (.istore_n 2, 1) := dk_61 (dk_at dksX0_when_0 17 rfl rfl)
theorem dX0_when_18 : decode cX0_when 18 = .ok (.iload_n 2, 1) := dk_28 (dk_at dksX0_when_0 18 rfl rfl)
theorem dX0_when_19 : decode cX0_when 19 = .ok (.bipush 60, 2) := dk_16 60 (dk_at dksX0_when_0 19 rfl rfl)
theorem dX0_when_21 : decode cX0_when 21 = .ok (.if_icmp .gt 32, 3) := dk_163 0 32 (dk_at dksX0_when_0 21 rfl rfl)
theorem dX0_when_24 : decode cX0_when 24 = .ok (.aload_n 0, 1) := dk_42 (dk_at dksX0_when_1 0 rfl rfl)
theorem dX0_when_25 : decode cX0_when 25 = .ok (.getfield 43, 3) := dk_180 0 43 (dk_at dksX0_when_1 1 rfl rfl)
theorem dX0_when_28 : decode cX0_when 28 = .ok (.getfield 217, 3) := dk_180 0 217 (dk_at dksX0_when_1 4 rfl rfl)
theorem dX0_when_31 : decode cX0_when 31 = .ok (.iload_n 1, 1) := dk_27 (dk_at dksX0_when_1 7 rfl rfl)
theorem dX0_when_32 : decode cX0_when 32 = .ok (.iaload, 1) := dk_46 (dk_at dksX0_when_1 8 rfl rfl)
theorem dX0_when_33 : decode cX0_when 33 = .ok (.iconst 2, 1) := dk_5 (dk_at dksX0_when_1 9 rfl rfl)
theorem dX0_when_34 : decode cX0_when 34 = .ok (.if_icmp .ne 5, 3) := dk_160 0 5 (dk_at dksX0_when_1 10 rfl rfl)
theorem dX0_when_37 : decode cX0_when 37 = .ok (.iload_n 2, 1) := dk_28 (dk_at dksX0_when_1 13 rfl rfl)
theorem dX0_when_38 : decode cX0_when 38 = .ok (.ireturn, 1) := dk_172 (dk_at dksX0_when_1 14 rfl rfl)
theorem dX0_when_39 : decode cX0_when 39 = .ok (.aload_n 0, 1) := dk_42 (dk_at dksX0_when_1 15 rfl rfl)
theorem dX0_when_40 : decode cX0_when 40 = .ok (.getfield 43, 3) := dk_180 0 43 (dk_at dksX0_when_1 16 rfl rfl)
theorem dX0_when_43 : decode cX0_when 43 = .ok (.invokevirtual 193, 3) := dk_182 0 193 (dk_at dksX0_when_1 19 rfl rfl)
theorem dX0_when_46 : decode cX0_when 46 = .ok (.pop, 1) := dk_87 (dk_at dksX0_when_1 22 rfl rfl)
theorem dX0_when_47 : decode cX0_when 47 = .ok (.iinc 2 1, 3) := dk_132 2 1 (dk_at dksX0_when_2 0 rfl rfl)
theorem dX0_when_50 : decode cX0_when 50 = .ok (.goto (-32), 3) := dk_167 255 224 (dk_at dksX0_when_2 3 rfl rfl)
theorem dX0_when_53 : decode cX0_when 53 = .ok (.ldc_w 266, 3) := dk_19 1 10 (dk_at dksX0_when_2 6 rfl rfl)
theorem dX0_when_56 : decode cX0_when 56 = .ok (.ireturn, 1) := dk_172 (dk_at dksX0_when_2 9 rfl rfl)
abbrev cX0_done : ByteArray := prog_1_method_38_code
def yX0_done : MethodName := ⟨RX0, "done", "()I"⟩
def dkwX0_done_2 : List UInt8 := [167, 255, 227, 19, 1, 10, 172]
abbrev dktX0_done_2 : List UInt8 := dkwX0_done_2 ++ []
def dkwX0_done_1 : List UInt8 := [180, 0, 43, 182, 1, 11, 153, 0, 5, 27, 172, 42, 180, 0, 43, 182, 0, 193, 87, 132, 1, 1]
abbrev dktX0_done_1 : List UInt8 := dkwX0_done_1 ++ dktX0_done_2
def dkwX0_done_0 : List UInt8 := [42, 182, 0, 181, 154, 0, 6, 18, 173, 172, 42, 182, 1, 3, 87, 3, 60, 27, 16, 60, 163, 0, 29, 42]
abbrev dktX0_done_0 : List UInt8 := dkwX0_done_0 ++ dktX0_done_1
theorem dksX0_done_0 : cX0_done.data.toList.drop 0 = dktX0_done_0 := by decide +kernel
theorem dksX0_done_1 : cX0_done.data.toList.drop 24 = dktX0_done_1 := dk_seg dksX0_done_0 24 rfl rfl
theorem dksX0_done_2 : cX0_done.data.toList.drop 46 = dktX0_done_2 := dk_seg dksX0_done_1 22 rfl rfl
theorem dX0_done_0 : decode cX0_done 0 = .ok (.aload_n 0, 1) := dk_42 (dk_at dksX0_done_0 0 rfl rfl)
theorem dX0_done_1 : decode cX0_done 1 = .ok (.invokevirtual 181, 3) := dk_182 0 181 (dk_at dksX0_done_0 1 rfl rfl)
theorem dX0_done_4 : decode cX0_done 4 = .ok (.ifCond .ne 6, 3) := dk_154 0 6 (dk_at dksX0_done_0 4 rfl rfl)
theorem dX0_done_7 : decode cX0_done 7 = .ok (.ldc 173, 2) := dk_18 173 (dk_at dksX0_done_0 7 rfl rfl)
theorem dX0_done_9 : decode cX0_done 9 = .ok (.ireturn, 1) := dk_172 (dk_at dksX0_done_0 9 rfl rfl)
theorem dX0_done_10 : decode cX0_done 10 = .ok (.aload_n 0, 1) := dk_42 (dk_at dksX0_done_0 10 rfl rfl)
theorem dX0_done_11 : decode cX0_done 11 = .ok (.invokevirtual 259, 3) := dk_182 1 3 (dk_at dksX0_done_0 11 rfl rfl)
theorem dX0_done_14 : decode cX0_done 14 = .ok (.pop, 1) := dk_87 (dk_at dksX0_done_0 14 rfl rfl)
theorem dX0_done_15 : decode cX0_done 15 = .ok (.iconst 0, 1) := dk_3 (dk_at dksX0_done_0 15 rfl rfl)
theorem dX0_done_16 : decode cX0_done 16 = .ok (.istore_n 1, 1) := dk_60 (dk_at dksX0_done_0 16 rfl rfl)
theorem dX0_done_17 : decode cX0_done 17 = .ok (.iload_n 1, 1) := dk_27 (dk_at dksX0_done_0 17 rfl rfl)
theorem dX0_done_18 : decode cX0_done 18 = .ok (.bipush 60, 2) := dk_16 60 (dk_at dksX0_done_0 18 rfl rfl)
theorem dX0_done_20 : decode cX0_done 20 = .ok (.if_icmp .gt 29, 3) := dk_163 0 29 (dk_at dksX0_done_0 20 rfl rfl)
theorem dX0_done_23 : decode cX0_done 23 = .ok (.aload_n 0, 1) := dk_42 (dk_at dksX0_done_0 23 rfl rfl)
theorem dX0_done_24 : decode cX0_done 24 = .ok (.getfield 43, 3) := dk_180 0 43 (dk_at dksX0_done_1 0 rfl rfl)
theorem dX0_done_27 : decode cX0_done 27 = .ok (.invokevirtual 267, 3) := dk_182 1 11 (dk_at dksX0_done_1 3 rfl rfl)
theorem dX0_done_30 : decode cX0_done 30 = .ok (.ifCond .eq 5, 3) := dk_153 0 5 (dk_at dksX0_done_1 6 rfl rfl)
theorem dX0_done_33 : decode cX0_done 33 = .ok (.iload_n 1, 1) := dk_27 (dk_at dksX0_done_1 9 rfl rfl)
theorem dX0_done_34 : decode cX0_done 34 = .ok (.ireturn, 1) := dk_172 (dk_at dksX0_done_1 10 rfl rfl)
theorem dX0_done_35 : decode cX0_done 35 = .ok (.aload_n 0, 1) := dk_42 (dk_at dksX0_done_1 11 rfl rfl)
theorem dX0_done_36 : decode cX0_done 36 = .ok (.getfield 43, 3) := dk_180 0 43 (dk_at dksX0_done_1 12 rfl rfl)
theorem dX0_done_39 : decode cX0_done 39 = .ok (.invokevirtual 193, 3) := dk_182 0 193 (dk_at dksX0_done_1 15 rfl rfl)
theorem dX0_done_42 : decode cX0_done 42 = .ok (.pop, 1) := dk_87 (dk_at dksX0_done_1 18 rfl rfl)
theorem dX0_done_43 : decode cX0_done 43 = .ok (.iinc 1 1, 3) := dk_132 1 1 (dk_at dksX0_done_1 19 rfl rfl)
theorem dX0_done_46 : decode cX0_done 46 = .ok (.goto (-29), 3) := dk_167 255 227 (dk_at dksX0_done_2 0 rfl rfl)
theorem dX0_done_49 : decode cX0_done 49 = .ok (.ldc_w 266, 3) := dk_19 1 10 (dk_at dksX0_done_2 3 rfl rfl)
theorem dX0_done_52 : decode cX0_done 52 = .ok (.ireturn, 1) := dk_172 (dk_at dksX0_done_2 6 rfl rfl)
abbrev cX0_fine : ByteArray := prog_1_method_39_code
def yX0_fine : MethodName := ⟨RX0, "fine", "(I)I"⟩
def dkwX0_fine_1 : List UInt8 := [87, 42, 27, 182, 1, 6, 182, 1, 14, 172]
abbrev dktX0_fine_1 : List UInt8 := dkwX0_fine_1 ++ []
def dkwX0_fine_0 : List UInt8 := [42, 182, 0, 181, 154, 0, 6, 18, 173, 172, 27, 184, 1, 0, 154, 0, 6, 18, 100, 172, 42, 182, 1, 3]
abbrev dktX0_fine_0 : List UInt8 := dkwX0_fine_0 ++ dktX0_fine_1
theorem dksX0_fine_0 : cX0_fine.data.toList.drop 0 = dktX0_fine_0 := by decide +kernel
theorem dksX0_fine_1 : cX0_fine.data.toList.drop 24 = dktX0_fine_1 := dk_seg dksX0_fine_0 24 rfl rfl
theorem dX0_fine_0 : decode cX0_fine 0 = .ok (.aload_n 0, 1) := dk_42 (dk_at dksX0_fine_0 0 rfl rfl)
theorem dX0_fine_1 : decode cX0_fine 1 = .ok (.invokevirtual 181, 3) := dk_182 0 181 (dk_at dksX0_fine_0 1 rfl rfl)
theorem dX0_fine_4 : decode cX0_fine 4 = .ok (.ifCond .ne 6, 3) := dk_154 0 6 (dk_at dksX0_fine_0 4 rfl rfl)
theorem dX0_fine_7 : decode cX0_fine 7 = .ok (.ldc 173, 2) := dk_18 173 (dk_at dksX0_fine_0 7 rfl rfl)
theorem dX0_fine_9 : decode cX0_fine 9 = .ok (.ireturn, 1) := dk_172 (dk_at dksX0_fine_0 9 rfl rfl)
theorem dX0_fine_10 : decode cX0_fine 10 = .ok (.iload_n 1, 1) := dk_27 (dk_at dksX0_fine_0 10 rfl rfl)
theorem dX0_fine_11 : decode cX0_fine 11 = .ok (.invokestatic 256, 3) := dk_184 1 0 (dk_at dksX0_fine_0 11 rfl rfl)
theorem dX0_fine_14 : decode cX0_fine 14 = .ok (.ifCond .ne 6, 3) := dk_154 0 6 (dk_at dksX0_fine_0 14 rfl rfl)
theorem dX0_fine_17 : decode cX0_fine 17 = .ok (.ldc 100, 2) := dk_18 100 (dk_at dksX0_fine_0 17 rfl rfl)
theorem dX0_fine_19 : decode cX0_fine 19 = .ok (.ireturn, 1) := dk_172 (dk_at dksX0_fine_0 19 rfl rfl)
theorem dX0_fine_20 : decode cX0_fine 20 = .ok (.aload_n 0, 1) := dk_42 (dk_at dksX0_fine_0 20 rfl rfl)
theorem dX0_fine_21 : decode cX0_fine 21 = .ok (.invokevirtual 259, 3) := dk_182 1 3 (dk_at dksX0_fine_0 21 rfl rfl)
theorem dX0_fine_24 : decode cX0_fine 24 = .ok (.pop, 1) := dk_87 (dk_at dksX0_fine_1 0 rfl rfl)
theorem dX0_fine_25 : decode cX0_fine 25 = .ok (.aload_n 0, 1) := dk_42 (dk_at dksX0_fine_1 1 rfl rfl)
theorem dX0_fine_26 : decode cX0_fine 26 = .ok (.iload_n 1, 1) := dk_27 (dk_at dksX0_fine_1 2 rfl rfl)
theorem dX0_fine_27 : decode cX0_fine 27 = .ok (.invokevirtual 262, 3) := dk_182 1 6 (dk_at dksX0_fine_1 3 rfl rfl)
theorem dX0_fine_30 : decode cX0_fine 30 = .ok (.invokevirtual 270, 3) := dk_182 1 14 (dk_at dksX0_fine_1 6 rfl rfl)
theorem dX0_fine_33 : decode cX0_fine 33 = .ok (.ireturn, 1) := dk_172 (dk_at dksX0_fine_1 9 rfl rfl)
abbrev cX0_site : ByteArray := prog_1_method_40_code
def yX0_site : MethodName := ⟨RX0, "site", "(II)I"⟩
def dkwX0_site_4 : List UInt8 := [167, 255, 196, 28, 154, 0, 7, 29, 167, 0, 5, 21, 4, 172]
abbrev dktX0_site_4 : List UInt8 := dkwX0_site_4 ++ []
def dkwX0_site_3 : List UInt8 := [21, 4, 164, 0, 8, 21, 5, 167, 0, 4, 29, 62, 21, 4, 21, 6, 184, 1, 28, 54, 4, 132, 5, 1]
abbrev dktX0_site_3 : List UInt8 := dkwX0_site_3 ++ dktX0_site_4
def dkwX0_site_2 : List UInt8 := [182, 1, 3, 21, 5, 181, 0, 203, 42, 27, 182, 1, 6, 182, 1, 14, 184, 1, 23, 54, 6, 21, 6]
abbrev dktX0_site_2 : List UInt8 := dkwX0_site_2 ++ dktX0_site_3
def dkwX0_site_1 : List UInt8 := [18, 100, 172, 3, 62, 2, 54, 4, 3, 54, 5, 21, 5, 42, 180, 0, 39, 180, 0, 174, 162, 0, 54, 42]
abbrev dktX0_site_1 : List UInt8 := dkwX0_site_1 ++ dktX0_site_2
def dkwX0_site_0 : List UInt8 := [42, 182, 0, 181, 154, 0, 6, 18, 173, 172, 27, 184, 1, 17, 153, 0, 10, 28, 184, 1, 20, 154, 0, 6]
abbrev dktX0_site_0 : List UInt8 := dkwX0_site_0 ++ dktX0_site_1
theorem dksX0_site_0 : cX0_site.data.toList.drop 0 = dktX0_site_0 := by decide +kernel
theorem dksX0_site_1 : cX0_site.data.toList.drop 24 = dktX0_site_1 := dk_seg dksX0_site_0 24 rfl rfl
theorem dksX0_site_2 : cX0_site.data.toList.drop 48 = dktX0_site_2 := dk_seg dksX0_site_1 24 rfl rfl
theorem dksX0_site_3 : cX0_site.data.toList.drop 71 = dktX0_site_3 := dk_seg dksX0_site_2 23 rfl rfl
theorem dksX0_site_4 : cX0_site.data.toList.drop 95 = dktX0_site_4 := dk_seg dksX0_site_3 24 rfl rfl
theorem dX0_site_0 : decode cX0_site 0 = .ok (.aload_n 0, 1) := dk_42 (dk_at dksX0_site_0 0 rfl rfl)
theorem dX0_site_1 : decode cX0_site 1 = .ok (.invokevirtual 181, 3) := dk_182 0 181 (dk_at dksX0_site_0 1 rfl rfl)
theorem dX0_site_4 : decode cX0_site 4 = .ok (.ifCond .ne 6, 3) := dk_154 0 6 (dk_at dksX0_site_0 4 rfl rfl)
theorem dX0_site_7 : decode cX0_site 7 = .ok (.ldc 173, 2) := dk_18 173 (dk_at dksX0_site_0 7 rfl rfl)
theorem dX0_site_9 : decode cX0_site 9 = .ok (.ireturn, 1) := dk_172 (dk_at dksX0_site_0 9 rfl rfl)
theorem dX0_site_10 : decode cX0_site 10 = .ok (.iload_n 1, 1) := dk_27 (dk_at dksX0_site_0 10 rfl rfl)
theorem dX0_site_11 : decode cX0_site 11 = .ok (.invokestatic 273, 3) := dk_184 1 17 (dk_at dksX0_site_0 11 rfl rfl)
theorem dX0_site_14 : decode cX0_site 14 = .ok (.ifCond .eq 10, 3) := dk_153 0 10 (dk_at dksX0_site_0 14 rfl rfl)
theorem dX0_site_17 : decode cX0_site 17 = .ok (.iload_n 2, 1) := dk_28 (dk_at dksX0_site_0 17 rfl rfl)
theorem dX0_site_18 : decode cX0_site 18 = .ok (.invokestatic 276, 3) := dk_184 1 20 (dk_at dksX0_site_0 18 rfl rfl)
theorem dX0_site_21 : decode cX0_site 21 = .ok (.ifCond .ne 6, 3) := dk_154 0 6 (dk_at dksX0_site_0 21 rfl rfl)
theorem dX0_site_24 : decode cX0_site 24 = .ok (.ldc 100, 2) := dk_18 100 (dk_at dksX0_site_1 0 rfl rfl)
theorem dX0_site_26 : decode cX0_site 26 = .ok (.ireturn, 1) := dk_172 (dk_at dksX0_site_1 2 rfl rfl)
theorem dX0_site_27 : decode cX0_site 27 = .ok (.iconst 0, 1) := dk_3 (dk_at dksX0_site_1 3 rfl rfl)
theorem dX0_site_28 : decode cX0_site 28 = .ok (.istore_n 3, 1) := dk_62 (dk_at dksX0_site_1 4 rfl rfl)
theorem dX0_site_29 : decode cX0_site 29 = .ok (.iconst (-1), 1) := dk_2 (dk_at dksX0_site_1 5 rfl rfl)
theorem dX0_site_30 : decode cX0_site 30 = .ok (.istore 4, 2) := dk_54 4 (dk_at dksX0_site_1 6 rfl rfl)
theorem dX0_site_32 : decode cX0_site 32 = .ok (.iconst 0, 1) := dk_3 (dk_at dksX0_site_1 8 rfl rfl)
theorem dX0_site_33 : decode cX0_site 33 = .ok (.istore 5, 2) := dk_54 5 (dk_at dksX0_site_1 9 rfl rfl)
theorem dX0_site_35 : decode cX0_site 35 = .ok (.iload 5, 2) := dk_21 5 (dk_at dksX0_site_1 11 rfl rfl)
theorem dX0_site_37 : decode cX0_site 37 = .ok (.aload_n 0, 1) := dk_42 (dk_at dksX0_site_1 13 rfl rfl)
theorem dX0_site_38 : decode cX0_site 38 = .ok (.getfield 39, 3) := dk_180 0 39 (dk_at dksX0_site_1 14 rfl rfl)
theorem dX0_site_41 : decode cX0_site 41 = .ok (.getfield 174, 3) := dk_180 0 174 (dk_at dksX0_site_1 17 rfl rfl)
theorem dX0_site_44 : decode cX0_site 44 = .ok (.if_icmp .ge 54, 3) := dk_162 0 54 (dk_at dksX0_site_1 20 rfl rfl)
theorem dX0_site_47 : decode cX0_site 47 = .ok (.aload_n 0, 1) := dk_42 (dk_at dksX0_site_1 23 rfl rfl)
theorem dX0_site_48 : decode cX0_site 48 = .ok (.invokevirtual 259, 3) := dk_182 1 3 (dk_at dksX0_site_2 0 rfl rfl)
theorem dX0_site_51 : decode cX0_site 51 = .ok (.iload 5, 2) := dk_21 5 (dk_at dksX0_site_2 3 rfl rfl)
theorem dX0_site_53 : decode cX0_site 53 = .ok (.putfield 203, 3) := dk_181 0 203 (dk_at dksX0_site_2 5 rfl rfl)
theorem dX0_site_56 : decode cX0_site 56 = .ok (.aload_n 0, 1) := dk_42 (dk_at dksX0_site_2 8 rfl rfl)
theorem dX0_site_57 : decode cX0_site 57 = .ok (.iload_n 1, 1) := dk_27 (dk_at dksX0_site_2 9 rfl rfl)
theorem dX0_site_58 : decode cX0_site 58 = .ok (.invokevirtual 262, 3) := dk_182 1 6 (dk_at dksX0_site_2 10 rfl rfl)
theorem dX0_site_61 : decode cX0_site 61 = .ok (.invokevirtual 270, 3) := dk_182 1 14 (dk_at dksX0_site_2 13 rfl rfl)
theorem dX0_site_64 : decode cX0_site 64 = .ok (.invokestatic 279, 3) := dk_184 1 23 (dk_at dksX0_site_2 16 rfl rfl)
theorem dX0_site_67 : decode cX0_site 67 = .ok (.istore 6, 2) := dk_54 6 (dk_at dksX0_site_2 19 rfl rfl)
theorem dX0_site_69 : decode cX0_site 69 = .ok (.iload 6, 2) := dk_21 6 (dk_at dksX0_site_2 21 rfl rfl)
theorem dX0_site_71 : decode cX0_site 71 = .ok (.iload 4, 2) := dk_21 4 (dk_at dksX0_site_3 0 rfl rfl)
theorem dX0_site_73 : decode cX0_site 73 = .ok (.if_icmp .le 8, 3) := dk_164 0 8 (dk_at dksX0_site_3 2 rfl rfl)
theorem dX0_site_76 : decode cX0_site 76 = .ok (.iload 5, 2) := dk_21 5 (dk_at dksX0_site_3 5 rfl rfl)
theorem dX0_site_78 : decode cX0_site 78 = .ok (.goto 4, 3) := dk_167 0 4 (dk_at dksX0_site_3 7 rfl rfl)
theorem dX0_site_81 : decode cX0_site 81 = .ok (.iload_n 3, 1) := dk_29 (dk_at dksX0_site_3 10 rfl rfl)
theorem dX0_site_82 : decode cX0_site 82 = .ok (.istore_n 3, 1) := dk_62 (dk_at dksX0_site_3 11 rfl rfl)
theorem dX0_site_83 : decode cX0_site 83 = .ok (.iload 4, 2) := dk_21 4 (dk_at dksX0_site_3 12 rfl rfl)
theorem dX0_site_85 : decode cX0_site 85 = .ok (.iload 6, 2) := dk_21 6 (dk_at dksX0_site_3 14 rfl rfl)
theorem dX0_site_87 : decode cX0_site 87 = .ok (.invokestatic 284, 3) := dk_184 1 28 (dk_at dksX0_site_3 16 rfl rfl)
theorem dX0_site_90 : decode cX0_site 90 = .ok (.istore 4, 2) := dk_54 4 (dk_at dksX0_site_3 19 rfl rfl)
theorem dX0_site_92 : decode cX0_site 92 = .ok (.iinc 5 1, 3) := dk_132 5 1 (dk_at dksX0_site_3 21 rfl rfl)
theorem dX0_site_95 : decode cX0_site 95 = .ok (.goto (-60), 3) := dk_167 255 196 (dk_at dksX0_site_4 0 rfl rfl)
theorem dX0_site_98 : decode cX0_site 98 = .ok (.iload_n 2, 1) := dk_28 (dk_at dksX0_site_4 3 rfl rfl)
theorem dX0_site_99 : decode cX0_site 99 = .ok (.ifCond .ne 7, 3) := dk_154 0 7 (dk_at dksX0_site_4 4 rfl rfl)
theorem dX0_site_102 : decode cX0_site 102 = .ok (.iload_n 3, 1) := dk_29 (dk_at dksX0_site_4 7 rfl rfl)
theorem dX0_site_103 : decode cX0_site 103 = .ok (.goto 5, 3) := dk_167 0 5 (dk_at dksX0_site_4 8 rfl rfl)
theorem dX0_site_106 : decode cX0_site 106 = .ok (.iload 4, 2) := dk_21 4 (dk_at dksX0_site_4 11 rfl rfl)
theorem dX0_site_108 : decode cX0_site 108 = .ok (.ireturn, 1) := dk_172 (dk_at dksX0_site_4 13 rfl rfl)
abbrev cX0_isNear : ByteArray := prog_1_method_24_code
def yX0_isNear : MethodName := ⟨RX0, "isNear", "(I)Z"⟩
def dkwX0_isNear_0 : List UInt8 := [26, 133, 10, 20, 0, 179, 184, 0, 86, 172]
abbrev dktX0_isNear_0 : List UInt8 := dkwX0_isNear_0 ++ []
theorem dksX0_isNear_0 : cX0_isNear.data.toList.drop 0 = dktX0_isNear_0 := by decide +kernel
theorem dX0_isNear_0 : decode cX0_isNear 0 = .ok (.iload_n 0, 1) := dk_26 (dk_at dksX0_isNear_0 0 rfl rfl)
theorem dX0_isNear_1 : decode cX0_isNear 1 = .ok (.i2l, 1) := dk_133 (dk_at dksX0_isNear_0 1 rfl rfl)
theorem dX0_isNear_2 : decode cX0_isNear 2 = .ok (.lconst 1, 1) := dk_10 (dk_at dksX0_isNear_0 2 rfl rfl)
theorem dX0_isNear_3 : decode cX0_isNear 3 = .ok (.ldc2_w 179, 3) := dk_20 0 179 (dk_at dksX0_isNear_0 3 rfl rfl)
theorem dX0_isNear_6 : decode cX0_isNear 6 = .ok (.invokestatic 86, 3) := dk_184 0 86 (dk_at dksX0_isNear_0 6 rfl rfl)
theorem dX0_isNear_9 : decode cX0_isNear 9 = .ok (.ireturn, 1) := dk_172 (dk_at dksX0_isNear_0 9 rfl rfl)
abbrev cX0_isHalf : ByteArray := prog_1_method_17_code
def yX0_isHalf : MethodName := ⟨RX0, "isHalf", "(I)Z"⟩
def dkwX0_isHalf_0 : List UInt8 := [26, 133, 9, 10, 184, 0, 86, 172]
abbrev dktX0_isHalf_0 : List UInt8 := dkwX0_isHalf_0 ++ []
theorem dksX0_isHalf_0 : cX0_isHalf.data.toList.drop 0 = dktX0_isHalf_0 := by decide +kernel
theorem dX0_isHalf_0 : decode cX0_isHalf 0 = .ok (.iload_n 0, 1) := dk_26 (dk_at dksX0_isHalf_0 0 rfl rfl)
theorem dX0_isHalf_1 : decode cX0_isHalf 1 = .ok (.i2l, 1) := dk_133 (dk_at dksX0_isHalf_0 1 rfl rfl)
theorem dX0_isHalf_2 : decode cX0_isHalf 2 = .ok (.lconst 0, 1) := dk_9 (dk_at dksX0_isHalf_0 2 rfl rfl)
theorem dX0_isHalf_3 : decode cX0_isHalf 3 = .ok (.lconst 1, 1) := dk_10 (dk_at dksX0_isHalf_0 3 rfl rfl)
theorem dX0_isHalf_4 : decode cX0_isHalf 4 = .ok (.invokestatic 86, 3) := dk_184 0 86 (dk_at dksX0_isHalf_0 4 rfl rfl)
theorem dX0_isHalf_7 : decode cX0_isHalf 7 = .ok (.ireturn, 1) := dk_172 (dk_at dksX0_isHalf_0 7 rfl rfl)
abbrev cX0_need : ByteArray := prog_1_method_41_code
def yX0_need : MethodName := ⟨RX0, "need", "(II)I"⟩
def dkwX0_need_4 : List UInt8 := [182, 1, 6, 182, 1, 11, 153, 0, 5, 29, 172, 132, 3, 1, 167, 255, 176, 19, 1, 10, 172]
abbrev dktX0_need_4 : List UInt8 := dkwX0_need_4 ++ []
def dkwX0_need_3 : List UInt8 := [180, 0, 43, 28, 4, 160, 0, 7, 29, 167, 0, 10, 42, 180, 0, 43, 180, 0, 206, 181, 0, 206, 42, 27]
abbrev dktX0_need_3 : List UInt8 := dkwX0_need_3 ++ dktX0_need_4
def dkwX0_need_2 : List UInt8 := [42, 180, 0, 43, 28, 154, 0, 7, 29, 167, 0, 10, 42, 180, 0, 43, 180, 0, 211, 181, 0, 211, 42]
abbrev dktX0_need_2 : List UInt8 := dkwX0_need_2 ++ dktX0_need_3
def dkwX0_need_1 : List UInt8 := [18, 100, 172, 4, 62, 29, 28, 154, 0, 7, 7, 167, 0, 5, 16, 40, 163, 0, 72, 42, 182, 1, 3, 87]
abbrev dktX0_need_1 : List UInt8 := dkwX0_need_1 ++ dktX0_need_2
def dkwX0_need_0 : List UInt8 := [42, 182, 0, 181, 154, 0, 6, 18, 173, 172, 27, 184, 1, 17, 153, 0, 10, 28, 184, 1, 20, 154, 0, 6]
abbrev dktX0_need_0 : List UInt8 := dkwX0_need_0 ++ dktX0_need_1
theorem dksX0_need_0 : cX0_need.data.toList.drop 0 = dktX0_need_0 := by decide +kernel
theorem dksX0_need_1 : cX0_need.data.toList.drop 24 = dktX0_need_1 := dk_seg dksX0_need_0 24 rfl rfl
theorem dksX0_need_2 : cX0_need.data.toList.drop 48 = dktX0_need_2 := dk_seg dksX0_need_1 24 rfl rfl
theorem dksX0_need_3 : cX0_need.data.toList.drop 71 = dktX0_need_3 := dk_seg dksX0_need_2 23 rfl rfl
theorem dksX0_need_4 : cX0_need.data.toList.drop 95 = dktX0_need_4 := dk_seg dksX0_need_3 24 rfl rfl
theorem dX0_need_0 : decode cX0_need 0 = .ok (.aload_n 0, 1) := dk_42 (dk_at dksX0_need_0 0 rfl rfl)
theorem dX0_need_1 : decode cX0_need 1 = .ok (.invokevirtual 181, 3) := dk_182 0 181 (dk_at dksX0_need_0 1 rfl rfl)
theorem dX0_need_4 : decode cX0_need 4 = .ok (.ifCond .ne 6, 3) := dk_154 0 6 (dk_at dksX0_need_0 4 rfl rfl)
theorem dX0_need_7 : decode cX0_need 7 = .ok (.ldc 173, 2) := dk_18 173 (dk_at dksX0_need_0 7 rfl rfl)
theorem dX0_need_9 : decode cX0_need 9 = .ok (.ireturn, 1) := dk_172 (dk_at dksX0_need_0 9 rfl rfl)
theorem dX0_need_10 : decode cX0_need 10 = .ok (.iload_n 1, 1) := dk_27 (dk_at dksX0_need_0 10 rfl rfl)
theorem dX0_need_11 : decode cX0_need 11 = .ok (.invokestatic 273, 3) := dk_184 1 17 (dk_at dksX0_need_0 11 rfl rfl)
theorem dX0_need_14 : decode cX0_need 14 = .ok (.ifCond .eq 10, 3) := dk_153 0 10 (dk_at dksX0_need_0 14 rfl rfl)
theorem dX0_need_17 : decode cX0_need 17 = .ok (.iload_n 2, 1) := dk_28 (dk_at dksX0_need_0 17 rfl rfl)
theorem dX0_need_18 : decode cX0_need 18 = .ok (.invokestatic 276, 3) := dk_184 1 20 (dk_at dksX0_need_0 18 rfl rfl)
theorem dX0_need_21 : decode cX0_need 21 = .ok (.ifCond .ne 6, 3) := dk_154 0 6 (dk_at dksX0_need_0 21 rfl rfl)
theorem dX0_need_24 : decode cX0_need 24 = .ok (.ldc 100, 2) := dk_18 100 (dk_at dksX0_need_1 0 rfl rfl)
theorem dX0_need_26 : decode cX0_need 26 = .ok (.ireturn, 1) := dk_172 (dk_at dksX0_need_1 2 rfl rfl)
theorem dX0_need_27 : decode cX0_need 27 = .ok (.iconst 1, 1) := dk_4 (dk_at dksX0_need_1 3 rfl rfl)
theorem dX0_need_28 : decode cX0_need 28 = .ok (.istore_n 3, 1) := dk_62 (dk_at dksX0_need_1 4 rfl rfl)
theorem dX0_need_29 : decode cX0_need 29 = .ok (.iload_n 3, 1) := dk_29 (dk_at dksX0_need_1 5 rfl rfl)
theorem dX0_need_30 : decode cX0_need 30 = .ok (.iload_n 2, 1) := dk_28 (dk_at dksX0_need_1 6 rfl rfl)
theorem dX0_need_31 : decode cX0_need 31 = .ok (.ifCond .ne 7, 3) := dk_154 0 7 (dk_at dksX0_need_1 7 rfl rfl)
theorem dX0_need_34 : decode cX0_need 34 = .ok (.iconst 4, 1) := dk_7 (dk_at dksX0_need_1 10 rfl rfl)
theorem dX0_need_35 : decode cX0_need 35 = .ok (.goto 5, 3) := dk_167 0 5 (dk_at dksX0_need_1 11 rfl rfl)
theorem dX0_need_38 : decode cX0_need 38 = .ok (.bipush 40, 2) := dk_16 40 (dk_at dksX0_need_1 14 rfl rfl)
theorem dX0_need_40 : decode cX0_need 40 = .ok (.if_icmp .gt 72, 3) := dk_163 0 72 (dk_at dksX0_need_1 16 rfl rfl)
theorem dX0_need_43 : decode cX0_need 43 = .ok (.aload_n 0, 1) := dk_42 (dk_at dksX0_need_1 19 rfl rfl)
theorem dX0_need_44 : decode cX0_need 44 = .ok (.invokevirtual 259, 3) := dk_182 1 3 (dk_at dksX0_need_1 20 rfl rfl)
theorem dX0_need_47 : decode cX0_need 47 = .ok (.pop, 1) := dk_87 (dk_at dksX0_need_1 23 rfl rfl)
theorem dX0_need_48 : decode cX0_need 48 = .ok (.aload_n 0, 1) := dk_42 (dk_at dksX0_need_2 0 rfl rfl)
theorem dX0_need_49 : decode cX0_need 49 = .ok (.getfield 43, 3) := dk_180 0 43 (dk_at dksX0_need_2 1 rfl rfl)
theorem dX0_need_52 : decode cX0_need 52 = .ok (.iload_n 2, 1) := dk_28 (dk_at dksX0_need_2 4 rfl rfl)
theorem dX0_need_53 : decode cX0_need 53 = .ok (.ifCond .ne 7, 3) := dk_154 0 7 (dk_at dksX0_need_2 5 rfl rfl)
theorem dX0_need_56 : decode cX0_need 56 = .ok (.iload_n 3, 1) := dk_29 (dk_at dksX0_need_2 8 rfl rfl)
theorem dX0_need_57 : decode cX0_need 57 = .ok (.goto 10, 3) := dk_167 0 10 (dk_at dksX0_need_2 9 rfl rfl)
theorem dX0_need_60 : decode cX0_need 60 = .ok (.aload_n 0, 1) := dk_42 (dk_at dksX0_need_2 12 rfl rfl)
theorem dX0_need_61 : decode cX0_need 61 = .ok (.getfield 43, 3) := dk_180 0 43 (dk_at dksX0_need_2 13 rfl rfl)
theorem dX0_need_64 : decode cX0_need 64 = .ok (.getfield 211, 3) := dk_180 0 211 (dk_at dksX0_need_2 16 rfl rfl)
theorem dX0_need_67 : decode cX0_need 67 = .ok (.putfield 211, 3) := dk_181 0 211 (dk_at dksX0_need_2 19 rfl rfl)
theorem dX0_need_70 : decode cX0_need 70 = .ok (.aload_n 0, 1) := dk_42 (dk_at dksX0_need_2 22 rfl rfl)
theorem dX0_need_71 : decode cX0_need 71 = .ok (.getfield 43, 3) := dk_180 0 43 (dk_at dksX0_need_3 0 rfl rfl)
theorem dX0_need_74 : decode cX0_need 74 = .ok (.iload_n 2, 1) := dk_28 (dk_at dksX0_need_3 3 rfl rfl)
theorem dX0_need_75 : decode cX0_need 75 = .ok (.iconst 1, 1) := dk_4 (dk_at dksX0_need_3 4 rfl rfl)
theorem dX0_need_76 : decode cX0_need 76 = .ok (.if_icmp .ne 7, 3) := dk_160 0 7 (dk_at dksX0_need_3 5 rfl rfl)
theorem dX0_need_79 : decode cX0_need 79 = .ok (.iload_n 3, 1) := dk_29 (dk_at dksX0_need_3 8 rfl rfl)
theorem dX0_need_80 : decode cX0_need 80 = .ok (.goto 10, 3) := dk_167 0 10 (dk_at dksX0_need_3 9 rfl rfl)
theorem dX0_need_83 : decode cX0_need 83 = .ok (.aload_n 0, 1) := dk_42 (dk_at dksX0_need_3 12 rfl rfl)
theorem dX0_need_84 : decode cX0_need 84 = .ok (.getfield 43, 3) := dk_180 0 43 (dk_at dksX0_need_3 13 rfl rfl)
theorem dX0_need_87 : decode cX0_need 87 = .ok (.getfield 206, 3) := dk_180 0 206 (dk_at dksX0_need_3 16 rfl rfl)
theorem dX0_need_90 : decode cX0_need 90 = .ok (.putfield 206, 3) := dk_181 0 206 (dk_at dksX0_need_3 19 rfl rfl)
theorem dX0_need_93 : decode cX0_need 93 = .ok (.aload_n 0, 1) := dk_42 (dk_at dksX0_need_3 22 rfl rfl)
theorem dX0_need_94 : decode cX0_need 94 = .ok (.iload_n 1, 1) := dk_27 (dk_at dksX0_need_3 23 rfl rfl)
theorem dX0_need_95 : decode cX0_need 95 = .ok (.invokevirtual 262, 3) := dk_182 1 6 (dk_at dksX0_need_4 0 rfl rfl)
theorem dX0_need_98 : decode cX0_need 98 = .ok (.invokevirtual 267, 3) := dk_182 1 11 (dk_at dksX0_need_4 3 rfl rfl)
theorem dX0_need_101 : decode cX0_need 101 = .ok (.ifCond .eq 5, 3) := dk_153 0 5 (dk_at dksX0_need_4 6 rfl rfl)
theorem dX0_need_104 : decode cX0_need 104 = .ok (.iload_n 3, 1) := dk_29 (dk_at dksX0_need_4 9 rfl rfl)
theorem dX0_need_105 : decode cX0_need 105 = .ok (.ireturn, 1) := dk_172 (dk_at dksX0_need_4 10 rfl rfl)
theorem dX0_need_106 : decode cX0_need 106 = .ok (.iinc 3 1, 3) := dk_132 3 1 (dk_at dksX0_need_4 11 rfl rfl)
theorem dX0_need_109 : decode cX0_need 109 = .ok (.goto (-80), 3) := dk_167 255 176 (dk_at dksX0_need_4 14 rfl rfl)
theorem dX0_need_112 : decode cX0_need 112 = .ok (.ldc_w 266, 3) := dk_19 1 10 (dk_at dksX0_need_4 17 rfl rfl)
theorem dX0_need_115 : decode cX0_need 115 = .ok (.ireturn, 1) := dk_172 (dk_at dksX0_need_4 20 rfl rfl)
abbrev cX0_ranks : ByteArray := prog_1_method_45_code
def yX0_ranks : MethodName := ⟨RX0, "ranks", "(II)I"⟩
def dkwX0_ranks_5 : List UInt8 := [182, 0, 214, 153, 0, 12, 42, 180, 0, 64, 28, 46, 167, 0, 6, 19, 1, 10, 172]
abbrev dktX0_ranks_5 : List UInt8 := dkwX0_ranks_5 ++ []
def dkwX0_ranks_4 : List UInt8 := [184, 0, 125, 42, 182, 1, 43, 54, 4, 167, 255, 207, 28, 2, 160, 0, 7, 29, 167, 0, 23, 42, 28]
abbrev dktX0_ranks_4 : List UInt8 := dkwX0_ranks_4 ++ dktX0_ranks_5
def dkwX0_ranks_3 : List UInt8 := [159, 0, 9, 21, 5, 29, 162, 0, 21, 21, 5, 62, 42, 180, 0, 60, 3, 42, 180, 0, 64, 3, 16, 6]
abbrev dktX0_ranks_3 : List UInt8 := dkwX0_ranks_3 ++ dktX0_ranks_4
def dkwX0_ranks_2 : List UInt8 := [19, 1, 10, 62, 4, 54, 4, 21, 4, 153, 0, 50, 42, 27, 182, 1, 40, 54, 5, 29, 19, 1, 10]
abbrev dktX0_ranks_2 : List UInt8 := dkwX0_ranks_2 ++ dktX0_ranks_3
def dkwX0_ranks_1 : List UInt8 := [172, 3, 62, 29, 16, 6, 162, 0, 16, 42, 180, 0, 60, 29, 29, 79, 132, 3, 1, 167, 255, 240]
abbrev dktX0_ranks_1 : List UInt8 := dkwX0_ranks_1 ++ dktX0_ranks_2
def dkwX0_ranks_0 : List UInt8 := [42, 182, 0, 181, 154, 0, 6, 18, 173, 172, 27, 184, 1, 17, 153, 0, 8, 28, 2, 162, 0, 6, 18, 100]
abbrev dktX0_ranks_0 : List UInt8 := dkwX0_ranks_0 ++ dktX0_ranks_1
theorem dksX0_ranks_0 : cX0_ranks.data.toList.drop 0 = dktX0_ranks_0 := by decide +kernel
theorem dksX0_ranks_1 : cX0_ranks.data.toList.drop 24 = dktX0_ranks_1 := dk_seg dksX0_ranks_0 24 rfl rfl
theorem dksX0_ranks_2 : cX0_ranks.data.toList.drop 46 = dktX0_ranks_2 := dk_seg dksX0_ranks_1 22 rfl rfl
theorem dksX0_ranks_3 : cX0_ranks.data.toList.drop 69 = dktX0_ranks_3 := dk_seg dksX0_ranks_2 23 rfl rfl
theorem dksX0_ranks_4 : cX0_ranks.data.toList.drop 93 = dktX0_ranks_4 := dk_seg dksX0_ranks_3 24 rfl rfl
theorem dksX0_ranks_5 : cX0_ranks.data.toList.drop 116 = dktX0_ranks_5 := dk_seg dksX0_ranks_4 23 rfl rfl
theorem dX0_ranks_0 : decode cX0_ranks 0 = .ok (.aload_n 0, 1) := dk_42 (dk_at dksX0_ranks_0 0 rfl rfl)
theorem dX0_ranks_1 : decode cX0_ranks 1 = .ok (.invokevirtual 181, 3) := dk_182 0 181 (dk_at dksX0_ranks_0 1 rfl rfl)
theorem dX0_ranks_4 : decode cX0_ranks 4 = .ok (.ifCond .ne 6, 3) := dk_154 0 6 (dk_at dksX0_ranks_0 4 rfl rfl)
theorem dX0_ranks_7 : decode cX0_ranks 7 = .ok (.ldc 173, 2) := dk_18 173 (dk_at dksX0_ranks_0 7 rfl rfl)
theorem dX0_ranks_9 : decode cX0_ranks 9 = .ok (.ireturn, 1) := dk_172 (dk_at dksX0_ranks_0 9 rfl rfl)
theorem dX0_ranks_10 : decode cX0_ranks 10 = .ok (.iload_n 1, 1) := dk_27 (dk_at dksX0_ranks_0 10 rfl rfl)
theorem dX0_ranks_11 : decode cX0_ranks 11 = .ok (.invokestatic 273, 3) := dk_184 1 17 (dk_at dksX0_ranks_0 11 rfl rfl)
theorem dX0_ranks_14 : decode cX0_ranks 14 = .ok (.ifCond .eq 8, 3) := dk_153 0 8 (dk_at dksX0_ranks_0 14 rfl rfl)
theorem dX0_ranks_17 : decode cX0_ranks 17 = .ok (.iload_n 2, 1) := dk_28 (dk_at dksX0_ranks_0 17 rfl rfl)
theorem dX0_ranks_18 : decode cX0_ranks 18 = .ok (.iconst (-1), 1) := dk_2 (dk_at dksX0_ranks_0 18 rfl rfl)
theorem dX0_ranks_19 : decode cX0_ranks 19 = .ok (.if_icmp .ge 6, 3) := dk_162 0 6 (dk_at dksX0_ranks_0 19 rfl rfl)
theorem dX0_ranks_22 : decode cX0_ranks 22 = .ok (.ldc 100, 2) := dk_18 100 (dk_at dksX0_ranks_0 22 rfl rfl)
theorem dX0_ranks_24 : decode cX0_ranks 24 = .ok (.ireturn, 1) := dk_172 (dk_at dksX0_ranks_1 0 rfl rfl)
theorem dX0_ranks_25 : decode cX0_ranks 25 = .ok (.iconst 0, 1) := dk_3 (dk_at dksX0_ranks_1 1 rfl rfl)
theorem dX0_ranks_26 : decode cX0_ranks 26 = .ok (.istore_n 3, 1) := dk_62 (dk_at dksX0_ranks_1 2 rfl rfl)
theorem dX0_ranks_27 : decode cX0_ranks 27 = .ok (.iload_n 3, 1) := dk_29 (dk_at dksX0_ranks_1 3 rfl rfl)
theorem dX0_ranks_28 : decode cX0_ranks 28 = .ok (.bipush 6, 2) := dk_16 6 (dk_at dksX0_ranks_1 4 rfl rfl)
theorem dX0_ranks_30 : decode cX0_ranks 30 = .ok (.if_icmp .ge 16, 3) := dk_162 0 16 (dk_at dksX0_ranks_1 6 rfl rfl)
theorem dX0_ranks_33 : decode cX0_ranks 33 = .ok (.aload_n 0, 1) := dk_42 (dk_at dksX0_ranks_1 9 rfl rfl)
theorem dX0_ranks_34 : decode cX0_ranks 34 = .ok (.getfield 60, 3) := dk_180 0 60 (dk_at dksX0_ranks_1 10 rfl rfl)
theorem dX0_ranks_37 : decode cX0_ranks 37 = .ok (.iload_n 3, 1) := dk_29 (dk_at dksX0_ranks_1 13 rfl rfl)
theorem dX0_ranks_38 : decode cX0_ranks 38 = .ok (.iload_n 3, 1) := dk_29 (dk_at dksX0_ranks_1 14 rfl rfl)
theorem dX0_ranks_39 : decode cX0_ranks 39 = .ok (.iastore, 1) := dk_79 (dk_at dksX0_ranks_1 15 rfl rfl)
theorem dX0_ranks_40 : decode cX0_ranks 40 = .ok (.iinc 3 1, 3) := dk_132 3 1 (dk_at dksX0_ranks_1 16 rfl rfl)
theorem dX0_ranks_43 : decode cX0_ranks 43 = .ok (.goto (-16), 3) := dk_167 255 240 (dk_at dksX0_ranks_1 19 rfl rfl)
theorem dX0_ranks_46 : decode cX0_ranks 46 = .ok (.ldc_w 266, 3) := dk_19 1 10 (dk_at dksX0_ranks_2 0 rfl rfl)
theorem dX0_ranks_49 : decode cX0_ranks 49 = .ok (.istore_n 3, 1) := dk_62 (dk_at dksX0_ranks_2 3 rfl rfl)
theorem dX0_ranks_50 : decode cX0_ranks 50 = .ok (.iconst 1, 1) := dk_4 (dk_at dksX0_ranks_2 4 rfl rfl)
theorem dX0_ranks_51 : decode cX0_ranks 51 = .ok (.istore 4, 2) := dk_54 4 (dk_at dksX0_ranks_2 5 rfl rfl)
theorem dX0_ranks_53 : decode cX0_ranks 53 = .ok (.iload 4, 2) := dk_21 4 (dk_at dksX0_ranks_2 7 rfl rfl)
theorem dX0_ranks_55 : decode cX0_ranks 55 = .ok (.ifCond .eq 50, 3) := dk_153 0 50 (dk_at dksX0_ranks_2 9 rfl rfl)
theorem dX0_ranks_58 : decode cX0_ranks 58 = .ok (.aload_n 0, 1) := dk_42 (dk_at dksX0_ranks_2 12 rfl rfl)
theorem dX0_ranks_59 : decode cX0_ranks 59 = .ok (.iload_n 1, 1) := dk_27 (dk_at dksX0_ranks_2 13 rfl rfl)
theorem dX0_ranks_60 : decode cX0_ranks 60 = .ok (.invokevirtual 296, 3) := dk_182 1 40 (dk_at dksX0_ranks_2 14 rfl rfl)
theorem dX0_ranks_63 : decode cX0_ranks 63 = .ok (.istore 5, 2) := dk_54 5 (dk_at dksX0_ranks_2 17 rfl rfl)
theorem dX0_ranks_65 : decode cX0_ranks 65 = .ok (.iload_n 3, 1) := dk_29 (dk_at dksX0_ranks_2 19 rfl rfl)
theorem dX0_ranks_66 : decode cX0_ranks 66 = .ok (.ldc_w 266, 3) := dk_19 1 10 (dk_at dksX0_ranks_2 20 rfl rfl)
theorem dX0_ranks_69 : decode cX0_ranks 69 = .ok (.if_icmp .eq 9, 3) := dk_159 0 9 (dk_at dksX0_ranks_3 0 rfl rfl)
theorem dX0_ranks_72 : decode cX0_ranks 72 = .ok (.iload 5, 2) := dk_21 5 (dk_at dksX0_ranks_3 3 rfl rfl)
theorem dX0_ranks_74 : decode cX0_ranks 74 = .ok (.iload_n 3, 1) := dk_29 (dk_at dksX0_ranks_3 5 rfl rfl)
theorem dX0_ranks_75 : decode cX0_ranks 75 = .ok (.if_icmp .ge 21, 3) := dk_162 0 21 (dk_at dksX0_ranks_3 6 rfl rfl)
theorem dX0_ranks_78 : decode cX0_ranks 78 = .ok (.iload 5, 2) := dk_21 5 (dk_at dksX0_ranks_3 9 rfl rfl)
theorem dX0_ranks_80 : decode cX0_ranks 80 = .ok (.istore_n 3, 1) := dk_62 (dk_at dksX0_ranks_3 11 rfl rfl)
theorem dX0_ranks_81 : decode cX0_ranks 81 = .ok (.aload_n 0, 1) := dk_42 (dk_at dksX0_ranks_3 12 rfl rfl)
theorem dX0_ranks_82 : decode cX0_ranks 82 = .ok (.getfield 60, 3) := dk_180 0 60 (dk_at dksX0_ranks_3 13 rfl rfl)
theorem dX0_ranks_85 : decode cX0_ranks 85 = .ok (.iconst 0, 1) := dk_3 (dk_at dksX0_ranks_3 16 rfl rfl)
theorem dX0_ranks_86 : decode cX0_ranks 86 = .ok (.aload_n 0, 1) := dk_42 (dk_at dksX0_ranks_3 17 rfl rfl)
theorem dX0_ranks_87 : decode cX0_ranks 87 = .ok (.getfield 64, 3) := dk_180 0 64 (dk_at dksX0_ranks_3 18 rfl rfl)
theorem dX0_ranks_90 : decode cX0_ranks 90 = .ok (.iconst 0, 1) := dk_3 (dk_at dksX0_ranks_3 21 rfl rfl)
theorem dX0_ranks_91 : decode cX0_ranks 91 = .ok (.bipush 6, 2) := dk_16 6 (dk_at dksX0_ranks_3 22 rfl rfl)
theorem dX0_ranks_93 : decode cX0_ranks 93 = .ok (.invokestatic 125, 3) := dk_184 0 125 (dk_at dksX0_ranks_4 0 rfl rfl)
theorem dX0_ranks_96 : decode cX0_ranks 96 = .ok (.aload_n 0, 1) := dk_42 (dk_at dksX0_ranks_4 3 rfl rfl)
theorem dX0_ranks_97 : decode cX0_ranks 97 = .ok (.invokevirtual 299, 3) := dk_182 1 43 (dk_at dksX0_ranks_4 4 rfl rfl)
theorem dX0_ranks_100 : decode cX0_ranks 100 = .ok (.istore 4, 2) := dk_54 4 (dk_at dksX0_ranks_4 7 rfl rfl)
theorem dX0_ranks_102 : decode cX0_ranks 102 = .ok (.goto (-49), 3) := dk_167 255 207 (dk_at dksX0_ranks_4 9 rfl rfl)
theorem dX0_ranks_105 : decode cX0_ranks 105 = .ok (.iload_n 2, 1) := dk_28 (dk_at dksX0_ranks_4 12 rfl rfl)
theorem dX0_ranks_106 : decode cX0_ranks 106 = .ok (.iconst (-1), 1) := dk_2 (dk_at dksX0_ranks_4 13 rfl rfl)
theorem dX0_ranks_107 : decode cX0_ranks 107 = .ok (.if_icmp .ne 7, 3) := dk_160 0 7 (dk_at dksX0_ranks_4 14 rfl rfl)
theorem dX0_ranks_110 : decode cX0_ranks 110 = .ok (.iload_n 3, 1) := dk_29 (dk_at dksX0_ranks_4 17 rfl rfl)
theorem dX0_ranks_111 : decode cX0_ranks 111 = .ok (.goto 23, 3) := dk_167 0 23 (dk_at dksX0_ranks_4 18 rfl rfl)
theorem dX0_ranks_114 : decode cX0_ranks 114 = .ok (.aload_n 0, 1) := dk_42 (dk_at dksX0_ranks_4 21 rfl rfl)
theorem dX0_ranks_115 : decode cX0_ranks 115 = .ok (.iload_n 2, 1) := dk_28 (dk_at dksX0_ranks_4 22 rfl rfl)
theorem dX0_ranks_116 : decode cX0_ranks 116 = .ok (.invokevirtual 214, 3) := dk_182 0 214 (dk_at dksX0_ranks_5 0 rfl rfl)
theorem dX0_ranks_119 : decode cX0_ranks 119 = .ok (.ifCond .eq 12, 3) := dk_153 0 12 (dk_at dksX0_ranks_5 3 rfl rfl)
theorem dX0_ranks_122 : decode cX0_ranks 122 = .ok (.aload_n 0, 1) := dk_42 (dk_at dksX0_ranks_5 6 rfl rfl)
theorem dX0_ranks_123 : decode cX0_ranks 123 = .ok (.getfield 64, 3) := dk_180 0 64 (dk_at dksX0_ranks_5 7 rfl rfl)
theorem dX0_ranks_126 : decode cX0_ranks 126 = .ok (.iload_n 2, 1) := dk_28 (dk_at dksX0_ranks_5 10 rfl rfl)
theorem dX0_ranks_127 : decode cX0_ranks 127 = .ok (.iaload, 1) := dk_46 (dk_at dksX0_ranks_5 11 rfl rfl)
theorem dX0_ranks_128 : decode cX0_ranks 128 = .ok (.goto 6, 3) := dk_167 0 6 (dk_at dksX0_ranks_5 12 rfl rfl)
theorem dX0_ranks_131 : decode cX0_ranks 131 = .ok (.ldc_w 266, 3) := dk_19 1 10 (dk_at dksX0_ranks_5 15 rfl rfl)
theorem dX0_ranks_134 : decode cX0_ranks 134 = .ok (.ireturn, 1) := dk_172 (dk_at dksX0_ranks_5 18 rfl rfl)
abbrev cX0_waited : ByteArray := prog_1_method_44_code
def yX0_waited : MethodName := ⟨RX0, "waited", "(I)I"⟩
def dkwX0_waited_3 : List UInt8 := [167, 255, 213, 28, 172]
abbrev dktX0_waited_3 : List UInt8 := dkwX0_waited_3 ++ []
def dkwX0_waited_2 : List UInt8 := [184, 1, 23, 100, 96, 61, 29, 27, 162, 0, 11, 42, 180, 0, 43, 182, 0, 193, 87, 132, 3, 1]
abbrev dktX0_waited_2 : List UInt8 := dkwX0_waited_2 ++ dktX0_waited_3
def dkwX0_waited_1 : List UInt8 := [61, 3, 62, 29, 27, 163, 0, 44, 28, 42, 180, 0, 43, 182, 0, 169, 42, 180, 0, 43, 5, 182, 0, 197]
abbrev dktX0_waited_1 : List UInt8 := dkwX0_waited_1 ++ dktX0_waited_2
def dkwX0_waited_0 : List UInt8 := [42, 182, 1, 3, 87, 42, 180, 0, 60, 3, 42, 180, 0, 43, 180, 1, 37, 3, 16, 6, 184, 0, 125, 3]
abbrev dktX0_waited_0 : List UInt8 := dkwX0_waited_0 ++ dktX0_waited_1
theorem dksX0_waited_0 : cX0_waited.data.toList.drop 0 = dktX0_waited_0 := by decide +kernel
theorem dksX0_waited_1 : cX0_waited.data.toList.drop 24 = dktX0_waited_1 := dk_seg dksX0_waited_0 24 rfl rfl
theorem dksX0_waited_2 : cX0_waited.data.toList.drop 48 = dktX0_waited_2 := dk_seg dksX0_waited_1 24 rfl rfl
theorem dksX0_waited_3 : cX0_waited.data.toList.drop 70 = dktX0_waited_3 := dk_seg dksX0_waited_2 22 rfl rfl
theorem dX0_waited_0 : decode cX0_waited 0 = .ok (.aload_n 0, 1) := dk_42 (dk_at dksX0_waited_0 0 rfl rfl)
theorem dX0_waited_1 : decode cX0_waited 1 = .ok (.invokevirtual 259, 3) := dk_182 1 3 (dk_at dksX0_waited_0 1 rfl rfl)
theorem dX0_waited_4 : decode cX0_waited 4 = .ok (.pop, 1) := dk_87 (dk_at dksX0_waited_0 4 rfl rfl)
theorem dX0_waited_5 : decode cX0_waited 5 = .ok (.aload_n 0, 1) := dk_42 (dk_at dksX0_waited_0 5 rfl rfl)
theorem dX0_waited_6 : decode cX0_waited 6 = .ok (.getfield 60, 3) := dk_180 0 60 (dk_at dksX0_waited_0 6 rfl rfl)
theorem dX0_waited_9 : decode cX0_waited 9 = .ok (.iconst 0, 1) := dk_3 (dk_at dksX0_waited_0 9 rfl rfl)
theorem dX0_waited_10 : decode cX0_waited 10 = .ok (.aload_n 0, 1) := dk_42 (dk_at dksX0_waited_0 10 rfl rfl)
theorem dX0_waited_11 : decode cX0_waited 11 = .ok (.getfield 43, 3) := dk_180 0 43 (dk_at dksX0_waited_0 11 rfl rfl)
theorem dX0_waited_14 : decode cX0_waited 14 = .ok (.getfield 293, 3) := dk_180 1 37 (dk_at dksX0_waited_0 14 rfl rfl)
theorem dX0_waited_17 : decode cX0_waited 17 = .ok (.iconst 0, 1) := dk_3 (dk_at dksX0_waited_0 17 rfl rfl)
theorem dX0_waited_18 : decode cX0_waited 18 = .ok (.bipush 6, 2) := dk_16 6 (dk_at dksX0_waited_0 18 rfl rfl)
theorem dX0_waited_20 : decode cX0_waited 20 = .ok (.invokestatic 125, 3) := dk_184 0 125 (dk_at dksX0_waited_0 20 rfl rfl)
theorem dX0_waited_23 : decode cX0_waited 23 = .ok (.iconst 0, 1) := dk_3 (dk_at dksX0_waited_0 23 rfl rfl)
theorem dX0_waited_24 : decode cX0_waited 24 = .ok (.istore_n 2, 1) := dk_61 (dk_at dksX0_waited_1 0 rfl rfl)
theorem dX0_waited_25 : decode cX0_waited 25 = .ok (.iconst 0, 1) := dk_3 (dk_at dksX0_waited_1 1 rfl rfl)
theorem dX0_waited_26 : decode cX0_waited 26 = .ok (.istore_n 3, 1) := dk_62 (dk_at dksX0_waited_1 2 rfl rfl)
theorem dX0_waited_27 : decode cX0_waited 27 = .ok (.iload_n 3, 1) := dk_29 (dk_at dksX0_waited_1 3 rfl rfl)
theorem dX0_waited_28 : decode cX0_waited 28 = .ok (.iload_n 1, 1) := dk_27 (dk_at dksX0_waited_1 4 rfl rfl)
theorem dX0_waited_29 : decode cX0_waited 29 = .ok (.if_icmp .gt 44, 3) := dk_163 0 44 (dk_at dksX0_waited_1 5 rfl rfl)
theorem dX0_waited_32 : decode cX0_waited 32 = .ok (.iload_n 2, 1) := dk_28 (dk_at dksX0_waited_1 8 rfl rfl)
theorem dX0_waited_33 : decode cX0_waited 33 = .ok (.aload_n 0, 1) := dk_42 (dk_at dksX0_waited_1 9 rfl rfl)
theorem dX0_waited_34 : decode cX0_waited 34 = .ok (.getfield 43, 3) := dk_180 0 43 (dk_at dksX0_waited_1 10 rfl rfl)
theorem dX0_waited_37 : decode cX0_waited 37 = .ok (.invokevirtual 169, 3) := dk_182 0 169 (dk_at dksX0_waited_1 13 rfl rfl)
theorem dX0_waited_40 : decode cX0_waited 40 = .ok (.aload_n 0, 1) := dk_42 (dk_at dksX0_waited_1 16 rfl rfl)
theorem dX0_waited_41 : decode cX0_waited 41 = .ok (.getfield 43, 3) := dk_180 0 43 (dk_at dksX0_waited_1 17 rfl rfl)
theorem dX0_waited_44 : decode cX0_waited 44 = .ok (.iconst 2, 1) := dk_5 (dk_at dksX0_waited_1 20 rfl rfl)
theorem dX0_waited_45 : decode cX0_waited 45 = .ok (.invokevirtual 197, 3) := dk_182 0 197 (dk_at dksX0_waited_1 21 rfl rfl)
theorem dX0_waited_48 : decode cX0_waited 48 = .ok (.invokestatic 279, 3) := dk_184 1 23 (dk_at dksX0_waited_2 0 rfl rfl)
theorem dX0_waited_51 : decode cX0_waited 51 = .ok (.isub, 1) := dk_100 (dk_at dksX0_waited_2 3 rfl rfl)
theorem dX0_waited_52 : decode cX0_waited 52 = .ok (.iadd, 1) := dk_96 (dk_at dksX0_waited_2 4 rfl rfl)
theorem dX0_waited_53 : decode cX0_waited 53 = .ok (.istore_n 2, 1) := dk_61 (dk_at dksX0_waited_2 5 rfl rfl)
theorem dX0_waited_54 : decode cX0_waited 54 = .ok (.iload_n 3, 1) := dk_29 (dk_at dksX0_waited_2 6 rfl rfl)
theorem dX0_waited_55 : decode cX0_waited 55 = .ok (.iload_n 1, 1) := dk_27 (dk_at dksX0_waited_2 7 rfl rfl)
theorem dX0_waited_56 : decode cX0_waited 56 = .ok (.if_icmp .ge 11, 3) := dk_162 0 11 (dk_at dksX0_waited_2 8 rfl rfl)
theorem dX0_waited_59 : decode cX0_waited 59 = .ok (.aload_n 0, 1) := dk_42 (dk_at dksX0_waited_2 11 rfl rfl)
theorem dX0_waited_60 : decode cX0_waited 60 = .ok (.getfield 43, 3) := dk_180 0 43 (dk_at dksX0_waited_2 12 rfl rfl)
theorem dX0_waited_63 : decode cX0_waited 63 = .ok (.invokevirtual 193, 3) := dk_182 0 193 (dk_at dksX0_waited_2 15 rfl rfl)
theorem dX0_waited_66 : decode cX0_waited 66 = .ok (.pop, 1) := dk_87 (dk_at dksX0_waited_2 18 rfl rfl)
theorem dX0_waited_67 : decode cX0_waited 67 = .ok (.iinc 3 1, 3) := dk_132 3 1 (dk_at dksX0_waited_2 19 rfl rfl)
theorem dX0_waited_70 : decode cX0_waited 70 = .ok (.goto (-43), 3) := dk_167 255 213 (dk_at dksX0_waited_3 0 rfl rfl)
theorem dX0_waited_73 : decode cX0_waited 73 = .ok (.iload_n 2, 1) := dk_28 (dk_at dksX0_waited_3 3 rfl rfl)
theorem dX0_waited_74 : decode cX0_waited 74 = .ok (.ireturn, 1) := dk_172 (dk_at dksX0_waited_3 4 rfl rfl)
abbrev cX0_isNext : ByteArray := prog_1_method_42_code
def yX0_isNext : MethodName := ⟨RX0, "isNext", "()Z"⟩
def dkwX0_isNext_4 : List UInt8 := [21, 4, 21, 5, 182, 1, 34, 132, 4, 1, 132, 5, 255, 167, 255, 235, 4, 172]
abbrev dktX0_isNext_4 : List UInt8 := dkwX0_isNext_4 ++ []
def dkwX0_isNext_3 : List UInt8 := [28, 29, 182, 1, 34, 28, 4, 96, 54, 4, 27, 4, 100, 54, 5, 21, 4, 21, 5, 162, 0, 20, 42]
abbrev dktX0_isNext_3 : List UInt8 := dkwX0_isNext_3 ++ dktX0_isNext_4
def dkwX0_isNext_2 : List UInt8 := [100, 62, 42, 180, 0, 60, 29, 46, 42, 180, 0, 60, 28, 46, 162, 0, 9, 132, 3, 255, 167, 255, 238, 42]
abbrev dktX0_isNext_2 : List UInt8 := dkwX0_isNext_2 ++ dktX0_isNext_3
def dkwX0_isNext_1 : List UInt8 := [180, 0, 60, 28, 4, 96, 46, 164, 0, 9, 132, 2, 255, 167, 255, 232, 28, 156, 0, 5, 3, 172, 27, 4]
abbrev dktX0_isNext_1 : List UInt8 := dkwX0_isNext_1 ++ dktX0_isNext_2
def dkwX0_isNext_0 : List UInt8 := [42, 180, 0, 39, 182, 0, 169, 60, 27, 5, 100, 61, 28, 155, 0, 26, 42, 180, 0, 60, 28, 46, 42]
abbrev dktX0_isNext_0 : List UInt8 := dkwX0_isNext_0 ++ dktX0_isNext_1
theorem dksX0_isNext_0 : cX0_isNext.data.toList.drop 0 = dktX0_isNext_0 := by decide +kernel
theorem dksX0_isNext_1 : cX0_isNext.data.toList.drop 23 = dktX0_isNext_1 := dk_seg dksX0_isNext_0 23 rfl rfl
theorem dksX0_isNext_2 : cX0_isNext.data.toList.drop 47 = dktX0_isNext_2 := dk_seg dksX0_isNext_1 24 rfl rfl
theorem dksX0_isNext_3 : cX0_isNext.data.toList.drop 71 = dktX0_isNext_3 := dk_seg dksX0_isNext_2 24 rfl rfl
theorem dksX0_isNext_4 : cX0_isNext.data.toList.drop 94 = dktX0_isNext_4 := dk_seg dksX0_isNext_3 23 rfl rfl
theorem dX0_isNext_0 : decode cX0_isNext 0 = .ok (.aload_n 0, 1) := dk_42 (dk_at dksX0_isNext_0 0 rfl rfl)
theorem dX0_isNext_1 : decode cX0_isNext 1 = .ok (.getfield 39, 3) := dk_180 0 39 (dk_at dksX0_isNext_0 1 rfl rfl)
theorem dX0_isNext_4 : decode cX0_isNext 4 = .ok (.invokevirtual 169, 3) := dk_182 0 169 (dk_at dksX0_isNext_0 4 rfl rfl)
theorem dX0_isNext_7 : decode cX0_isNext 7 = .ok (.istore_n 1, 1) := dk_60 (dk_at dksX0_isNext_0 7 rfl rfl)
theorem dX0_isNext_8 : decode cX0_isNext 8 = .ok (.iload_n 1, 1) := dk_27 (dk_at dksX0_isNext_0 8 rfl rfl)
theorem dX0_isNext_9 : decode cX0_isNext 9 = .ok (.iconst 2, 1) := dk_5 (dk_at dksX0_isNext_0 9 rfl rfl)
theorem dX0_isNext_10 : decode cX0_isNext 10 = .ok (.isub, 1) := dk_100 (dk_at dksX0_isNext_0 10 rfl rfl)
theorem dX0_isNext_11 : decode cX0_isNext 11 = .ok (.istore_n 2, 1) := dk_61 (dk_at dksX0_isNext_0 11 rfl rfl)
theorem dX0_isNext_12 : decode cX0_isNext 12 = .ok (.iload_n 2, 1) := dk_28 (dk_at dksX0_isNext_0 12 rfl rfl)
theorem dX0_isNext_13 : decode cX0_isNext 13 = .ok (.ifCond .lt 26, 3) := dk_155 0 26 (dk_at dksX0_isNext_0 13 rfl rfl)
theorem dX0_isNext_16 : decode cX0_isNext 16 = .ok (.aload_n 0, 1) := dk_42 (dk_at dksX0_isNext_0 16 rfl rfl)
theorem dX0_isNext_17 : decode cX0_isNext 17 = .ok (.getfield 60, 3) := dk_180 0 60 (dk_at dksX0_isNext_0 17 rfl rfl)
theorem dX0_isNext_20 : decode cX0_isNext 20 = .ok (.iload_n 2, 1) := dk_28 (dk_at dksX0_isNext_0 20 rfl rfl)
theorem dX0_isNext_21 : decode cX0_isNext 21 = .ok (.iaload, 1) := dk_46 (dk_at dksX0_isNext_0 21 rfl rfl)
theorem dX0_isNext_22 : decode cX0_isNext 22 = .ok (.aload_n 0, 1) := dk_42 (dk_at dksX0_isNext_0 22 rfl rfl)
theorem dX0_isNext_23 : decode cX0_isNext 23 = .ok (.getfield 60, 3) := dk_180 0 60 (dk_at dksX0_isNext_1 0 rfl rfl)
theorem dX0_isNext_26 : decode cX0_isNext 26 = .ok (.iload_n 2, 1) := dk_28 (dk_at dksX0_isNext_1 3 rfl rfl)
theorem dX0_isNext_27 : decode cX0_isNext 27 = .ok (.iconst 1, 1) := dk_4 (dk_at dksX0_isNext_1 4 rfl rfl)
theorem dX0_isNext_28 : decode cX0_isNext 28 = .ok (.iadd, 1) := dk_96 (dk_at dksX0_isNext_1 5 rfl rfl)
theorem dX0_isNext_29 : decode cX0_isNext 29 = .ok (.iaload, 1) := dk_46 (dk_at dksX0_isNext_1 6 rfl rfl)
theorem dX0_isNext_30 : decode cX0_isNext 30 = .ok (.if_icmp .le 9, 3) := dk_164 0 9 (dk_at dksX0_isNext_1 7 rfl rfl)
theorem dX0_isNext_33 : decode cX0_isNext 33 = .ok (.iinc 2 (-1), 3) := dk_132 2 255 (dk_at dksX0_isNext_1 10 rfl rfl)
theorem dX0_isNext_36 : decode cX0_isNext 36 = .ok (.goto (-24), 3) := dk_167 255 232 (dk_at dksX0_isNext_1 13 rfl rfl)
theorem dX0_isNext_39 : decode cX0_isNext 39 = .ok (.iload_n 2, 1) := dk_28 (dk_at dksX0_isNext_1 16 rfl rfl)
theorem dX0_isNext_40 : decode cX0_isNext 40 = .ok (.ifCond .ge 5, 3) := dk_156 0 5 (dk_at dksX0_isNext_1 17 rfl rfl)
theorem dX0_isNext_43 : decode cX0_isNext 43 = .ok (.iconst 0, 1) := dk_3 (dk_at dksX0_isNext_1 20 rfl rfl)
theorem dX0_isNext_44 : decode cX0_isNext 44 = .ok (.ireturn, 1) := dk_172 (dk_at dksX0_isNext_1 21 rfl rfl)
theorem dX0_isNext_45 : decode cX0_isNext 45 = .ok (.iload_n 1, 1) := dk_27 (dk_at dksX0_isNext_1 22 rfl rfl)
theorem dX0_isNext_46 : decode cX0_isNext 46 = .ok (.iconst 1, 1) := dk_4 (dk_at dksX0_isNext_1 23 rfl rfl)
theorem dX0_isNext_47 : decode cX0_isNext 47 = .ok (.isub, 1) := dk_100 (dk_at dksX0_isNext_2 0 rfl rfl)
theorem dX0_isNext_48 : decode cX0_isNext 48 = .ok (.istore_n 3, 1) := dk_62 (dk_at dksX0_isNext_2 1 rfl rfl)
theorem dX0_isNext_49 : decode cX0_isNext 49 = .ok (.aload_n 0, 1) := dk_42 (dk_at dksX0_isNext_2 2 rfl rfl)
theorem dX0_isNext_50 : decode cX0_isNext 50 = .ok (.getfield 60, 3) := dk_180 0 60 (dk_at dksX0_isNext_2 3 rfl rfl)
theorem dX0_isNext_53 : decode cX0_isNext 53 = .ok (.iload_n 3, 1) := dk_29 (dk_at dksX0_isNext_2 6 rfl rfl)
theorem dX0_isNext_54 : decode cX0_isNext 54 = .ok (.iaload, 1) := dk_46 (dk_at dksX0_isNext_2 7 rfl rfl)
theorem dX0_isNext_55 : decode cX0_isNext 55 = .ok (.aload_n 0, 1) := dk_42 (dk_at dksX0_isNext_2 8 rfl rfl)
theorem dX0_isNext_56 : decode cX0_isNext 56 = .ok (.getfield 60, 3) := dk_180 0 60 (dk_at dksX0_isNext_2 9 rfl rfl)
theorem dX0_isNext_59 : decode cX0_isNext 59 = .ok (.iload_n 2, 1) := dk_28 (dk_at dksX0_isNext_2 12 rfl rfl)
theorem dX0_isNext_60 : decode cX0_isNext 60 = .ok (.iaload, 1) := dk_46 (dk_at dksX0_isNext_2 13 rfl rfl)
theorem dX0_isNext_61 : decode cX0_isNext 61 = .ok (.if_icmp .ge 9, 3) := dk_162 0 9 (dk_at dksX0_isNext_2 14 rfl rfl)
theorem dX0_isNext_64 : decode cX0_isNext 64 = .ok (.iinc 3 (-1), 3) := dk_132 3 255 (dk_at dksX0_isNext_2 17 rfl rfl)
theorem dX0_isNext_67 : decode cX0_isNext 67 = .ok (.goto (-18), 3) := dk_167 255 238 (dk_at dksX0_isNext_2 20 rfl rfl)
theorem dX0_isNext_70 : decode cX0_isNext 70 = .ok (.aload_n 0, 1) := dk_42 (dk_at dksX0_isNext_2 23 rfl rfl)
theorem dX0_isNext_71 : decode cX0_isNext 71 = .ok (.iload_n 2, 1) := dk_28 (dk_at dksX0_isNext_3 0 rfl rfl)
theorem dX0_isNext_72 : decode cX0_isNext 72 = .ok (.iload_n 3, 1) := dk_29 (dk_at dksX0_isNext_3 1 rfl rfl)
theorem dX0_isNext_73 : decode cX0_isNext 73 = .ok (.invokevirtual 290, 3) := dk_182 1 34 (dk_at dksX0_isNext_3 2 rfl rfl)
theorem dX0_isNext_76 : decode cX0_isNext 76 = .ok (.iload_n 2, 1) := dk_28 (dk_at dksX0_isNext_3 5 rfl rfl)
theorem dX0_isNext_77 : decode cX0_isNext 77 = .ok (.iconst 1, 1) := dk_4 (dk_at dksX0_isNext_3 6 rfl rfl)
theorem dX0_isNext_78 : decode cX0_isNext 78 = .ok (.iadd, 1) := dk_96 (dk_at dksX0_isNext_3 7 rfl rfl)
theorem dX0_isNext_79 : decode cX0_isNext 79 = .ok (.istore 4, 2) := dk_54 4 (dk_at dksX0_isNext_3 8 rfl rfl)
theorem dX0_isNext_81 : decode cX0_isNext 81 = .ok (.iload_n 1, 1) := dk_27 (dk_at dksX0_isNext_3 10 rfl rfl)
theorem dX0_isNext_82 : decode cX0_isNext 82 = .ok (.iconst 1, 1) := dk_4 (dk_at dksX0_isNext_3 11 rfl rfl)
theorem dX0_isNext_83 : decode cX0_isNext 83 = .ok (.isub, 1) := dk_100 (dk_at dksX0_isNext_3 12 rfl rfl)
theorem dX0_isNext_84 : decode cX0_isNext 84 = .ok (.istore 5, 2) := dk_54 5 (dk_at dksX0_isNext_3 13 rfl rfl)
theorem dX0_isNext_86 : decode cX0_isNext 86 = .ok (.iload 4, 2) := dk_21 4 (dk_at dksX0_isNext_3 15 rfl rfl)
theorem dX0_isNext_88 : decode cX0_isNext 88 = .ok (.iload 5, 2) := dk_21 5 (dk_at dksX0_isNext_3 17 rfl rfl)
theorem dX0_isNext_90 : decode cX0_isNext 90 = .ok (.if_icmp .ge 20, 3) := dk_162 0 20 (dk_at dksX0_isNext_3 19 rfl rfl)
theorem dX0_isNext_93 : decode cX0_isNext 93 = .ok (.aload_n 0, 1) := dk_42 (dk_at dksX0_isNext_3 22 rfl rfl)
theorem dX0_isNext_94 : decode cX0_isNext 94 = .ok (.iload 4, 2) := dk_21 4 (dk_at dksX0_isNext_4 0 rfl rfl)
theorem dX0_isNext_96 : decode cX0_isNext 96 = .ok (.iload 5, 2) := dk_21 5 (dk_at dksX0_isNext_4 2 rfl rfl)
theorem dX0_isNext_98 : decode cX0_isNext 98 = .ok (.invokevirtual 290, 3) := dk_182 1 34 (dk_at dksX0_isNext_4 4 rfl rfl)
theorem dX0_isNext_101 : decode cX0_isNext 101 = .ok (.iinc 4 1, 3) := dk_132 4 1 (dk_at dksX0_isNext_4 7 rfl rfl)
theorem dX0_isNext_104 : decode cX0_isNext 104 = .ok (.iinc 5 (-1), 3) := dk_132 5 255 (dk_at dksX0_isNext_4 10 rfl rfl)
theorem dX0_isNext_107 : decode cX0_isNext 107 = .ok (.goto (-21), 3) := dk_167 255 235 (dk_at dksX0_isNext_4 13 rfl rfl)
theorem dX0_isNext_110 : decode cX0_isNext 110 = .ok (.iconst 1, 1) := dk_4 (dk_at dksX0_isNext_4 16 rfl rfl)
theorem dX0_isNext_111 : decode cX0_isNext 111 = .ok (.ireturn, 1) := dk_172 (dk_at dksX0_isNext_4 17 rfl rfl)
abbrev cX0_swap : ByteArray := prog_1_method_43_code
def yX0_swap : MethodName := ⟨RX0, "swap", "(II)V"⟩
def dkwX0_swap_1 : List UInt8 := [29, 79, 177]
abbrev dktX0_swap_1 : List UInt8 := dkwX0_swap_1 ++ []
def dkwX0_swap_0 : List UInt8 := [42, 180, 0, 60, 27, 46, 62, 42, 180, 0, 60, 27, 42, 180, 0, 60, 28, 46, 79, 42, 180, 0, 60, 28]
abbrev dktX0_swap_0 : List UInt8 := dkwX0_swap_0 ++ dktX0_swap_1
theorem dksX0_swap_0 : cX0_swap.data.toList.drop 0 = dktX0_swap_0 := by decide +kernel
theorem dksX0_swap_1 : cX0_swap.data.toList.drop 24 = dktX0_swap_1 := dk_seg dksX0_swap_0 24 rfl rfl
theorem dX0_swap_0 : decode cX0_swap 0 = .ok (.aload_n 0, 1) := dk_42 (dk_at dksX0_swap_0 0 rfl rfl)
theorem dX0_swap_1 : decode cX0_swap 1 = .ok (.getfield 60, 3) := dk_180 0 60 (dk_at dksX0_swap_0 1 rfl rfl)
theorem dX0_swap_4 : decode cX0_swap 4 = .ok (.iload_n 1, 1) := dk_27 (dk_at dksX0_swap_0 4 rfl rfl)
theorem dX0_swap_5 : decode cX0_swap 5 = .ok (.iaload, 1) := dk_46 (dk_at dksX0_swap_0 5 rfl rfl)
theorem dX0_swap_6 : decode cX0_swap 6 = .ok (.istore_n 3, 1) := dk_62 (dk_at dksX0_swap_0 6 rfl rfl)
theorem dX0_swap_7 : decode cX0_swap 7 = .ok (.aload_n 0, 1) := dk_42 (dk_at dksX0_swap_0 7 rfl rfl)
theorem dX0_swap_8 : decode cX0_swap 8 = .ok (.getfield 60, 3) := dk_180 0 60 (dk_at dksX0_swap_0 8 rfl rfl)
theorem dX0_swap_11 : decode cX0_swap 11 = .ok (.iload_n 1, 1) := dk_27 (dk_at dksX0_swap_0 11 rfl rfl)
theorem dX0_swap_12 : decode cX0_swap 12 = .ok (.aload_n 0, 1) := dk_42 (dk_at dksX0_swap_0 12 rfl rfl)
theorem dX0_swap_13 : decode cX0_swap 13 = .ok (.getfield 60, 3) := dk_180 0 60 (dk_at dksX0_swap_0 13 rfl rfl)
theorem dX0_swap_16 : decode cX0_swap 16 = .ok (.iload_n 2, 1) := dk_28 (dk_at dksX0_swap_0 16 rfl rfl)
theorem dX0_swap_17 : decode cX0_swap 17 = .ok (.iaload, 1) := dk_46 (dk_at dksX0_swap_0 17 rfl rfl)
theorem dX0_swap_18 : decode cX0_swap 18 = .ok (.iastore, 1) := dk_79 (dk_at dksX0_swap_0 18 rfl rfl)
theorem dX0_swap_19 : decode cX0_swap 19 = .ok (.aload_n 0, 1) := dk_42 (dk_at dksX0_swap_0 19 rfl rfl)
theorem dX0_swap_20 : decode cX0_swap 20 = .ok (.getfield 60, 3) := dk_180 0 60 (dk_at dksX0_swap_0 20 rfl rfl)
theorem dX0_swap_23 : decode cX0_swap 23 = .ok (.iload_n 2, 1) := dk_28 (dk_at dksX0_swap_0 23 rfl rfl)
theorem dX0_swap_24 : decode cX0_swap 24 = .ok (.iload_n 3, 1) := dk_29 (dk_at dksX0_swap_1 0 rfl rfl)
theorem dX0_swap_25 : decode cX0_swap 25 = .ok (.iastore, 1) := dk_79 (dk_at dksX0_swap_1 1 rfl rfl)
theorem dX0_swap_26 : decode cX0_swap 26 = .ok (.return_, 1) := dk_177 (dk_at dksX0_swap_1 2 rfl rfl)
abbrev cX0_holds : ByteArray := prog_1_method_47_code
def yX0_holds : MethodName := ⟨RX0, "holds", "(I)I"⟩
def dkwX0_holds_7 : List UInt8 := [4, 160, 0, 8, 21, 4, 167, 0, 9, 42, 21, 4, 182, 1, 50, 172]
abbrev dktX0_holds_7 : List UInt8 := dkwX0_holds_7 ++ []
def dkwX0_holds_6 : List UInt8 := [21, 5, 167, 0, 5, 21, 4, 54, 4, 132, 5, 1, 167, 255, 154, 27, 154, 0, 7, 29, 167, 0, 19, 27]
abbrev dktX0_holds_6 : List UInt8 := dkwX0_holds_6 ++ dktX0_holds_7
def dkwX0_holds_5 : List UInt8 := [21, 6, 157, 0, 21, 21, 6, 154, 0, 21, 21, 5, 184, 1, 23, 21, 4, 184, 1, 23, 164, 0, 8]
abbrev dktX0_holds_5 : List UInt8 := dkwX0_holds_5 ++ dktX0_holds_6
def dkwX0_holds_4 : List UInt8 := [164, 0, 6, 167, 0, 53, 132, 3, 1, 42, 21, 5, 182, 1, 50, 42, 21, 4, 182, 1, 50, 100, 54, 6]
abbrev dktX0_holds_4 : List UInt8 := dkwX0_holds_4 ++ dktX0_holds_5
def dkwX0_holds_3 : List UInt8 := [180, 0, 39, 180, 0, 211, 163, 0, 72, 42, 21, 5, 182, 1, 50, 42, 180, 0, 39, 180, 0, 206]
abbrev dktX0_holds_3 : List UInt8 := dkwX0_holds_3 ++ dktX0_holds_4
def dkwX0_holds_2 : List UInt8 := [3, 54, 5, 21, 5, 28, 163, 0, 102, 21, 5, 28, 2, 130, 126, 154, 0, 87, 21, 5, 184, 1, 23, 42]
abbrev dktX0_holds_2 : List UInt8 := dkwX0_holds_2 ++ dktX0_holds_3
def dkwX0_holds_1 : List UInt8 := [172, 42, 180, 0, 39, 3, 182, 0, 197, 42, 180, 0, 39, 4, 182, 0, 197, 128, 61, 3, 62, 3, 54, 4]
abbrev dktX0_holds_1 : List UInt8 := dkwX0_holds_1 ++ dktX0_holds_2
def dkwX0_holds_0 : List UInt8 := [42, 182, 0, 181, 154, 0, 6, 18, 173, 172, 27, 133, 9, 20, 0, 98, 184, 0, 86, 154, 0, 6, 18, 100]
abbrev dktX0_holds_0 : List UInt8 := dkwX0_holds_0 ++ dktX0_holds_1
theorem dksX0_holds_0 : cX0_holds.data.toList.drop 0 = dktX0_holds_0 := by decide +kernel
theorem dksX0_holds_1 : cX0_holds.data.toList.drop 24 = dktX0_holds_1 := dk_seg dksX0_holds_0 24 rfl rfl
theorem dksX0_holds_2 : cX0_holds.data.toList.drop 48 = dktX0_holds_2 := dk_seg dksX0_holds_1 24 rfl rfl
theorem dksX0_holds_3 : cX0_holds.data.toList.drop 72 = dktX0_holds_3 := dk_seg dksX0_holds_2 24 rfl rfl
theorem dksX0_holds_4 : cX0_holds.data.toList.drop 94 = dktX0_holds_4 := dk_seg dksX0_holds_3 22 rfl rfl
theorem dksX0_holds_5 : cX0_holds.data.toList.drop 118 = dktX0_holds_5 := dk_seg dksX0_holds_4 24 rfl rfl
theorem dksX0_holds_6 : cX0_holds.data.toList.drop 141 = dktX0_holds_6 := dk_seg dksX0_holds_5 23 rfl rfl
theorem dksX0_holds_7 : cX0_holds.data.toList.drop 165 = dktX0_holds_7 := dk_seg dksX0_holds_6 24 rfl rfl
theorem dX0_holds_0 : decode cX0_holds 0 = .ok (.aload_n 0, 1) := dk_42 (dk_at dksX0_holds_0 0 rfl rfl)
theorem dX0_holds_1 : decode cX0_holds 1 = .ok (.invokevirtual 181, 3) := dk_182 0 181 (dk_at dksX0_holds_0 1 rfl rfl)
theorem dX0_holds_4 : decode cX0_holds 4 = .ok (.ifCond .ne 6, 3) := dk_154 0 6 (dk_at dksX0_holds_0 4 rfl rfl)
theorem dX0_holds_7 : decode cX0_holds 7 = .ok (.ldc 173, 2) := dk_18 173 (dk_at dksX0_holds_0 7 rfl rfl)
theorem dX0_holds_9 : decode cX0_holds 9 = .ok (.ireturn, 1) := dk_172 (dk_at dksX0_holds_0 9 rfl rfl)
theorem dX0_holds_10 : decode cX0_holds 10 = .ok (.iload_n 1, 1) := dk_27 (dk_at dksX0_holds_0 10 rfl rfl)
theorem dX0_holds_11 : decode cX0_holds 11 = .ok (.i2l, 1) := dk_133 (dk_at dksX0_holds_0 11 rfl rfl)
theorem dX0_holds_12 : decode cX0_holds 12 = .ok (.lconst 0, 1) := dk_9 (dk_at dksX0_holds_0 12 rfl rfl)
theorem dX0_holds_13 : decode cX0_holds 13 = .ok (.ldc2_w 98, 3) := dk_20 0 98 (dk_at dksX0_holds_0 13 rfl rfl)
theorem dX0_holds_16 : decode cX0_holds 16 = .ok (.invokestatic 86, 3) := dk_184 0 86 (dk_at dksX0_holds_0 16 rfl rfl)
theorem dX0_holds_19 : decode cX0_holds 19 = .ok (.ifCond .ne 6, 3) := dk_154 0 6 (dk_at dksX0_holds_0 19 rfl rfl)
theorem dX0_holds_22 : decode cX0_holds 22 = .ok (.ldc 100, 2) := dk_18 100 (dk_at dksX0_holds_0 22 rfl rfl)
theorem dX0_holds_24 : decode cX0_holds 24 = .ok (.ireturn, 1) := dk_172 (dk_at dksX0_holds_1 0 rfl rfl)
theorem dX0_holds_25 : decode cX0_holds 25 = .ok (.aload_n 0, 1) := dk_42 (dk_at dksX0_holds_1 1 rfl rfl)
theorem dX0_holds_26 : decode cX0_holds 26 = .ok (.getfield 39, 3) := dk_180 0 39 (dk_at dksX0_holds_1 2 rfl rfl)
theorem dX0_holds_29 : decode cX0_holds 29 = .ok (.iconst 0, 1) := dk_3 (dk_at dksX0_holds_1 5 rfl rfl)
theorem dX0_holds_30 : decode cX0_holds 30 = .ok (.invokevirtual 197, 3) := dk_182 0 197 (dk_at dksX0_holds_1 6 rfl rfl)
theorem dX0_holds_33 : decode cX0_holds 33 = .ok (.aload_n 0, 1) := dk_42 (dk_at dksX0_holds_1 9 rfl rfl)
theorem dX0_holds_34 : decode cX0_holds 34 = .ok (.getfield 39, 3) := dk_180 0 39 (dk_at dksX0_holds_1 10 rfl rfl)
theorem dX0_holds_37 : decode cX0_holds 37 = .ok (.iconst 1, 1) := dk_4 (dk_at dksX0_holds_1 13 rfl rfl)
theorem dX0_holds_38 : decode cX0_holds 38 = .ok (.invokevirtual 197, 3) := dk_182 0 197 (dk_at dksX0_holds_1 14 rfl rfl)
theorem dX0_holds_41 : decode cX0_holds 41 = .ok (.ior, 1) := dk_128 (dk_at dksX0_holds_1 17 rfl rfl)
theorem dX0_holds_42 : decode cX0_holds 42 = .ok (.istore_n 2, 1) := dk_61 (dk_at dksX0_holds_1 18 rfl rfl)
theorem dX0_holds_43 : decode cX0_holds 43 = .ok (.iconst 0, 1) := dk_3 (dk_at dksX0_holds_1 19 rfl rfl)
theorem dX0_holds_44 : decode cX0_holds 44 = .ok (.istore_n 3, 1) := dk_62 (dk_at dksX0_holds_1 20 rfl rfl)
theorem dX0_holds_45 : decode cX0_holds 45 = .ok (.iconst 0, 1) := dk_3 (dk_at dksX0_holds_1 21 rfl rfl)
theorem dX0_holds_46 : decode cX0_holds 46 = .ok (.istore 4, 2) := dk_54 4 (dk_at dksX0_holds_1 22 rfl rfl)
theorem dX0_holds_48 : decode cX0_holds 48 = .ok (.iconst 0, 1) := dk_3 (dk_at dksX0_holds_2 0 rfl rfl)
theorem dX0_holds_49 : decode cX0_holds 49 = .ok (.istore 5, 2) := dk_54 5 (dk_at dksX0_holds_2 1 rfl rfl)
theorem dX0_holds_51 : decode cX0_holds 51 = .ok (.iload 5, 2) := dk_21 5 (dk_at dksX0_holds_2 3 rfl rfl)
theorem dX0_holds_53 : decode cX0_holds 53 = .ok (.iload_n 2, 1) := dk_28 (dk_at dksX0_holds_2 5 rfl rfl)
theorem dX0_holds_54 : decode cX0_holds 54 = .ok (.if_icmp .gt 102, 3) := dk_163 0 102 (dk_at dksX0_holds_2 6 rfl rfl)
theorem dX0_holds_57 : decode cX0_holds 57 = .ok (.iload 5, 2) := dk_21 5 (dk_at dksX0_holds_2 9 rfl rfl)
theorem dX0_holds_59 : decode cX0_holds 59 = .ok (.iload_n 2, 1) := dk_28 (dk_at dksX0_holds_2 11 rfl rfl)
theorem dX0_holds_60 : decode cX0_holds 60 = .ok (.iconst (-1), 1) := dk_2 (dk_at dksX0_holds_2 12 rfl rfl)
theorem dX0_holds_61 : decode cX0_holds 61 = .ok (.ixor, 1) := dk_130 (dk_at dksX0_holds_2 13 rfl rfl)
theorem dX0_holds_62 : decode cX0_holds 62 = .ok (.iand, 1) := dk_126 (dk_at dksX0_holds_2 14 rfl rfl)
theorem dX0_holds_63 : decode cX0_holds 63 = .ok (.ifCond .ne 87, 3) := dk_154 0 87 (dk_at dksX0_holds_2 15 rfl rfl)
theorem dX0_holds_66 : decode cX0_holds 66 = .ok (.iload 5, 2) := dk_21 5 (dk_at dksX0_holds_2 18 rfl rfl)
theorem dX0_holds_68 : decode cX0_holds 68 = .ok (.invokestatic 279, 3) := dk_184 1 23 (dk_at dksX0_holds_2 20 rfl rfl)
theorem dX0_holds_71 : decode cX0_holds 71 = .ok (.aload_n 0, 1) := dk_42 (dk_at dksX0_holds_2 23 rfl rfl)
theorem dX0_holds_72 : decode cX0_holds 72 = .ok (.getfield 39, 3) := dk_180 0 39 (dk_at dksX0_holds_3 0 rfl rfl)
theorem dX0_holds_75 : decode cX0_holds 75 = .ok (.getfield 211, 3) := dk_180 0 211 (dk_at dksX0_holds_3 3 rfl rfl)
theorem dX0_holds_78 : decode cX0_holds 78 = .ok (.if_icmp .gt 72, 3) := dk_163 0 72 (dk_at dksX0_holds_3 6 rfl rfl)
theorem dX0_holds_81 : decode cX0_holds 81 = .ok (.aload_n 0, 1) := dk_42 (dk_at dksX0_holds_3 9 rfl rfl)
theorem dX0_holds_82 : decode cX0_holds 82 = .ok (.iload 5, 2) := dk_21 5 (dk_at dksX0_holds_3 10 rfl rfl)
theorem dX0_holds_84 : decode cX0_holds 84 = .ok (.invokevirtual 306, 3) := dk_182 1 50 (dk_at dksX0_holds_3 12 rfl rfl)
theorem dX0_holds_87 : decode cX0_holds 87 = .ok (.aload_n 0, 1) := dk_42 (dk_at dksX0_holds_3 15 rfl rfl)
theorem dX0_holds_88 : decode cX0_holds 88 = .ok (.getfield 39, 3) := dk_180 0 39 (dk_at dksX0_holds_3 16 rfl rfl)
theorem dX0_holds_91 : decode cX0_holds 91 = .ok (.getfield 206, 3) := dk_180 0 206 (dk_at dksX0_holds_3 19 rfl rfl)
theorem dX0_holds_94 : decode cX0_holds 94 = .ok (.if_icmp .le 6, 3) := dk_164 0 6 (dk_at dksX0_holds_4 0 rfl rfl)
theorem dX0_holds_97 : decode cX0_holds 97 = .ok (.goto 53, 3) := dk_167 0 53 (dk_at dksX0_holds_4 3 rfl rfl)
theorem dX0_holds_100 : decode cX0_holds 100 = .ok (.iinc 3 1, 3) := dk_132 3 1 (dk_at dksX0_holds_4 6 rfl rfl)
theorem dX0_holds_103 : decode cX0_holds 103 = .ok (.aload_n 0, 1) := dk_42 (dk_at dksX0_holds_4 9 rfl rfl)
theorem dX0_holds_104 : decode cX0_holds 104 = .ok (.iload 5, 2) := dk_21 5 (dk_at dksX0_holds_4 10 rfl rfl)
theorem dX0_holds_106 : decode cX0_holds 106 = .ok (.invokevirtual 306, 3) := dk_182 1 50 (dk_at dksX0_holds_4 12 rfl rfl)
theorem dX0_holds_109 : decode cX0_holds 109 = .ok (.aload_n 0, 1) := dk_42 (dk_at dksX0_holds_4 15 rfl rfl)
theorem dX0_holds_110 : decode cX0_holds 110 = .ok (.iload 4, 2) := dk_21 4 (dk_at dksX0_holds_4 16 rfl rfl)
theorem dX0_holds_112 : decode cX0_holds 112 = .ok (.invokevirtual 306, 3) := dk_182 1 50 (dk_at dksX0_holds_4 18 rfl rfl)
theorem dX0_holds_115 : decode cX0_holds 115 = .ok (.isub, 1) := dk_100 (dk_at dksX0_holds_4 21 rfl rfl)
theorem dX0_holds_116 : decode cX0_holds 116 = .ok (.istore 6, 2) := dk_54 6 (dk_at dksX0_holds_4 22 rfl rfl)
theorem dX0_holds_118 : decode cX0_holds 118 = .ok (.iload 6, 2) := dk_21 6 (dk_at dksX0_holds_5 0 rfl rfl)
theorem dX0_holds_120 : decode cX0_holds 120 = .ok (.ifCond .gt 21, 3) := dk_157 0 21 (dk_at dksX0_holds_5 2 rfl rfl)
theorem dX0_holds_123 : decode cX0_holds 123 = .ok (.iload 6, 2) := dk_21 6 (dk_at dksX0_holds_5 5 rfl rfl)
theorem dX0_holds_125 : decode cX0_holds 125 = .ok (.ifCond .ne 21, 3) := dk_154 0 21 (dk_at dksX0_holds_5 7 rfl rfl)
theorem dX0_holds_128 : decode cX0_holds 128 = .ok (.iload 5, 2) := dk_21 5 (dk_at dksX0_holds_5 10 rfl rfl)
theorem dX0_holds_130 : decode cX0_holds 130 = .ok (.invokestatic 279, 3) := dk_184 1 23 (dk_at dksX0_holds_5 12 rfl rfl)
theorem dX0_holds_133 : decode cX0_holds 133 = .ok (.iload 4, 2) := dk_21 4 (dk_at dksX0_holds_5 15 rfl rfl)
theorem dX0_holds_135 : decode cX0_holds 135 = .ok (.invokestatic 279, 3) := dk_184 1 23 (dk_at dksX0_holds_5 17 rfl rfl)
theorem dX0_holds_138 : decode cX0_holds 138 = .ok (.if_icmp .le 8, 3) := dk_164 0 8 (dk_at dksX0_holds_5 20 rfl rfl)
theorem dX0_holds_141 : decode cX0_holds 141 = .ok (.iload 5, 2) := dk_21 5 (dk_at dksX0_holds_6 0 rfl rfl)
theorem dX0_holds_143 : decode cX0_holds 143 = .ok (.goto 5, 3) := dk_167 0 5 (dk_at dksX0_holds_6 2 rfl rfl)
theorem dX0_holds_146 : decode cX0_holds 146 = .ok (.iload 4, 2) := dk_21 4 (dk_at dksX0_holds_6 5 rfl rfl)
theorem dX0_holds_148 : decode cX0_holds 148 = .ok (.istore 4, 2) := dk_54 4 (dk_at dksX0_holds_6 7 rfl rfl)
theorem dX0_holds_150 : decode cX0_holds 150 = .ok (.iinc 5 1, 3) := dk_132 5 1 (dk_at dksX0_holds_6 9 rfl rfl)
theorem dX0_holds_153 : decode cX0_holds 153 = .ok (.goto (-102), 3) := dk_167 255 154 (dk_at dksX0_holds_6 12 rfl rfl)
theorem dX0_holds_156 : decode cX0_holds 156 = .ok (.iload_n 1, 1) := dk_27 (dk_at dksX0_holds_6 15 rfl rfl)
theorem dX0_holds_157 : decode cX0_holds 157 = .ok (.ifCond .ne 7, 3) := dk_154 0 7 (dk_at dksX0_holds_6 16 rfl rfl)
theorem dX0_holds_160 : decode cX0_holds 160 = .ok (.iload_n 3, 1) := dk_29 (dk_at dksX0_holds_6 19 rfl rfl)
theorem dX0_holds_161 : decode cX0_holds 161 = .ok (.goto 19, 3) := dk_167 0 19 (dk_at dksX0_holds_6 20 rfl rfl)
theorem dX0_holds_164 : decode cX0_holds 164 = .ok (.iload_n 1, 1) := dk_27 (dk_at dksX0_holds_6 23 rfl rfl)
theorem dX0_holds_165 : decode cX0_holds 165 = .ok (.iconst 1, 1) := dk_4 (dk_at dksX0_holds_7 0 rfl rfl)
theorem dX0_holds_166 : decode cX0_holds 166 = .ok (.if_icmp .ne 8, 3) := dk_160 0 8 (dk_at dksX0_holds_7 1 rfl rfl)
theorem dX0_holds_169 : decode cX0_holds 169 = .ok (.iload 4, 2) := dk_21 4 (dk_at dksX0_holds_7 4 rfl rfl)
theorem dX0_holds_171 : decode cX0_holds 171 = .ok (.goto 9, 3) := dk_167 0 9 (dk_at dksX0_holds_7 6 rfl rfl)
theorem dX0_holds_174 : decode cX0_holds 174 = .ok (.aload_n 0, 1) := dk_42 (dk_at dksX0_holds_7 9 rfl rfl)
theorem dX0_holds_175 : decode cX0_holds 175 = .ok (.iload 4, 2) := dk_21 4 (dk_at dksX0_holds_7 10 rfl rfl)
theorem dX0_holds_177 : decode cX0_holds 177 = .ok (.invokevirtual 306, 3) := dk_182 1 50 (dk_at dksX0_holds_7 12 rfl rfl)
theorem dX0_holds_180 : decode cX0_holds 180 = .ok (.ireturn, 1) := dk_172 (dk_at dksX0_holds_7 15 rfl rfl)
abbrev cX0_weightOf : ByteArray := prog_1_method_46_code
def yX0_weightOf : MethodName := ⟨RX0, "weightOf", "(I)I"⟩
def dkwX0_weightOf_1 : List UInt8 := [42, 180, 0, 39, 180, 0, 234, 29, 46, 167, 0, 4, 3, 96, 61, 132, 3, 1, 167, 255, 218, 28, 172]
abbrev dktX0_weightOf_1 : List UInt8 := dkwX0_weightOf_1 ++ []
def dkwX0_weightOf_0 : List UInt8 := [3, 61, 3, 62, 29, 42, 180, 0, 39, 182, 0, 169, 162, 0, 33, 28, 27, 29, 184, 1, 46, 153, 0, 15]
abbrev dktX0_weightOf_0 : List UInt8 := dkwX0_weightOf_0 ++ dktX0_weightOf_1
theorem dksX0_weightOf_0 : cX0_weightOf.data.toList.drop 0 = dktX0_weightOf_0 := by decide +kernel
theorem dksX0_weightOf_1 : cX0_weightOf.data.toList.drop 24 = dktX0_weightOf_1 := dk_seg dksX0_weightOf_0 24 rfl rfl
theorem dX0_weightOf_0 : decode cX0_weightOf 0 = .ok (.iconst 0, 1) := dk_3 (dk_at dksX0_weightOf_0 0 rfl rfl)
theorem dX0_weightOf_1 : decode cX0_weightOf 1 = .ok (.istore_n 2, 1) := dk_61 (dk_at dksX0_weightOf_0 1 rfl rfl)
theorem dX0_weightOf_2 : decode cX0_weightOf 2 = .ok (.iconst 0, 1) := dk_3 (dk_at dksX0_weightOf_0 2 rfl rfl)
theorem dX0_weightOf_3 : decode cX0_weightOf 3 = .ok (.istore_n 3, 1) := dk_62 (dk_at dksX0_weightOf_0 3 rfl rfl)
theorem dX0_weightOf_4 : decode cX0_weightOf 4 = .ok (.iload_n 3, 1) := dk_29 (dk_at dksX0_weightOf_0 4 rfl rfl)
theorem dX0_weightOf_5 : decode cX0_weightOf 5 = .ok (.aload_n 0, 1) := dk_42 (dk_at dksX0_weightOf_0 5 rfl rfl)
theorem dX0_weightOf_6 : decode cX0_weightOf 6 = .ok (.getfield 39, 3) := dk_180 0 39 (dk_at dksX0_weightOf_0 6 rfl rfl)
theorem dX0_weightOf_9 : decode cX0_weightOf 9 = .ok (.invokevirtual 169, 3) := dk_182 0 169 (dk_at dksX0_weightOf_0 9 rfl rfl)
theorem dX0_weightOf_12 : decode cX0_weightOf 12 = .ok (.if_icmp .ge 33, 3) := dk_162 0 33 (dk_at dksX0_weightOf_0 12 rfl rfl)
theorem dX0_weightOf_15 : decode cX0_weightOf 15 = .ok (.iload_n 2, 1) := dk_28 (dk_at dksX0_weightOf_0 15 rfl rfl)
theorem dX0_weightOf_16 : decode cX0_weightOf 16 = .ok (.iload_n 1, 1) := dk_27 (dk_at dksX0_weightOf_0 16 rfl rfl)
theorem dX0_weightOf_17 : decode cX0_weightOf 17 = .ok (.iload_n 3, 1) := dk_29 (dk_at dksX0_weightOf_0 17 rfl rfl)
theorem dX0_weightOf_18 : decode cX0_weightOf 18 = .ok (.invokestatic 302, 3) := dk_184 1 46 (dk_at dksX0_weightOf_0 18 rfl rfl)
theorem dX0_weightOf_21 : decode cX0_weightOf 21 = .ok (.ifCond .eq 15, 3) := dk_153 0 15 (dk_at dksX0_weightOf_0 21 rfl rfl)
theorem dX0_weightOf_24 : decode cX0_weightOf 24 = .ok (.aload_n 0, 1) := dk_42 (dk_at dksX0_weightOf_1 0 rfl rfl)
theorem dX0_weightOf_25 : decode cX0_weightOf 25 = .ok (.getfield 39, 3) := dk_180 0 39 (dk_at dksX0_weightOf_1 1 rfl rfl)
theorem dX0_weightOf_28 : decode cX0_weightOf 28 = .ok (.getfield 234, 3) := dk_180 0 234 (dk_at dksX0_weightOf_1 4 rfl rfl)
theorem dX0_weightOf_31 : decode cX0_weightOf 31 = .ok (.iload_n 3, 1) := dk_29 (dk_at dksX0_weightOf_1 7 rfl rfl)
theorem dX0_weightOf_32 : decode cX0_weightOf 32 = .ok (.iaload, 1) := dk_46 (dk_at dksX0_weightOf_1 8 rfl rfl)
theorem dX0_weightOf_33 : decode cX0_weightOf 33 = .ok (.goto 4, 3) := dk_167 0 4 (dk_at dksX0_weightOf_1 9 rfl rfl)
theorem dX0_weightOf_36 : decode cX0_weightOf 36 = .ok (.iconst 0, 1) := dk_3 (dk_at dksX0_weightOf_1 12 rfl rfl)
theorem dX0_weightOf_37 : decode cX0_weightOf 37 = .ok (.iadd, 1) := dk_96 (dk_at dksX0_weightOf_1 13 rfl rfl)
theorem dX0_weightOf_38 : decode cX0_weightOf 38 = .ok (.istore_n 2, 1) := dk_61 (dk_at dksX0_weightOf_1 14 rfl rfl)
theorem dX0_weightOf_39 : decode cX0_weightOf 39 = .ok (.iinc 3 1, 3) := dk_132 3 1 (dk_at dksX0_weightOf_1 15 rfl rfl)
theorem dX0_weightOf_42 : decode cX0_weightOf 42 = .ok (.goto (-38), 3) := dk_167 255 218 (dk_at dksX0_weightOf_1 18 rfl rfl)
theorem dX0_weightOf_45 : decode cX0_weightOf 45 = .ok (.iload_n 2, 1) := dk_28 (dk_at dksX0_weightOf_1 21 rfl rfl)
theorem dX0_weightOf_46 : decode cX0_weightOf 46 = .ok (.ireturn, 1) := dk_172 (dk_at dksX0_weightOf_1 22 rfl rfl)
abbrev cX0_has : ByteArray := prog_1_method_2_code
def yX0_has : MethodName := ⟨RX0, "has", "(II)Z"⟩
def dkwX0_has_0 : List UInt8 := [26, 27, 122, 4, 126, 4, 160, 0, 7, 4, 167, 0, 4, 3, 172]
abbrev dktX0_has_0 : List UInt8 := dkwX0_has_0 ++ []
theorem dksX0_has_0 : cX0_has.data.toList.drop 0 = dktX0_has_0 := by decide +kernel
theorem dX0_has_0 : decode cX0_has 0 = .ok (.iload_n 0, 1) := dk_26 (dk_at dksX0_has_0 0 rfl rfl)
theorem dX0_has_1 : decode cX0_has 1 = .ok (.iload_n 1, 1) := dk_27 (dk_at dksX0_has_0 1 rfl rfl)
theorem dX0_has_2 : decode cX0_has 2 = .ok (.ishr, 1) := dk_122 (dk_at dksX0_has_0 2 rfl rfl)
theorem dX0_has_3 : decode cX0_has 3 = .ok (.iconst 1, 1) := dk_4 (dk_at dksX0_has_0 3 rfl rfl)
theorem dX0_has_4 : decode cX0_has 4 = .ok (.iand, 1) := dk_126 (dk_at dksX0_has_0 4 rfl rfl)
theorem dX0_has_5 : decode cX0_has 5 = .ok (.iconst 1, 1) := dk_4 (dk_at dksX0_has_0 5 rfl rfl)
theorem dX0_has_6 : decode cX0_has 6 = .ok (.if_icmp .ne 7, 3) := dk_160 0 7 (dk_at dksX0_has_0 6 rfl rfl)
theorem dX0_has_9 : decode cX0_has 9 = .ok (.iconst 1, 1) := dk_4 (dk_at dksX0_has_0 9 rfl rfl)
theorem dX0_has_10 : decode cX0_has 10 = .ok (.goto 4, 3) := dk_167 0 4 (dk_at dksX0_has_0 10 rfl rfl)
theorem dX0_has_13 : decode cX0_has 13 = .ok (.iconst 0, 1) := dk_3 (dk_at dksX0_has_0 13 rfl rfl)
theorem dX0_has_14 : decode cX0_has 14 = .ok (.ireturn, 1) := dk_172 (dk_at dksX0_has_0 14 rfl rfl)
abbrev cX0_share : ByteArray := prog_1_method_49_code
def yX0_share : MethodName := ⟨RX0, "share", "(II)I"⟩
def dkwX0_share_6 : List UInt8 := [21, 4, 162, 0, 7, 4, 167, 0, 4, 3, 96, 172]
abbrev dktX0_share_6 : List UInt8 := dkwX0_share_6 ++ []
def dkwX0_share_5 : List UInt8 := [167, 0, 4, 3, 96, 54, 5, 132, 6, 1, 167, 255, 201, 28, 42, 27, 182, 1, 55, 104, 29, 108, 21, 5]
abbrev dktX0_share_5 : List UInt8 := dkwX0_share_5 ++ dktX0_share_6
def dkwX0_share_4 : List UInt8 := [104, 29, 108, 100, 54, 4, 21, 5, 21, 6, 27, 162, 0, 16, 42, 21, 6, 182, 1, 55, 158, 0, 7, 4]
abbrev dktX0_share_4 : List UInt8 := dkwX0_share_4 ++ dktX0_share_5
def dkwX0_share_3 : List UInt8 := [3, 54, 6, 21, 6, 42, 180, 0, 39, 182, 0, 169, 162, 0, 49, 21, 4, 28, 42, 21, 6, 182, 1, 55]
abbrev dktX0_share_3 : List UInt8 := dkwX0_share_3 ++ dktX0_share_4
def dkwX0_share_2 : List UInt8 := [162, 0, 18, 29, 42, 21, 4, 182, 1, 55, 96, 62, 132, 4, 1, 167, 255, 232, 28, 54, 4, 3, 54, 5]
abbrev dktX0_share_2 : List UInt8 := dkwX0_share_2 ++ dktX0_share_3
def dkwX0_share_1 : List UInt8 := [27, 182, 1, 55, 154, 0, 5, 3, 172, 3, 62, 3, 54, 4, 21, 4, 42, 180, 0, 39, 182, 0, 169]
abbrev dktX0_share_1 : List UInt8 := dkwX0_share_1 ++ dktX0_share_2
def dkwX0_share_0 : List UInt8 := [42, 27, 182, 0, 214, 153, 0, 15, 28, 133, 9, 20, 1, 53, 184, 0, 86, 154, 0, 6, 18, 100, 172, 42]
abbrev dktX0_share_0 : List UInt8 := dkwX0_share_0 ++ dktX0_share_1
theorem dksX0_share_0 : cX0_share.data.toList.drop 0 = dktX0_share_0 := by decide +kernel
theorem dksX0_share_1 : cX0_share.data.toList.drop 24 = dktX0_share_1 := dk_seg dksX0_share_0 24 rfl rfl
theorem dksX0_share_2 : cX0_share.data.toList.drop 47 = dktX0_share_2 := dk_seg dksX0_share_1 23 rfl rfl
theorem dksX0_share_3 : cX0_share.data.toList.drop 71 = dktX0_share_3 := dk_seg dksX0_share_2 24 rfl rfl
theorem dksX0_share_4 : cX0_share.data.toList.drop 95 = dktX0_share_4 := dk_seg dksX0_share_3 24 rfl rfl
theorem dksX0_share_5 : cX0_share.data.toList.drop 119 = dktX0_share_5 := dk_seg dksX0_share_4 24 rfl rfl
theorem dksX0_share_6 : cX0_share.data.toList.drop 143 = dktX0_share_6 := dk_seg dksX0_share_5 24 rfl rfl
theorem dX0_share_0 : decode cX0_share 0 = .ok (.aload_n 0, 1) := dk_42 (dk_at dksX0_share_0 0 rfl rfl)
theorem dX0_share_1 : decode cX0_share 1 = .ok (.iload_n 1, 1) := dk_27 (dk_at dksX0_share_0 1 rfl rfl)
theorem dX0_share_2 : decode cX0_share 2 = .ok (.invokevirtual 214, 3) := dk_182 0 214 (dk_at dksX0_share_0 2 rfl rfl)
theorem dX0_share_5 : decode cX0_share 5 = .ok (.ifCond .eq 15, 3) := dk_153 0 15 (dk_at dksX0_share_0 5 rfl rfl)
theorem dX0_share_8 : decode cX0_share 8 = .ok (.iload_n 2, 1) := dk_28 (dk_at dksX0_share_0 8 rfl rfl)
theorem dX0_share_9 : decode cX0_share 9 = .ok (.i2l, 1) := dk_133 (dk_at dksX0_share_0 9 rfl rfl)
theorem dX0_share_10 : decode cX0_share 10 = .ok (.lconst 0, 1) := dk_9 (dk_at dksX0_share_0 10 rfl rfl)
theorem dX0_share_11 : decode cX0_share 11 = .ok (.ldc2_w 309, 3) := dk_20 1 53 (dk_at dksX0_share_0 11 rfl rfl)
theorem dX0_share_14 : decode cX0_share 14 = .ok (.invokestatic 86, 3) := dk_184 0 86 (dk_at dksX0_share_0 14 rfl rfl)
theorem dX0_share_17 : decode cX0_share 17 = .ok (.ifCond .ne 6, 3) := dk_154 0 6 (dk_at dksX0_share_0 17 rfl rfl)
theorem dX0_share_20 : decode cX0_share 20 = .ok (.ldc 100, 2) := dk_18 100 (dk_at dksX0_share_0 20 rfl rfl)
theorem dX0_share_22 : decode cX0_share 22 = .ok (.ireturn, 1) := dk_172 (dk_at dksX0_share_0 22 rfl rfl)
theorem dX0_share_23 : decode cX0_share 23 = .ok (.aload_n 0, 1) := dk_42 (dk_at dksX0_share_0 23 rfl rfl)
theorem dX0_share_24 : decode cX0_share 24 = .ok (.iload_n 1, 1) := dk_27 (dk_at dksX0_share_1 0 rfl rfl)
theorem dX0_share_25 : decode cX0_share 25 = .ok (.invokevirtual 311, 3) := dk_182 1 55 (dk_at dksX0_share_1 1 rfl rfl)
theorem dX0_share_28 : decode cX0_share 28 = .ok (.ifCond .ne 5, 3) := dk_154 0 5 (dk_at dksX0_share_1 4 rfl rfl)
theorem dX0_share_31 : decode cX0_share 31 = .ok (.iconst 0, 1) := dk_3 (dk_at dksX0_share_1 7 rfl rfl)
theorem dX0_share_32 : decode cX0_share 32 = .ok (.ireturn, 1) := dk_172 (dk_at dksX0_share_1 8 rfl rfl)
theorem dX0_share_33 : decode cX0_share 33 = .ok (.iconst 0, 1) := dk_3 (dk_at dksX0_share_1 9 rfl rfl)
theorem dX0_share_34 : decode cX0_share 34 = .ok (.istore_n 3, 1) := dk_62 (dk_at dksX0_share_1 10 rfl rfl)
theorem dX0_share_35 : decode cX0_share 35 = .ok (.iconst 0, 1) := dk_3 (dk_at dksX0_share_1 11 rfl rfl)
theorem dX0_share_36 : decode cX0_share 36 = .ok (.istore 4, 2) := dk_54 4 (dk_at dksX0_share_1 12 rfl rfl)
theorem dX0_share_38 : decode cX0_share 38 = .ok (.iload 4, 2) := dk_21 4 (dk_at dksX0_share_1 14 rfl rfl)
theorem dX0_share_40 : decode cX0_share 40 = .ok (.aload_n 0, 1) := dk_42 (dk_at dksX0_share_1 16 rfl rfl)
theorem dX0_share_41 : decode cX0_share 41 = .ok (.getfield 39, 3) := dk_180 0 39 (dk_at dksX0_share_1 17 rfl rfl)
theorem dX0_share_44 : decode cX0_share 44 = .ok (.invokevirtual 169, 3) := dk_182 0 169 (dk_at dksX0_share_1 20 rfl rfl)
theorem dX0_share_47 : decode cX0_share 47 = .ok (.if_icmp .ge 18, 3) := dk_162 0 18 (dk_at dksX0_share_2 0 rfl rfl)
theorem dX0_share_50 : decode cX0_share 50 = .ok (.iload_n 3, 1) := dk_29 (dk_at dksX0_share_2 3 rfl rfl)
theorem dX0_share_51 : decode cX0_share 51 = .ok (.aload_n 0, 1) := dk_42 (dk_at dksX0_share_2 4 rfl rfl)
theorem dX0_share_52 : decode cX0_share 52 = .ok (.iload 4, 2) := dk_21 4 (dk_at dksX0_share_2 5 rfl rfl)
theorem dX0_share_54 : decode cX0_share 54 = .ok (.invokevirtual 311, 3) := dk_182 1 55 (dk_at dksX0_share_2 7 rfl rfl)
theorem dX0_share_57 : decode cX0_share 57 = .ok (.iadd, 1) := dk_96 (dk_at dksX0_share_2 10 rfl rfl)
theorem dX0_share_58 : decode cX0_share 58 = .ok (.istore_n 3, 1) := dk_62 (dk_at dksX0_share_2 11 rfl rfl)
theorem dX0_share_59 : decode cX0_share 59 = .ok (.iinc 4 1, 3) := dk_132 4 1 (dk_at dksX0_share_2 12 rfl rfl)
theorem dX0_share_62 : decode cX0_share 62 = .ok (.goto (-24), 3) := dk_167 255 232 (dk_at dksX0_share_2 15 rfl rfl)
theorem dX0_share_65 : decode cX0_share 65 = .ok (.iload_n 2, 1) := dk_28 (dk_at dksX0_share_2 18 rfl rfl)
theorem dX0_share_66 : decode cX0_share 66 = .ok (.istore 4, 2) := dk_54 4 (dk_at dksX0_share_2 19 rfl rfl)
theorem dX0_share_68 : decode cX0_share 68 = .ok (.iconst 0, 1) := dk_3 (dk_at dksX0_share_2 21 rfl rfl)
theorem dX0_share_69 : decode cX0_share 69 = .ok (.istore 5, 2) := dk_54 5 (dk_at dksX0_share_2 22 rfl rfl)
theorem dX0_share_71 : decode cX0_share 71 = .ok (.iconst 0, 1) := dk_3 (dk_at dksX0_share_3 0 rfl rfl)
theorem dX0_share_72 : decode cX0_share 72 = .ok (.istore 6, 2) := dk_54 6 (dk_at dksX0_share_3 1 rfl rfl)
theorem dX0_share_74 : decode cX0_share 74 = .ok (.iload 6, 2) := dk_21 6 (dk_at dksX0_share_3 3 rfl rfl)
theorem dX0_share_76 : decode cX0_share 76 = .ok (.aload_n 0, 1) := dk_42 (dk_at dksX0_share_3 5 rfl rfl)
theorem dX0_share_77 : decode cX0_share 77 = .ok (.getfield 39, 3) := dk_180 0 39 (dk_at dksX0_share_3 6 rfl rfl)
theorem dX0_share_80 : decode cX0_share 80 = .ok (.invokevirtual 169, 3) := dk_182 0 169 (dk_at dksX0_share_3 9 rfl rfl)
theorem dX0_share_83 : decode cX0_share 83 = .ok (.if_icmp .ge 49, 3) := dk_162 0 49 (dk_at dksX0_share_3 12 rfl rfl)
theorem dX0_share_86 : decode cX0_share 86 = .ok (.iload 4, 2) := dk_21 4 (dk_at dksX0_share_3 15 rfl rfl)
theorem dX0_share_88 : decode cX0_share 88 = .ok (.iload_n 2, 1) := dk_28 (dk_at dksX0_share_3 17 rfl rfl)
theorem dX0_share_89 : decode cX0_share 89 = .ok (.aload_n 0, 1) := dk_42 (dk_at dksX0_share_3 18 rfl rfl)
theorem dX0_share_90 : decode cX0_share 90 = .ok (.iload 6, 2) := dk_21 6 (dk_at dksX0_share_3 19 rfl rfl)
theorem dX0_share_92 : decode cX0_share 92 = .ok (.invokevirtual 311, 3) := dk_182 1 55 (dk_at dksX0_share_3 21 rfl rfl)
theorem dX0_share_95 : decode cX0_share 95 = .ok (.imul, 1) := dk_104 (dk_at dksX0_share_4 0 rfl rfl)
theorem dX0_share_96 : decode cX0_share 96 = .ok (.iload_n 3, 1) := dk_29 (dk_at dksX0_share_4 1 rfl rfl)
theorem dX0_share_97 : decode cX0_share 97 = .ok (.idiv, 1) := dk_108 (dk_at dksX0_share_4 2 rfl rfl)
theorem dX0_share_98 : decode cX0_share 98 = .ok (.isub, 1) := dk_100 (dk_at dksX0_share_4 3 rfl rfl)
theorem dX0_share_99 : decode cX0_share 99 = .ok (.istore 4, 2) := dk_54 4 (dk_at dksX0_share_4 4 rfl rfl)
theorem dX0_share_101 : decode cX0_share 101 = .ok (.iload 5, 2) := dk_21 5 (dk_at dksX0_share_4 6 rfl rfl)
theorem dX0_share_103 : decode cX0_share 103 = .ok (.iload 6, 2) := dk_21 6 (dk_at dksX0_share_4 8 rfl rfl)
theorem dX0_share_105 : decode cX0_share 105 = .ok (.iload_n 1, 1) := dk_27 (dk_at dksX0_share_4 10 rfl rfl)
theorem dX0_share_106 : decode cX0_share 106 = .ok (.if_icmp .ge 16, 3) := dk_162 0 16 (dk_at dksX0_share_4 11 rfl rfl)
theorem dX0_share_109 : decode cX0_share 109 = .ok (.aload_n 0, 1) := dk_42 (dk_at dksX0_share_4 14 rfl rfl)
theorem dX0_share_110 : decode cX0_share 110 = .ok (.iload 6, 2) := dk_21 6 (dk_at dksX0_share_4 15 rfl rfl)
theorem dX0_share_112 : decode cX0_share 112 = .ok (.invokevirtual 311, 3) := dk_182 1 55 (dk_at dksX0_share_4 17 rfl rfl)
theorem dX0_share_115 : decode cX0_share 115 = .ok (.ifCond .le 7, 3) := dk_158 0 7 (dk_at dksX0_share_4 20 rfl rfl)
theorem dX0_share_118 : decode cX0_share 118 = .ok (.iconst 1, 1) := dk_4 (dk_at dksX0_share_4 23 rfl rfl)
theorem dX0_share_119 : decode cX0_share 119 = .ok (.goto 4, 3) := dk_167 0 4 (dk_at dksX0_share_5 0 rfl rfl)
theorem dX0_share_122 : decode cX0_share 122 = .ok (.iconst 0, 1) := dk_3 (dk_at dksX0_share_5 3 rfl rfl)
theorem dX0_share_123 : decode cX0_share 123 = .ok (.iadd, 1) := dk_96 (dk_at dksX0_share_5 4 rfl rfl)
theorem dX0_share_124 : decode cX0_share 124 = .ok (.istore 5, 2) := dk_54 5 (dk_at dksX0_share_5 5 rfl rfl)
theorem dX0_share_126 : decode cX0_share 126 = .ok (.iinc 6 1, 3) := dk_132 6 1 (dk_at dksX0_share_5 7 rfl rfl)
theorem dX0_share_129 : decode cX0_share 129 = .ok (.goto (-55), 3) := dk_167 255 201 (dk_at dksX0_share_5 10 rfl rfl)
theorem dX0_share_132 : decode cX0_share 132 = .ok (.iload_n 2, 1) := dk_28 (dk_at dksX0_share_5 13 rfl rfl)
theorem dX0_share_133 : decode cX0_share 133 = .ok (.aload_n 0, 1) := dk_42 (dk_at dksX0_share_5 14 rfl rfl)
theorem dX0_share_134 : decode cX0_share 134 = .ok (.iload_n 1, 1) := dk_27 (dk_at dksX0_share_5 15 rfl rfl)
theorem dX0_share_135 : decode cX0_share 135 = .ok (.invokevirtual 311, 3) := dk_182 1 55 (dk_at dksX0_share_5 16 rfl rfl)
theorem dX0_share_138 : decode cX0_share 138 = .ok (.imul, 1) := dk_104 (dk_at dksX0_share_5 19 rfl rfl)
theorem dX0_share_139 : decode cX0_share 139 = .ok (.iload_n 3, 1) := dk_29 (dk_at dksX0_share_5 20 rfl rfl)
theorem dX0_share_140 : decode cX0_share 140 = .ok (.idiv, 1) := dk_108 (dk_at dksX0_share_5 21 rfl rfl)
theorem dX0_share_141 : decode cX0_share 141 = .ok (.iload 5, 2) := dk_21 5 (dk_at dksX0_share_5 22 rfl rfl)
theorem dX0_share_143 : decode cX0_share 143 = .ok (.iload 4, 2) := dk_21 4 (dk_at dksX0_share_6 0 rfl rfl)
theorem dX0_share_145 : decode cX0_share 145 = .ok (.if_icmp .ge 7, 3) := dk_162 0 7 (dk_at dksX0_share_6 2 rfl rfl)
theorem dX0_share_148 : decode cX0_share 148 = .ok (.iconst 1, 1) := dk_4 (dk_at dksX0_share_6 5 rfl rfl)
theorem dX0_share_149 : decode cX0_share 149 = .ok (.goto 4, 3) := dk_167 0 4 (dk_at dksX0_share_6 6 rfl rfl)
theorem dX0_share_152 : decode cX0_share 152 = .ok (.iconst 0, 1) := dk_3 (dk_at dksX0_share_6 9 rfl rfl)
theorem dX0_share_153 : decode cX0_share 153 = .ok (.iadd, 1) := dk_96 (dk_at dksX0_share_6 10 rfl rfl)
theorem dX0_share_154 : decode cX0_share 154 = .ok (.ireturn, 1) := dk_172 (dk_at dksX0_share_6 11 rfl rfl)
abbrev cX0_claim : ByteArray := prog_1_method_48_code
def yX0_claim : MethodName := ⟨RX0, "claim", "(I)I"⟩
def dkwX0_claim_1 : List UInt8 := [27, 46, 172]
abbrev dktX0_claim_1 : List UInt8 := dkwX0_claim_1 ++ []
def dkwX0_claim_0 : List UInt8 := [42, 180, 0, 39, 180, 0, 217, 27, 46, 5, 160, 0, 7, 3, 167, 0, 12, 42, 180, 0, 39, 180, 0, 237]
abbrev dktX0_claim_0 : List UInt8 := dkwX0_claim_0 ++ dktX0_claim_1
theorem dksX0_claim_0 : cX0_claim.data.toList.drop 0 = dktX0_claim_0 := by decide +kernel
theorem dksX0_claim_1 : cX0_claim.data.toList.drop 24 = dktX0_claim_1 := dk_seg dksX0_claim_0 24 rfl rfl
theorem dX0_claim_0 : decode cX0_claim 0 = .ok (.aload_n 0, 1) := dk_42 (dk_at dksX0_claim_0 0 rfl rfl)
theorem dX0_claim_1 : decode cX0_claim 1 = .ok (.getfield 39, 3) := dk_180 0 39 (dk_at dksX0_claim_0 1 rfl rfl)
theorem dX0_claim_4 : decode cX0_claim 4 = .ok (.getfield 217, 3) := dk_180 0 217 (dk_at dksX0_claim_0 4 rfl rfl)
theorem dX0_claim_7 : decode cX0_claim 7 = .ok (.iload_n 1, 1) := dk_27 (dk_at dksX0_claim_0 7 rfl rfl)
theorem dX0_claim_8 : decode cX0_claim 8 = .ok (.iaload, 1) := dk_46 (dk_at dksX0_claim_0 8 rfl rfl)
theorem dX0_claim_9 : decode cX0_claim 9 = .ok (.iconst 2, 1) := dk_5 (dk_at dksX0_claim_0 9 rfl rfl)
theorem dX0_claim_10 : decode cX0_claim 10 = .ok (.if_icmp .ne 7, 3) := dk_160 0 7 (dk_at dksX0_claim_0 10 rfl rfl)
theorem dX0_claim_13 : decode cX0_claim 13 = .ok (.iconst 0, 1) := dk_3 (dk_at dksX0_claim_0 13 rfl rfl)
theorem dX0_claim_14 : decode cX0_claim 14 = .ok (.goto 12, 3) := dk_167 0 12 (dk_at dksX0_claim_0 14 rfl rfl)
theorem dX0_claim_17 : decode cX0_claim 17 = .ok (.aload_n 0, 1) := dk_42 (dk_at dksX0_claim_0 17 rfl rfl)
theorem dX0_claim_18 : decode cX0_claim 18 = .ok (.getfield 39, 3) := dk_180 0 39 (dk_at dksX0_claim_0 18 rfl rfl)
theorem dX0_claim_21 : decode cX0_claim 21 = .ok (.getfield 237, 3) := dk_180 0 237 (dk_at dksX0_claim_0 21 rfl rfl)
theorem dX0_claim_24 : decode cX0_claim 24 = .ok (.iload_n 1, 1) := dk_27 (dk_at dksX0_claim_1 0 rfl rfl)
theorem dX0_claim_25 : decode cX0_claim 25 = .ok (.iaload, 1) := dk_46 (dk_at dksX0_claim_1 1 rfl rfl)
theorem dX0_claim_26 : decode cX0_claim 26 = .ok (.ireturn, 1) := dk_172 (dk_at dksX0_claim_1 2 rfl rfl)
abbrev cX0_byTurns : ByteArray := prog_1_method_51_code
def yX0_byTurns : MethodName := ⟨RX0, "byTurns", "(II)I"⟩
def dkwX0_byTurns_2 : List UInt8 := [167, 0, 5, 18, 100, 172]
abbrev dktX0_byTurns_2 : List UInt8 := dkwX0_byTurns_2 ++ []
def dkwX0_byTurns_1 : List UInt8 := [10, 20, 1, 69, 184, 0, 86, 153, 0, 20, 42, 3, 27, 28, 42, 180, 0, 39, 180, 0, 203, 182, 1, 62]
abbrev dktX0_byTurns_1 : List UInt8 := dkwX0_byTurns_1 ++ dktX0_byTurns_2
def dkwX0_byTurns_0 : List UInt8 := [42, 182, 0, 181, 154, 0, 6, 18, 173, 172, 27, 133, 9, 20, 0, 209, 184, 0, 86, 153, 0, 32, 28, 133]
abbrev dktX0_byTurns_0 : List UInt8 := dkwX0_byTurns_0 ++ dktX0_byTurns_1
theorem dksX0_byTurns_0 : cX0_byTurns.data.toList.drop 0 = dktX0_byTurns_0 := by decide +kernel
theorem dksX0_byTurns_1 : cX0_byTurns.data.toList.drop 24 = dktX0_byTurns_1 := dk_seg dksX0_byTurns_0 24 rfl rfl
theorem dksX0_byTurns_2 : cX0_byTurns.data.toList.drop 48 = dktX0_byTurns_2 := dk_seg dksX0_byTurns_1 24 rfl rfl
theorem dX0_byTurns_0 : decode cX0_byTurns 0 = .ok (.aload_n 0, 1) := dk_42 (dk_at dksX0_byTurns_0 0 rfl rfl)
theorem dX0_byTurns_1 : decode cX0_byTurns 1 = .ok (.invokevirtual 181, 3) := dk_182 0 181 (dk_at dksX0_byTurns_0 1 rfl rfl)
theorem dX0_byTurns_4 : decode cX0_byTurns 4 = .ok (.ifCond .ne 6, 3) := dk_154 0 6 (dk_at dksX0_byTurns_0 4 rfl rfl)
theorem dX0_byTurns_7 : decode cX0_byTurns 7 = .ok (.ldc 173, 2) := dk_18 173 (dk_at dksX0_byTurns_0 7 rfl rfl)
theorem dX0_byTurns_9 : decode cX0_byTurns 9 = .ok (.ireturn, 1) := dk_172 (dk_at dksX0_byTurns_0 9 rfl rfl)
theorem dX0_byTurns_10 : decode cX0_byTurns 10 = .ok (.iload_n 1, 1) := dk_27 (dk_at dksX0_byTurns_0 10 rfl rfl)
theorem dX0_byTurns_11 : decode cX0_byTurns 11 = .ok (.i2l, 1) := dk_133 (dk_at dksX0_byTurns_0 11 rfl rfl)
theorem dX0_byTurns_12 : decode cX0_byTurns 12 = .ok (.lconst 0, 1) := dk_9 (dk_at dksX0_byTurns_0 12 rfl rfl)
theorem dX0_byTurns_13 : decode cX0_byTurns 13 = .ok (.ldc2_w 209, 3) := dk_20 0 209 (dk_at dksX0_byTurns_0 13 rfl rfl)
theorem dX0_byTurns_16 : decode cX0_byTurns 16 = .ok (.invokestatic 86, 3) := dk_184 0 86 (dk_at dksX0_byTurns_0 16 rfl rfl)
theorem dX0_byTurns_19 : decode cX0_byTurns 19 = .ok (.ifCond .eq 32, 3) := dk_153 0 32 (dk_at dksX0_byTurns_0 19 rfl rfl)
theorem dX0_byTurns_22 : decode cX0_byTurns 22 = .ok (.iload_n 2, 1) := dk_28 (dk_at dksX0_byTurns_0 22 rfl rfl)
theorem dX0_byTurns_23 : decode cX0_byTurns 23 = .ok (.i2l, 1) := dk_133 (dk_at dksX0_byTurns_0 23 rfl rfl)
theorem dX0_byTurns_24 : decode cX0_byTurns 24 = .ok (.lconst 1, 1) := dk_10 (dk_at dksX0_byTurns_1 0 rfl rfl)
theorem dX0_byTurns_25 : decode cX0_byTurns 25 = .ok (.ldc2_w 325, 3) := dk_20 1 69 (dk_at dksX0_byTurns_1 1 rfl rfl)
theorem dX0_byTurns_28 : decode cX0_byTurns 28 = .ok (.invokestatic 86, 3) := dk_184 0 86 (dk_at dksX0_byTurns_1 4 rfl rfl)
theorem dX0_byTurns_31 : decode cX0_byTurns 31 = .ok (.ifCond .eq 20, 3) := dk_153 0 20 (dk_at dksX0_byTurns_1 7 rfl rfl)
theorem dX0_byTurns_34 : decode cX0_byTurns 34 = .ok (.aload_n 0, 1) := dk_42 (dk_at dksX0_byTurns_1 10 rfl rfl)
theorem dX0_byTurns_35 : decode cX0_byTurns 35 = .ok (.iconst 0, 1) := dk_3 (dk_at dksX0_byTurns_1 11 rfl rfl)
theorem dX0_byTurns_36 : decode cX0_byTurns 36 = .ok (.iload_n 1, 1) := dk_27 (dk_at dksX0_byTurns_1 12 rfl rfl)
theorem dX0_byTurns_37 : decode cX0_byTurns 37 = .ok (.iload_n 2, 1) := dk_28 (dk_at dksX0_byTurns_1 13 rfl rfl)
theorem dX0_byTurns_38 : decode cX0_byTurns 38 = .ok (.aload_n 0, 1) := dk_42 (dk_at dksX0_byTurns_1 14 rfl rfl)
theorem dX0_byTurns_39 : decode cX0_byTurns 39 = .ok (.getfield 39, 3) := dk_180 0 39 (dk_at dksX0_byTurns_1 15 rfl rfl)
theorem dX0_byTurns_42 : decode cX0_byTurns 42 = .ok (.getfield 203, 3) := dk_180 0 203 (dk_at dksX0_byTurns_1 18 rfl rfl)
theorem dX0_byTurns_45 : decode cX0_byTurns 45 = .ok (.invokevirtual 318, 3) := dk_182 1 62 (dk_at dksX0_byTurns_1 21 rfl rfl)
theorem dX0_byTurns_48 : decode cX0_byTurns 48 = .ok (.goto 5, 3) := dk_167 0 5 (dk_at dksX0_byTurns_2 0 rfl rfl)
theorem dX0_byTurns_51 : decode cX0_byTurns 51 = .ok (.ldc 100, 2) := dk_18 100 (dk_at dksX0_byTurns_2 3 rfl rfl)
theorem dX0_byTurns_53 : decode cX0_byTurns 53 = .ok (.ireturn, 1) := dk_172 (dk_at dksX0_byTurns_2 5 rfl rfl)
abbrev cX0_turnFrom : ByteArray := prog_1_method_50_code
def yX0_turnFrom : MethodName := ⟨RX0, "turnFrom", "(IIII)I"⟩
def dkwX0_turnFrom_4 : List UInt8 := [167, 0, 10, 21, 5, 21, 7, 184, 1, 66, 172]
abbrev dktX0_turnFrom_4 : List UInt8 := dkwX0_turnFrom_4 ++ []
def dkwX0_turnFrom_3 : List UInt8 := [96, 28, 29, 21, 6, 182, 1, 62, 54, 7, 27, 5, 112, 154, 0, 13, 21, 5, 21, 7, 184, 1, 28]
abbrev dktX0_turnFrom_3 : List UInt8 := dkwX0_turnFrom_3 ++ dktX0_turnFrom_4
def dkwX0_turnFrom_2 : List UInt8 := [167, 0, 7, 21, 4, 4, 96, 54, 6, 42, 21, 6, 182, 0, 200, 154, 0, 6, 21, 5, 172, 42, 27, 4]
abbrev dktX0_turnFrom_2 : List UInt8 := dkwX0_turnFrom_2 ++ dktX0_turnFrom_3
def dkwX0_turnFrom_1 : List UInt8 := [42, 27, 4, 96, 28, 29, 21, 4, 182, 1, 62, 54, 5, 27, 5, 112, 154, 0, 10, 21, 4, 4, 100]
abbrev dktX0_turnFrom_1 : List UInt8 := dkwX0_turnFrom_1 ++ dktX0_turnFrom_2
def dkwX0_turnFrom_0 : List UInt8 := [27, 28, 160, 0, 22, 42, 182, 1, 3, 21, 4, 181, 0, 203, 42, 29, 182, 1, 6, 4, 182, 1, 58, 172]
abbrev dktX0_turnFrom_0 : List UInt8 := dkwX0_turnFrom_0 ++ dktX0_turnFrom_1
theorem dksX0_turnFrom_0 : cX0_turnFrom.data.toList.drop 0 = dktX0_turnFrom_0 := by decide +kernel
theorem dksX0_turnFrom_1 : cX0_turnFrom.data.toList.drop 24 = dktX0_turnFrom_1 := dk_seg dksX0_turnFrom_0 24 rfl rfl
theorem dksX0_turnFrom_2 : cX0_turnFrom.data.toList.drop 47 = dktX0_turnFrom_2 := dk_seg dksX0_turnFrom_1 23 rfl rfl
theorem dksX0_turnFrom_3 : cX0_turnFrom.data.toList.drop 71 = dktX0_turnFrom_3 := dk_seg dksX0_turnFrom_2 24 rfl rfl
theorem dksX0_turnFrom_4 : cX0_turnFrom.data.toList.drop 94 = dktX0_turnFrom_4 := dk_seg dksX0_turnFrom_3 23 rfl rfl
theorem dX0_turnFrom_0 : decode cX0_turnFrom 0 = .ok (.iload_n 1, 1) := dk_27 (dk_at dksX0_turnFrom_0 0 rfl rfl)
theorem dX0_turnFrom_1 : decode cX0_turnFrom 1 = .ok (.iload_n 2, 1) := dk_28 (dk_at dksX0_turnFrom_0 1 rfl rfl)
theorem dX0_turnFrom_2 : decode cX0_turnFrom 2 = .ok (.if_icmp .ne 22, 3) := dk_160 0 22 (dk_at dksX0_turnFrom_0 2 rfl rfl)
theorem dX0_turnFrom_5 : decode cX0_turnFrom 5 = .ok (.aload_n 0, 1) := dk_42 (dk_at dksX0_turnFrom_0 5 rfl rfl)
theorem dX0_turnFrom_6 : decode cX0_turnFrom 6 = .ok (.invokevirtual 259, 3) := dk_182 1 3 (dk_at dksX0_turnFrom_0 6 rfl rfl)
theorem dX0_turnFrom_9 : decode cX0_turnFrom 9 = .ok (.iload 4, 2) := dk_21 4 (dk_at dksX0_turnFrom_0 9 rfl rfl)
theorem dX0_turnFrom_11 : decode cX0_turnFrom 11 = .ok (.putfield 203, 3) := dk_181 0 203 (dk_at dksX0_turnFrom_0 11 rfl rfl)
theorem dX0_turnFrom_14 : decode cX0_turnFrom 14 = .ok (.aload_n 0, 1) := dk_42 (dk_at dksX0_turnFrom_0 14 rfl rfl)
theorem dX0_turnFrom_15 : decode cX0_turnFrom 15 = .ok (.iload_n 3, 1) := dk_29 (dk_at dksX0_turnFrom_0 15 rfl rfl)
theorem dX0_turnFrom_16 : decode cX0_turnFrom 16 = .ok (.invokevirtual 262, 3) := dk_182 1 6 (dk_at dksX0_turnFrom_0 16 rfl rfl)
theorem dX0_turnFrom_19 : decode cX0_turnFrom 19 = .ok (.iconst 1, 1) := dk_4 (dk_at dksX0_turnFrom_0 19 rfl rfl)
theorem dX0_turnFrom_20 : decode cX0_turnFrom 20 = .ok (.invokevirtual 314, 3) := dk_182 1 58 (dk_at dksX0_turnFrom_0 20 rfl rfl)
theorem dX0_turnFrom_23 : decode cX0_turnFrom 23 = .ok (.ireturn, 1) := dk_172 (dk_at dksX0_turnFrom_0 23 rfl rfl)
theorem dX0_turnFrom_24 : decode cX0_turnFrom 24 = .ok (.aload_n 0, 1) := dk_42 (dk_at dksX0_turnFrom_1 0 rfl rfl)
theorem dX0_turnFrom_25 : decode cX0_turnFrom 25 = .ok (.iload_n 1, 1) := dk_27 (dk_at dksX0_turnFrom_1 1 rfl rfl)
theorem dX0_turnFrom_26 : decode cX0_turnFrom 26 = .ok (.iconst 1, 1) := dk_4 (dk_at dksX0_turnFrom_1 2 rfl rfl)
theorem dX0_turnFrom_27 : decode cX0_turnFrom 27 = .ok (.iadd, 1) := dk_96 (dk_at dksX0_turnFrom_1 3 rfl rfl)
theorem dX0_turnFrom_28 : decode cX0_turnFrom 28 = .ok (.iload_n 2, 1) := dk_28 (dk_at dksX0_turnFrom_1 4 rfl rfl)
theorem dX0_turnFrom_29 : decode cX0_turnFrom 29 = .ok (.iload_n 3, 1) := dk_29 (dk_at dksX0_turnFrom_1 5 rfl rfl)
theorem dX0_turnFrom_30 : decode cX0_turnFrom 30 = .ok (.iload 4, 2) := dk_21 4 (dk_at dksX0_turnFrom_1 6 rfl rfl)
theorem dX0_turnFrom_32 : decode cX0_turnFrom 32 = .ok (.invokevirtual 318, 3) := dk_182 1 62 (dk_at dksX0_turnFrom_1 8 rfl rfl)
theorem dX0_turnFrom_35 : decode cX0_turnFrom 35 = .ok (.istore 5, 2) := dk_54 5 (dk_at dksX0_turnFrom_1 11 rfl rfl)
theorem dX0_turnFrom_37 : decode cX0_turnFrom 37 = .ok (.iload_n 1, 1) := dk_27 (dk_at dksX0_turnFrom_1 13 rfl rfl)
theorem dX0_turnFrom_38 : decode cX0_turnFrom 38 = .ok (.iconst 2, 1) := dk_5 (dk_at dksX0_turnFrom_1 14 rfl rfl)
theorem dX0_turnFrom_39 : decode cX0_turnFrom 39 = .ok (.irem, 1) := dk_112 (dk_at dksX0_turnFrom_1 15 rfl rfl)
theorem dX0_turnFrom_40 : decode cX0_turnFrom 40 = .ok (.ifCond .ne 10, 3) := dk_154 0 10 (dk_at dksX0_turnFrom_1 16 rfl rfl)
theorem dX0_turnFrom_43 : decode cX0_turnFrom 43 = .ok (.iload 4, 2) := dk_21 4 (dk_at dksX0_turnFrom_1 19 rfl rfl)
theorem dX0_turnFrom_45 : decode cX0_turnFrom 45 = .ok (.iconst 1, 1) := dk_4 (dk_at dksX0_turnFrom_1 21 rfl rfl)
theorem dX0_turnFrom_46 : decode cX0_turnFrom 46 = .ok (.isub, 1) := dk_100 (dk_at dksX0_turnFrom_1 22 rfl rfl)
theorem dX0_turnFrom_47 : decode cX0_turnFrom 47 = .ok (.goto 7, 3) := dk_167 0 7 (dk_at dksX0_turnFrom_2 0 rfl rfl)
theorem dX0_turnFrom_50 : decode cX0_turnFrom 50 = .ok (.iload 4, 2) := dk_21 4 (dk_at dksX0_turnFrom_2 3 rfl rfl)
theorem dX0_turnFrom_52 : decode cX0_turnFrom 52 = .ok (.iconst 1, 1) := dk_4 (dk_at dksX0_turnFrom_2 5 rfl rfl)
theorem dX0_turnFrom_53 : decode cX0_turnFrom 53 = .ok (.iadd, 1) := dk_96 (dk_at dksX0_turnFrom_2 6 rfl rfl)
theorem dX0_turnFrom_54 : decode cX0_turnFrom 54 = .ok (.istore 6, 2) := dk_54 6 (dk_at dksX0_turnFrom_2 7 rfl rfl)
theorem dX0_turnFrom_56 : decode cX0_turnFrom 56 = .ok (.aload_n 0, 1) := dk_42 (dk_at dksX0_turnFrom_2 9 rfl rfl)
theorem dX0_turnFrom_57 : decode cX0_turnFrom 57 = .ok (.iload 6, 2) := dk_21 6 (dk_at dksX0_turnFrom_2 10 rfl rfl)
theorem dX0_turnFrom_59 : decode cX0_turnFrom 59 = .ok (.invokevirtual 200, 3) := dk_182 0 200 (dk_at dksX0_turnFrom_2 12 rfl rfl)
theorem dX0_turnFrom_62 : decode cX0_turnFrom 62 = .ok (.ifCond .ne 6, 3) := dk_154 0 6 (dk_at dksX0_turnFrom_2 15 rfl rfl)
theorem dX0_turnFrom_65 : decode cX0_turnFrom 65 = .ok (.iload 5, 2) := dk_21 5 (dk_at dksX0_turnFrom_2 18 rfl rfl)
theorem dX0_turnFrom_67 : decode cX0_turnFrom 67 = .ok (.ireturn, 1) := dk_172 (dk_at dksX0_turnFrom_2 20 rfl rfl)
theorem dX0_turnFrom_68 : decode cX0_turnFrom 68 = .ok (.aload_n 0, 1) := dk_42 (dk_at dksX0_turnFrom_2 21 rfl rfl)
theorem dX0_turnFrom_69 : decode cX0_turnFrom 69 = .ok (.iload_n 1, 1) := dk_27 (dk_at dksX0_turnFrom_2 22 rfl rfl)
theorem dX0_turnFrom_70 : decode cX0_turnFrom 70 = .ok (.iconst 1, 1) := dk_4 (dk_at dksX0_turnFrom_2 23 rfl rfl)
theorem dX0_turnFrom_71 : decode cX0_turnFrom 71 = .ok (.iadd, 1) := dk_96 (dk_at dksX0_turnFrom_3 0 rfl rfl)
theorem dX0_turnFrom_72 : decode cX0_turnFrom 72 = .ok (.iload_n 2, 1) := dk_28 (dk_at dksX0_turnFrom_3 1 rfl rfl)
theorem dX0_turnFrom_73 : decode cX0_turnFrom 73 = .ok (.iload_n 3, 1) := dk_29 (dk_at dksX0_turnFrom_3 2 rfl rfl)
theorem dX0_turnFrom_74 : decode cX0_turnFrom 74 = .ok (.iload 6, 2) := dk_21 6 (dk_at dksX0_turnFrom_3 3 rfl rfl)
theorem dX0_turnFrom_76 : decode cX0_turnFrom 76 = .ok (.invokevirtual 318, 3) := dk_182 1 62 (dk_at dksX0_turnFrom_3 5 rfl rfl)
theorem dX0_turnFrom_79 : decode cX0_turnFrom 79 = .ok (.istore 7, 2) := dk_54 7 (dk_at dksX0_turnFrom_3 8 rfl rfl)
theorem dX0_turnFrom_81 : decode cX0_turnFrom 81 = .ok (.iload_n 1, 1) := dk_27 (dk_at dksX0_turnFrom_3 10 rfl rfl)
theorem dX0_turnFrom_82 : decode cX0_turnFrom 82 = .ok (.iconst 2, 1) := dk_5 (dk_at dksX0_turnFrom_3 11 rfl rfl)
theorem dX0_turnFrom_83 : decode cX0_turnFrom 83 = .ok (.irem, 1) := dk_112 (dk_at dksX0_turnFrom_3 12 rfl rfl)
theorem dX0_turnFrom_84 : decode cX0_turnFrom 84 = .ok (.ifCond .ne 13, 3) := dk_154 0 13 (dk_at dksX0_turnFrom_3 13 rfl rfl)
theorem dX0_turnFrom_87 : decode cX0_turnFrom 87 = .ok (.iload 5, 2) := dk_21 5 (dk_at dksX0_turnFrom_3 16 rfl rfl)
theorem dX0_turnFrom_89 : decode cX0_turnFrom 89 = .ok (.iload 7, 2) := dk_21 7 (dk_at dksX0_turnFrom_3 18 rfl rfl)
theorem dX0_turnFrom_91 : decode cX0_turnFrom 91 = .ok (.invokestatic 284, 3) := dk_184 1 28 (dk_at dksX0_turnFrom_3 20 rfl rfl)
theorem dX0_turnFrom_94 : decode cX0_turnFrom 94 = .ok (.goto 10, 3) := dk_167 0 10 (dk_at dksX0_turnFrom_4 0 rfl rfl)
theorem dX0_turnFrom_97 : decode cX0_turnFrom 97 = .ok (.iload 5, 2) := dk_21 5 (dk_at dksX0_turnFrom_4 3 rfl rfl)
theorem dX0_turnFrom_99 : decode cX0_turnFrom 99 = .ok (.iload 7, 2) := dk_21 7 (dk_at dksX0_turnFrom_4 5 rfl rfl)
theorem dX0_turnFrom_101 : decode cX0_turnFrom 101 = .ok (.invokestatic 322, 3) := dk_184 1 66 (dk_at dksX0_turnFrom_4 7 rfl rfl)
theorem dX0_turnFrom_104 : decode cX0_turnFrom 104 = .ok (.ireturn, 1) := dk_172 (dk_at dksX0_turnFrom_4 10 rfl rfl)
abbrev cX0_who : ByteArray := prog_1_method_57_code
def yX0_who : MethodName := ⟨RX0, "who", "(IIIII)I"⟩
def dkwX0_who_3 : List UInt8 := [28, 25, 6, 182, 1, 100, 182, 0, 104, 172, 58, 6, 42, 25, 6, 182, 0, 108, 172]
abbrev dktX0_who_3 : List UInt8 := dkwX0_who_3 ++ []
def dkwX0_who_2 : List UInt8 := [182, 1, 92, 58, 6, 42, 28, 5, 162, 0, 14, 42, 27, 28, 25, 6, 182, 1, 96, 167, 0, 11, 42, 27]
abbrev dktX0_who_2 : List UInt8 := dkwX0_who_2 ++ dktX0_who_3
def dkwX0_who_1 : List UInt8 := [153, 0, 11, 21, 5, 184, 1, 89, 154, 0, 6, 18, 100, 172, 42, 29, 182, 0, 112, 21, 4, 21, 5]
abbrev dktX0_who_1 : List UInt8 := dkwX0_who_1 ++ dktX0_who_2
def dkwX0_who_0 : List UInt8 := [42, 27, 182, 0, 214, 153, 0, 30, 28, 133, 9, 20, 1, 87, 184, 0, 86, 153, 0, 18, 29, 184, 0, 94]
abbrev dktX0_who_0 : List UInt8 := dkwX0_who_0 ++ dktX0_who_1
theorem dksX0_who_0 : cX0_who.data.toList.drop 0 = dktX0_who_0 := by decide +kernel
theorem dksX0_who_1 : cX0_who.data.toList.drop 24 = dktX0_who_1 := dk_seg dksX0_who_0 24 rfl rfl
theorem dksX0_who_2 : cX0_who.data.toList.drop 47 = dktX0_who_2 := dk_seg dksX0_who_1 23 rfl rfl
theorem dksX0_who_3 : cX0_who.data.toList.drop 71 = dktX0_who_3 := dk_seg dksX0_who_2 24 rfl rfl
theorem dX0_who_0 : decode cX0_who 0 = .ok (.aload_n 0, 1) := dk_42 (dk_at dksX0_who_0 0 rfl rfl)
theorem dX0_who_1 : decode cX0_who 1 = .ok (.iload_n 1, 1) := dk_27 (dk_at dksX0_who_0 1 rfl rfl)
theorem dX0_who_2 : decode cX0_who 2 = .ok (.invokevirtual 214, 3) := dk_182 0 214 (dk_at dksX0_who_0 2 rfl rfl)
theorem dX0_who_5 : decode cX0_who 5 = .ok (.ifCond .eq 30, 3) := dk_153 0 30 (dk_at dksX0_who_0 5 rfl rfl)
theorem dX0_who_8 : decode cX0_who 8 = .ok (.iload_n 2, 1) := dk_28 (dk_at dksX0_who_0 8 rfl rfl)
theorem dX0_who_9 : decode cX0_who 9 = .ok (.i2l, 1) := dk_133 (dk_at dksX0_who_0 9 rfl rfl)
theorem dX0_who_10 : decode cX0_who 10 = .ok (.lconst 0, 1) := dk_9 (dk_at dksX0_who_0 10 rfl rfl)
theorem dX0_who_11 : decode cX0_who 11 = .ok (.ldc2_w 343, 3) := dk_20 1 87 (dk_at dksX0_who_0 11 rfl rfl)
theorem dX0_who_14 : decode cX0_who 14 = .ok (.invokestatic 86, 3) := dk_184 0 86 (dk_at dksX0_who_0 14 rfl rfl)
theorem dX0_who_17 : decode cX0_who 17 = .ok (.ifCond .eq 18, 3) := dk_153 0 18 (dk_at dksX0_who_0 17 rfl rfl)
theorem dX0_who_20 : decode cX0_who 20 = .ok (.iload_n 3, 1) := dk_29 (dk_at dksX0_who_0 20 rfl rfl)
theorem dX0_who_21 : decode cX0_who 21 = .ok (.invokestatic 94, 3) := dk_184 0 94 (dk_at dksX0_who_0 21 rfl rfl)
theorem dX0_who_24 : decode cX0_who 24 = .ok (.ifCond .eq 11, 3) := dk_153 0 11 (dk_at dksX0_who_1 0 rfl rfl)
theorem dX0_who_27 : decode cX0_who 27 = .ok (.iload 5, 2) := dk_21 5 (dk_at dksX0_who_1 3 rfl rfl)
theorem dX0_who_29 : decode cX0_who 29 = .ok (.invokestatic 345, 3) := dk_184 1 89 (dk_at dksX0_who_1 5 rfl rfl)
theorem dX0_who_32 : decode cX0_who 32 = .ok (.ifCond .ne 6, 3) := dk_154 0 6 (dk_at dksX0_who_1 8 rfl rfl)
theorem dX0_who_35 : decode cX0_who 35 = .ok (.ldc 100, 2) := dk_18 100 (dk_at dksX0_who_1 11 rfl rfl)
theorem dX0_who_37 : decode cX0_who 37 = .ok (.ireturn, 1) := dk_172 (dk_at dksX0_who_1 13 rfl rfl)
theorem dX0_who_38 : decode cX0_who 38 = .ok (.aload_n 0, 1) := dk_42 (dk_at dksX0_who_1 14 rfl rfl)
theorem dX0_who_39 : decode cX0_who 39 = .ok (.iload_n 3, 1) := dk_29 (dk_at dksX0_who_1 15 rfl rfl)
theorem dX0_who_40 : decode cX0_who 40 = .ok (.invokevirtual 112, 3) := dk_182 0 112 (dk_at dksX0_who_1 16 rfl rfl)
theorem dX0_who_43 : decode cX0_who 43 = .ok (.iload 4, 2) := dk_21 4 (dk_at dksX0_who_1 19 rfl rfl)
theorem dX0_who_45 : decode cX0_who 45 = .ok (.iload 5, 2) := dk_21 5 (dk_at dksX0_who_1 21 rfl rfl)
theorem dX0_who_47 : decode cX0_who 47 = .ok (.invokevirtual 348, 3) := dk_182 1 92 (dk_at dksX0_who_2 0 rfl rfl)
theorem dX0_who_50 : decode cX0_who 50 = .ok (.astore 6, 2) := dk_58 6 (dk_at dksX0_who_2 3 rfl rfl)
theorem dX0_who_52 : decode cX0_who 52 = .ok (.aload_n 0, 1) := dk_42 (dk_at dksX0_who_2 5 rfl rfl)
theorem dX0_who_53 : decode cX0_who 53 = .ok (.iload_n 2, 1) := dk_28 (dk_at dksX0_who_2 6 rfl rfl)
theorem dX0_who_54 : decode cX0_who 54 = .ok (.iconst 2, 1) := dk_5 (dk_at dksX0_who_2 7 rfl rfl)
theorem dX0_who_55 : decode cX0_who 55 = .ok (.if_icmp .ge 14, 3) := dk_162 0 14 (dk_at dksX0_who_2 8 rfl rfl)
theorem dX0_who_58 : decode cX0_who 58 = .ok (.aload_n 0, 1) := dk_42 (dk_at dksX0_who_2 11 rfl rfl)
theorem dX0_who_59 : decode cX0_who 59 = .ok (.iload_n 1, 1) := dk_27 (dk_at dksX0_who_2 12 rfl rfl)
theorem dX0_who_60 : decode cX0_who 60 = .ok (.iload_n 2, 1) := dk_28 (dk_at dksX0_who_2 13 rfl rfl)
theorem dX0_who_61 : decode cX0_who 61 = .ok (.aload 6, 2) := dk_25 6 (dk_at dksX0_who_2 14 rfl rfl)
theorem dX0_who_63 : decode cX0_who 63 = .ok (.invokevirtual 352, 3) := dk_182 1 96 (dk_at dksX0_who_2 16 rfl rfl)
theorem dX0_who_66 : decode cX0_who 66 = .ok (.goto 11, 3) := dk_167 0 11 (dk_at dksX0_who_2 19 rfl rfl)
theorem dX0_who_69 : decode cX0_who 69 = .ok (.aload_n 0, 1) := dk_42 (dk_at dksX0_who_2 22 rfl rfl)
theorem dX0_who_70 : decode cX0_who 70 = .ok (.iload_n 1, 1) := dk_27 (dk_at dksX0_who_2 23 rfl rfl)
theorem dX0_who_71 : decode cX0_who 71 = .ok (.iload_n 2, 1) := dk_28 (dk_at dksX0_who_3 0 rfl rfl)
theorem dX0_who_72 : decode cX0_who 72 = .ok (.aload 6, 2) := dk_25 6 (dk_at dksX0_who_3 1 rfl rfl)
theorem dX0_who_74 : decode cX0_who 74 = .ok (.invokevirtual 356, 3) := dk_182 1 100 (dk_at dksX0_who_3 3 rfl rfl)
theorem dX0_who_77 : decode cX0_who 77 = .ok (.invokevirtual 104, 3) := dk_182 0 104 (dk_at dksX0_who_3 6 rfl rfl)
theorem dX0_who_80 : decode cX0_who 80 = .ok (.ireturn, 1) := dk_172 (dk_at dksX0_who_3 9 rfl rfl)
theorem dX0_who_81 : decode cX0_who 81 = .ok (.astore 6, 2) := dk_58 6 (dk_at dksX0_who_3 10 rfl rfl)
theorem dX0_who_83 : decode cX0_who 83 = .ok (.aload_n 0, 1) := dk_42 (dk_at dksX0_who_3 12 rfl rfl)
theorem dX0_who_84 : decode cX0_who 84 = .ok (.aload 6, 2) := dk_25 6 (dk_at dksX0_who_3 13 rfl rfl)
theorem dX0_who_86 : decode cX0_who 86 = .ok (.invokevirtual 108, 3) := dk_182 0 108 (dk_at dksX0_who_3 15 rfl rfl)
theorem dX0_who_89 : decode cX0_who 89 = .ok (.ireturn, 1) := dk_172 (dk_at dksX0_who_3 18 rfl rfl)
abbrev cX0_isTold : ByteArray := prog_1_method_52_code
def yX0_isTold : MethodName := ⟨RX0, "isTold", "(I)Z"⟩
def dkwX0_isTold_0 : List UInt8 := [26, 133, 10, 20, 1, 71, 184, 0, 86, 172]
abbrev dktX0_isTold_0 : List UInt8 := dkwX0_isTold_0 ++ []
theorem dksX0_isTold_0 : cX0_isTold.data.toList.drop 0 = dktX0_isTold_0 := by decide +kernel
theorem dX0_isTold_0 : decode cX0_isTold 0 = .ok (.iload_n 0, 1) := dk_26 (dk_at dksX0_isTold_0 0 rfl rfl)
theorem dX0_isTold_1 : decode cX0_isTold 1 = .ok (.i2l, 1) := dk_133 (dk_at dksX0_isTold_0 1 rfl rfl)
theorem dX0_isTold_2 : decode cX0_isTold 2 = .ok (.lconst 1, 1) := dk_10 (dk_at dksX0_isTold_0 2 rfl rfl)
theorem dX0_isTold_3 : decode cX0_isTold 3 = .ok (.ldc2_w 327, 3) := dk_20 1 71 (dk_at dksX0_isTold_0 3 rfl rfl)
theorem dX0_isTold_6 : decode cX0_isTold 6 = .ok (.invokestatic 86, 3) := dk_184 0 86 (dk_at dksX0_isTold_0 6 rfl rfl)
theorem dX0_isTold_9 : decode cX0_isTold 9 = .ok (.ireturn, 1) := dk_172 (dk_at dksX0_isTold_0 9 rfl rfl)
abbrev cX0_setOf : ByteArray := prog_1_method_55_code
def yX0_setOf : MethodName := ⟨RX0, "setOf", "(II[I)I"⟩
def dkwX0_setOf_3 : List UInt8 := [21, 4, 172]
abbrev dktX0_setOf_3 : List UInt8 := dkwX0_setOf_3 ++ []
def dkwX0_setOf_2 : List UInt8 := [182, 1, 83, 153, 0, 10, 4, 21, 5, 120, 167, 0, 4, 3, 128, 54, 4, 132, 5, 1, 167, 255, 197]
abbrev dktX0_setOf_2 : List UInt8 := dkwX0_setOf_2 ++ dktX0_setOf_3
def dkwX0_setOf_1 : List UInt8 := [180, 0, 39, 180, 0, 174, 4, 100, 163, 0, 39, 42, 27, 28, 21, 5, 182, 1, 80, 21, 4, 42, 27, 45]
abbrev dktX0_setOf_1 : List UInt8 := dkwX0_setOf_1 ++ dktX0_setOf_2
def dkwX0_setOf_0 : List UInt8 := [3, 54, 4, 4, 28, 100, 54, 5, 21, 5, 28, 154, 0, 11, 42, 180, 0, 69, 190, 167, 0, 12, 42]
abbrev dktX0_setOf_0 : List UInt8 := dkwX0_setOf_0 ++ dktX0_setOf_1
theorem dksX0_setOf_0 : cX0_setOf.data.toList.drop 0 = dktX0_setOf_0 := by decide +kernel
theorem dksX0_setOf_1 : cX0_setOf.data.toList.drop 23 = dktX0_setOf_1 := dk_seg dksX0_setOf_0 23 rfl rfl
theorem dksX0_setOf_2 : cX0_setOf.data.toList.drop 47 = dktX0_setOf_2 := dk_seg dksX0_setOf_1 24 rfl rfl
theorem dksX0_setOf_3 : cX0_setOf.data.toList.drop 70 = dktX0_setOf_3 := dk_seg dksX0_setOf_2 23 rfl rfl
theorem dX0_setOf_0 : decode cX0_setOf 0 = .ok (.iconst 0, 1) := dk_3 (dk_at dksX0_setOf_0 0 rfl rfl)
theorem dX0_setOf_1 : decode cX0_setOf 1 = .ok (.istore 4, 2) := dk_54 4 (dk_at dksX0_setOf_0 1 rfl rfl)
theorem dX0_setOf_3 : decode cX0_setOf 3 = .ok (.iconst 1, 1) := dk_4 (dk_at dksX0_setOf_0 3 rfl rfl)
theorem dX0_setOf_4 : decode cX0_setOf 4 = .ok (.iload_n 2, 1) := dk_28 (dk_at dksX0_setOf_0 4 rfl rfl)
theorem dX0_setOf_5 : decode cX0_setOf 5 = .ok (.isub, 1) := dk_100 (dk_at dksX0_setOf_0 5 rfl rfl)
theorem dX0_setOf_6 : decode cX0_setOf 6 = .ok (.istore 5, 2) := dk_54 5 (dk_at dksX0_setOf_0 6 rfl rfl)
theorem dX0_setOf_8 : decode cX0_setOf 8 = .ok (.iload 5, 2) := dk_21 5 (dk_at dksX0_setOf_0 8 rfl rfl)
theorem dX0_setOf_10 : decode cX0_setOf 10 = .ok (.iload_n 2, 1) := dk_28 (dk_at dksX0_setOf_0 10 rfl rfl)
theorem dX0_setOf_11 : decode cX0_setOf 11 = .ok (.ifCond .ne 11, 3) := dk_154 0 11 (dk_at dksX0_setOf_0 11 rfl rfl)
theorem dX0_setOf_14 : decode cX0_setOf 14 = .ok (.aload_n 0, 1) := dk_42 (dk_at dksX0_setOf_0 14 rfl rfl)
theorem dX0_setOf_15 : decode cX0_setOf 15 = .ok (.getfield 69, 3) := dk_180 0 69 (dk_at dksX0_setOf_0 15 rfl rfl)
theorem dX0_setOf_18 : decode cX0_setOf 18 = .ok (.arraylength, 1) := dk_190 (dk_at dksX0_setOf_0 18 rfl rfl)
theorem dX0_setOf_19 : decode cX0_setOf 19 = .ok (.goto 12, 3) := dk_167 0 12 (dk_at dksX0_setOf_0 19 rfl rfl)
theorem dX0_setOf_22 : decode cX0_setOf 22 = .ok (.aload_n 0, 1) := dk_42 (dk_at dksX0_setOf_0 22 rfl rfl)
theorem dX0_setOf_23 : decode cX0_setOf 23 = .ok (.getfield 39, 3) := dk_180 0 39 (dk_at dksX0_setOf_1 0 rfl rfl)
theorem dX0_setOf_26 : decode cX0_setOf 26 = .ok (.getfield 174, 3) := dk_180 0 174 (dk_at dksX0_setOf_1 3 rfl rfl)
theorem dX0_setOf_29 : decode cX0_setOf 29 = .ok (.iconst 1, 1) := dk_4 (dk_at dksX0_setOf_1 6 rfl rfl)
theorem dX0_setOf_30 : decode cX0_setOf 30 = .ok (.isub, 1) := dk_100 (dk_at dksX0_setOf_1 7 rfl rfl)
theorem dX0_setOf_31 : decode cX0_setOf 31 = .ok (.if_icmp .gt 39, 3) := dk_163 0 39 (dk_at dksX0_setOf_1 8 rfl rfl)
theorem dX0_setOf_34 : decode cX0_setOf 34 = .ok (.aload_n 0, 1) := dk_42 (dk_at dksX0_setOf_1 11 rfl rfl)
theorem dX0_setOf_35 : decode cX0_setOf 35 = .ok (.iload_n 1, 1) := dk_27 (dk_at dksX0_setOf_1 12 rfl rfl)
theorem dX0_setOf_36 : decode cX0_setOf 36 = .ok (.iload_n 2, 1) := dk_28 (dk_at dksX0_setOf_1 13 rfl rfl)
theorem dX0_setOf_37 : decode cX0_setOf 37 = .ok (.iload 5, 2) := dk_21 5 (dk_at dksX0_setOf_1 14 rfl rfl)
theorem dX0_setOf_39 : decode cX0_setOf 39 = .ok (.invokevirtual 336, 3) := dk_182 1 80 (dk_at dksX0_setOf_1 16 rfl rfl)
theorem dX0_setOf_42 : decode cX0_setOf 42 = .ok (.iload 4, 2) := dk_21 4 (dk_at dksX0_setOf_1 19 rfl rfl)
theorem dX0_setOf_44 : decode cX0_setOf 44 = .ok (.aload_n 0, 1) := dk_42 (dk_at dksX0_setOf_1 21 rfl rfl)
theorem dX0_setOf_45 : decode cX0_setOf 45 = .ok (.iload_n 1, 1) := dk_27 (dk_at dksX0_setOf_1 22 rfl rfl)
theorem dX0_setOf_46 : decode cX0_setOf 46 = .ok (.aload_n 3, 1) := dk_45 (dk_at dksX0_setOf_1 23 rfl rfl)
theorem dX0_setOf_47 : decode cX0_setOf 47 = .ok (.invokevirtual 339, 3) := dk_182 1 83 (dk_at dksX0_setOf_2 0 rfl rfl)
theorem dX0_setOf_50 : decode cX0_setOf 50 = .ok (.ifCond .eq 10, 3) := dk_153 0 10 (dk_at dksX0_setOf_2 3 rfl rfl)
theorem dX0_setOf_53 : decode cX0_setOf 53 = .ok (.iconst 1, 1) := dk_4 (dk_at dksX0_setOf_2 6 rfl rfl)
theorem dX0_setOf_54 : decode cX0_setOf 54 = .ok (.iload 5, 2) := dk_21 5 (dk_at dksX0_setOf_2 7 rfl rfl)
theorem dX0_setOf_56 : decode cX0_setOf 56 = .ok (.ishl, 1) := dk_120 (dk_at dksX0_setOf_2 9 rfl rfl)
theorem dX0_setOf_57 : decode cX0_setOf 57 = .ok (.goto 4, 3) := dk_167 0 4 (dk_at dksX0_setOf_2 10 rfl rfl)
theorem dX0_setOf_60 : decode cX0_setOf 60 = .ok (.iconst 0, 1) := dk_3 (dk_at dksX0_setOf_2 13 rfl rfl)
theorem dX0_setOf_61 : decode cX0_setOf 61 = .ok (.ior, 1) := dk_128 (dk_at dksX0_setOf_2 14 rfl rfl)
theorem dX0_setOf_62 : decode cX0_setOf 62 = .ok (.istore 4, 2) := dk_54 4 (dk_at dksX0_setOf_2 15 rfl rfl)
theorem dX0_setOf_64 : decode cX0_setOf 64 = .ok (.iinc 5 1, 3) := dk_132 5 1 (dk_at dksX0_setOf_2 17 rfl rfl)
theorem dX0_setOf_67 : decode cX0_setOf 67 = .ok (.goto (-59), 3) := dk_167 255 197 (dk_at dksX0_setOf_2 20 rfl rfl)
theorem dX0_setOf_70 : decode cX0_setOf 70 = .ok (.iload 4, 2) := dk_21 4 (dk_at dksX0_setOf_3 0 rfl rfl)
theorem dX0_setOf_72 : decode cX0_setOf 72 = .ok (.ireturn, 1) := dk_172 (dk_at dksX0_setOf_3 2 rfl rfl)
abbrev cX0_alters : ByteArray := prog_1_method_54_code
def yX0_alters : MethodName := ⟨RX0, "alters", "(III)V"⟩
def dkwX0_alters_4 : List UInt8 := [167, 0, 11, 42, 180, 0, 43, 29, 181, 0, 206, 177]
abbrev dktX0_alters_4 : List UInt8 := dkwX0_alters_4 ++ []
def dkwX0_alters_3 : List UInt8 := [167, 0, 35, 42, 180, 0, 43, 29, 181, 0, 203, 167, 0, 24, 42, 180, 0, 43, 180, 0, 237, 27, 29, 79]
abbrev dktX0_alters_3 : List UInt8 := dkwX0_alters_3 ++ dktX0_alters_4
def dkwX0_alters_2 : List UInt8 := [42, 180, 0, 43, 27, 181, 1, 73, 42, 180, 0, 43, 42, 180, 0, 69, 29, 4, 100, 50, 181, 1, 76]
abbrev dktX0_alters_2 : List UInt8 := dkwX0_alters_2 ++ dktX0_alters_3
def dkwX0_alters_1 : List UInt8 := [170, 0, 0, 0, 0, 76, 0, 0, 0, 0, 0, 0, 0, 2, 0, 0, 0, 26, 0, 0, 0, 52, 0, 0, 0, 63]
abbrev dktX0_alters_1 : List UInt8 := dkwX0_alters_1 ++ dktX0_alters_2
def dkwX0_alters_0 : List UInt8 := [42, 182, 1, 3, 87, 28]
abbrev dktX0_alters_0 : List UInt8 := dkwX0_alters_0 ++ dktX0_alters_1
theorem dksX0_alters_0 : cX0_alters.data.toList.drop 0 = dktX0_alters_0 := by decide +kernel
theorem dksX0_alters_1 : cX0_alters.data.toList.drop 6 = dktX0_alters_1 := dk_seg dksX0_alters_0 6 rfl rfl
theorem dksX0_alters_2 : cX0_alters.data.toList.drop 32 = dktX0_alters_2 := dk_seg dksX0_alters_1 26 rfl rfl
theorem dksX0_alters_3 : cX0_alters.data.toList.drop 55 = dktX0_alters_3 := dk_seg dksX0_alters_2 23 rfl rfl
theorem dksX0_alters_4 : cX0_alters.data.toList.drop 79 = dktX0_alters_4 := dk_seg dksX0_alters_3 24 rfl rfl
theorem dX0_alters_0 : decode cX0_alters 0 = .ok (.aload_n 0, 1) := dk_42 (dk_at dksX0_alters_0 0 rfl rfl)
theorem dX0_alters_1 : decode cX0_alters 1 = .ok (.invokevirtual 259, 3) := dk_182 1 3 (dk_at dksX0_alters_0 1 rfl rfl)
theorem dX0_alters_4 : decode cX0_alters 4 = .ok (.pop, 1) := dk_87 (dk_at dksX0_alters_0 4 rfl rfl)
theorem dX0_alters_5 : decode cX0_alters 5 = .ok (.iload_n 2, 1) := dk_28 (dk_at dksX0_alters_0 5 rfl rfl)
theorem dX0_alters_6 : decode cX0_alters 6 = .ok (.tableswitch 76 0 2 #[26, 52, 63], 26) := by decide +kernel
theorem dX0_alters_32 : decode cX0_alters 32 = .ok (.aload_n 0, 1) := dk_42 (dk_at dksX0_alters_2 0 rfl rfl)
theorem dX0_alters_33 : decode cX0_alters 33 = .ok (.getfield 43, 3) := dk_180 0 43 (dk_at dksX0_alters_2 1 rfl rfl)
theorem dX0_alters_36 : decode cX0_alters 36 = .ok (.iload_n 1, 1) := dk_27 (dk_at dksX0_alters_2 4 rfl rfl)
theorem dX0_alters_37 : decode cX0_alters 37 = .ok (.putfield 329, 3) := dk_181 1 73 (dk_at dksX0_alters_2 5 rfl rfl)
theorem dX0_alters_40 : decode cX0_alters 40 = .ok (.aload_n 0, 1) := dk_42 (dk_at dksX0_alters_2 8 rfl rfl)
theorem dX0_alters_41 : decode cX0_alters 41 = .ok (.getfield 43, 3) := dk_180 0 43 (dk_at dksX0_alters_2 9 rfl rfl)
theorem dX0_alters_44 : decode cX0_alters 44 = .ok (.aload_n 0, 1) := dk_42 (dk_at dksX0_alters_2 12 rfl rfl)
theorem dX0_alters_45 : decode cX0_alters 45 = .ok (.getfield 69, 3) := dk_180 0 69 (dk_at dksX0_alters_2 13 rfl rfl)
theorem dX0_alters_48 : decode cX0_alters 48 = .ok (.iload_n 3, 1) := dk_29 (dk_at dksX0_alters_2 16 rfl rfl)
theorem dX0_alters_49 : decode cX0_alters 49 = .ok (.iconst 1, 1) := dk_4 (dk_at dksX0_alters_2 17 rfl rfl)
theorem dX0_alters_50 : decode cX0_alters 50 = .ok (.isub, 1) := dk_100 (dk_at dksX0_alters_2 18 rfl rfl)
theorem dX0_alters_51 : decode cX0_alters 51 = .ok (.aaload, 1) := dk_50 (dk_at dksX0_alters_2 19 rfl rfl)
theorem dX0_alters_52 : decode cX0_alters 52 = .ok (.putfield 332, 3) := dk_181 1 76 (dk_at dksX0_alters_2 20 rfl rfl)
theorem dX0_alters_55 : decode cX0_alters 55 = .ok (.goto 35, 3) := dk_167 0 35 (dk_at dksX0_alters_3 0 rfl rfl)
theorem dX0_alters_58 : decode cX0_alters 58 = .ok (.aload_n 0, 1) := dk_42 (dk_at dksX0_alters_3 3 rfl rfl)
theorem dX0_alters_59 : decode cX0_alters 59 = .ok (.getfield 43, 3) := dk_180 0 43 (dk_at dksX0_alters_3 4 rfl rfl)
theorem dX0_alters_62 : decode cX0_alters 62 = .ok (.iload_n 3, 1) := dk_29 (dk_at dksX0_alters_3 7 rfl rfl)
theorem dX0_alters_63 : decode cX0_alters 63 = .ok (.putfield 203, 3) := dk_181 0 203 (dk_at dksX0_alters_3 8 rfl rfl)
theorem dX0_alters_66 : decode cX0_alters 66 = .ok (.goto 24, 3) := dk_167 0 24 (dk_at dksX0_alters_3 11 rfl rfl)
theorem dX0_alters_69 : decode cX0_alters 69 = .ok (.aload_n 0, 1) := dk_42 (dk_at dksX0_alters_3 14 rfl rfl)
theorem dX0_alters_70 : decode cX0_alters 70 = .ok (.getfield 43, 3) := dk_180 0 43 (dk_at dksX0_alters_3 15 rfl rfl)
theorem dX0_alters_73 : decode cX0_alters 73 = .ok (.getfield 237, 3) := dk_180 0 237 (dk_at dksX0_alters_3 18 rfl rfl)
theorem dX0_alters_76 : decode cX0_alters 76 = .ok (.iload_n 1, 1) := dk_27 (dk_at dksX0_alters_3 21 rfl rfl)
theorem dX0_alters_77 : decode cX0_alters 77 = .ok (.iload_n 3, 1) := dk_29 (dk_at dksX0_alters_3 22 rfl rfl)
theorem dX0_alters_78 : decode cX0_alters 78 = .ok (.iastore, 1) := dk_79 (dk_at dksX0_alters_3 23 rfl rfl)
theorem dX0_alters_79 : decode cX0_alters 79 = .ok (.goto 11, 3) := dk_167 0 11 (dk_at dksX0_alters_4 0 rfl rfl)
theorem dX0_alters_82 : decode cX0_alters 82 = .ok (.aload_n 0, 1) := dk_42 (dk_at dksX0_alters_4 3 rfl rfl)
theorem dX0_alters_83 : decode cX0_alters 83 = .ok (.getfield 43, 3) := dk_180 0 43 (dk_at dksX0_alters_4 4 rfl rfl)
theorem dX0_alters_86 : decode cX0_alters 86 = .ok (.iload_n 3, 1) := dk_29 (dk_at dksX0_alters_4 7 rfl rfl)
theorem dX0_alters_87 : decode cX0_alters 87 = .ok (.putfield 206, 3) := dk_181 0 206 (dk_at dksX0_alters_4 8 rfl rfl)
theorem dX0_alters_90 : decode cX0_alters 90 = .ok (.return_, 1) := dk_177 (dk_at dksX0_alters_4 11 rfl rfl)
abbrev cX0_isSo : ByteArray := prog_1_method_53_code
def yX0_isSo : MethodName := ⟨RX0, "isSo", "(I[I)Z"⟩
def dkwX0_isSo_1 : List UInt8 := [46, 44, 21, 4, 46, 160, 0, 7, 4, 167, 0, 4, 3, 126, 62, 132, 4, 1, 167, 255, 219, 29, 172]
abbrev dktX0_isSo_1 : List UInt8 := dkwX0_isSo_1 ++ []
def dkwX0_isSo_0 : List UInt8 := [4, 62, 3, 54, 4, 21, 4, 44, 190, 162, 0, 36, 29, 42, 180, 0, 43, 182, 0, 193, 180, 0, 237, 27]
abbrev dktX0_isSo_0 : List UInt8 := dkwX0_isSo_0 ++ dktX0_isSo_1
theorem dksX0_isSo_0 : cX0_isSo.data.toList.drop 0 = dktX0_isSo_0 := by decide +kernel
theorem dksX0_isSo_1 : cX0_isSo.data.toList.drop 24 = dktX0_isSo_1 := dk_seg dksX0_isSo_0 24 rfl rfl
theorem dX0_isSo_0 : decode cX0_isSo 0 = .ok (.iconst 1, 1) := dk_4 (dk_at dksX0_isSo_0 0 rfl rfl)
theorem dX0_isSo_1 : decode cX0_isSo 1 = .ok (.istore_n 3, 1) := dk_62 (dk_at dksX0_isSo_0 1 rfl rfl)
theorem dX0_isSo_2 : decode cX0_isSo 2 = .ok (.iconst 0, 1) := dk_3 (dk_at dksX0_isSo_0 2 rfl rfl)
theorem dX0_isSo_3 : decode cX0_isSo 3 = .ok (.istore 4, 2) := dk_54 4 (dk_at dksX0_isSo_0 3 rfl rfl)
theorem dX0_isSo_5 : decode cX0_isSo 5 = .ok (.iload 4, 2) := dk_21 4 (dk_at dksX0_isSo_0 5 rfl rfl)
theorem dX0_isSo_7 : decode cX0_isSo 7 = .ok (.aload_n 2, 1) := dk_44 (dk_at dksX0_isSo_0 7 rfl rfl)
theorem dX0_isSo_8 : decode cX0_isSo 8 = .ok (.arraylength, 1) := dk_190 (dk_at dksX0_isSo_0 8 rfl rfl)
theorem dX0_isSo_9 : decode cX0_isSo 9 = .ok (.if_icmp .ge 36, 3) := dk_162 0 36 (dk_at dksX0_isSo_0 9 rfl rfl)
theorem dX0_isSo_12 : decode cX0_isSo 12 = .ok (.iload_n 3, 1) := dk_29 (dk_at dksX0_isSo_0 12 rfl rfl)
theorem dX0_isSo_13 : decode cX0_isSo 13 = .ok (.aload_n 0, 1) := dk_42 (dk_at dksX0_isSo_0 13 rfl rfl)
theorem dX0_isSo_14 : decode cX0_isSo 14 = .ok (.getfield 43, 3) := dk_180 0 43 (dk_at dksX0_isSo_0 14 rfl rfl)
theorem dX0_isSo_17 : decode cX0_isSo 17 = .ok (.invokevirtual 193, 3) := dk_182 0 193 (dk_at dksX0_isSo_0 17 rfl rfl)
theorem dX0_isSo_20 : decode cX0_isSo 20 = .ok (.getfield 237, 3) := dk_180 0 237 (dk_at dksX0_isSo_0 20 rfl rfl)
theorem dX0_isSo_23 : decode cX0_isSo 23 = .ok (.iload_n 1, 1) := dk_27 (dk_at dksX0_isSo_0 23 rfl rfl)
theorem dX0_isSo_24 : decode cX0_isSo 24 = .ok (.iaload, 1) := dk_46 (dk_at dksX0_isSo_1 0 rfl rfl)
theorem dX0_isSo_25 : decode cX0_isSo 25 = .ok (.aload_n 2, 1) := dk_44 (dk_at dksX0_isSo_1 1 rfl rfl)
theorem dX0_isSo_26 : decode cX0_isSo 26 = .ok (.iload 4, 2) := dk_21 4 (dk_at dksX0_isSo_1 2 rfl rfl)
theorem dX0_isSo_28 : decode cX0_isSo 28 = .ok (.iaload, 1) := dk_46 (dk_at dksX0_isSo_1 4 rfl rfl)
theorem dX0_isSo_29 : decode cX0_isSo 29 = .ok (.if_icmp .ne 7, 3) := dk_160 0 7 (dk_at dksX0_isSo_1 5 rfl rfl)
theorem dX0_isSo_32 : decode cX0_isSo 32 = .ok (.iconst 1, 1) := dk_4 (dk_at dksX0_isSo_1 8 rfl rfl)
theorem dX0_isSo_33 : decode cX0_isSo 33 = .ok (.goto 4, 3) := dk_167 0 4 (dk_at dksX0_isSo_1 9 rfl rfl)
theorem dX0_isSo_36 : decode cX0_isSo 36 = .ok (.iconst 0, 1) := dk_3 (dk_at dksX0_isSo_1 12 rfl rfl)
theorem dX0_isSo_37 : decode cX0_isSo 37 = .ok (.iand, 1) := dk_126 (dk_at dksX0_isSo_1 13 rfl rfl)
theorem dX0_isSo_38 : decode cX0_isSo 38 = .ok (.istore_n 3, 1) := dk_62 (dk_at dksX0_isSo_1 14 rfl rfl)
theorem dX0_isSo_39 : decode cX0_isSo 39 = .ok (.iinc 4 1, 3) := dk_132 4 1 (dk_at dksX0_isSo_1 15 rfl rfl)
theorem dX0_isSo_42 : decode cX0_isSo 42 = .ok (.goto (-37), 3) := dk_167 255 219 (dk_at dksX0_isSo_1 18 rfl rfl)
theorem dX0_isSo_45 : decode cX0_isSo 45 = .ok (.iload_n 3, 1) := dk_29 (dk_at dksX0_isSo_1 21 rfl rfl)
theorem dX0_isSo_46 : decode cX0_isSo 46 = .ok (.ireturn, 1) := dk_172 (dk_at dksX0_isSo_1 22 rfl rfl)
abbrev cX0_numberOf : ByteArray := prog_1_method_56_code
def yX0_numberOf : MethodName := ⟨RX0, "numberOf", "(II[I)I"⟩
def dkwX0_numberOf_4 : List UInt8 := [112, 154, 0, 8, 21, 4, 167, 0, 5, 21, 5, 172]
abbrev dktX0_numberOf_4 : List UInt8 := dkwX0_numberOf_4 ++ []
def dkwX0_numberOf_3 : List UInt8 := [182, 1, 83, 154, 0, 6, 167, 0, 10, 21, 7, 54, 5, 132, 4, 1, 132, 7, 255, 167, 255, 202, 28, 5]
abbrev dktX0_numberOf_3 : List UInt8 := dkwX0_numberOf_3 ++ dktX0_numberOf_4
def dkwX0_numberOf_2 : List UInt8 := [161, 0, 45, 42, 27, 21, 6, 153, 0, 7, 5, 167, 0, 4, 7, 21, 7, 182, 1, 80, 42, 27, 45]
abbrev dktX0_numberOf_2 : List UInt8 := dkwX0_numberOf_2 ++ dktX0_numberOf_3
def dkwX0_numberOf_1 : List UInt8 := [153, 0, 8, 16, 60, 167, 0, 5, 16, 40, 54, 7, 21, 7, 21, 6, 153, 0, 7, 3, 167, 0, 4, 4]
abbrev dktX0_numberOf_1 : List UInt8 := dkwX0_numberOf_1 ++ dktX0_numberOf_2
def dkwX0_numberOf_0 : List UInt8 := [3, 54, 4, 19, 1, 10, 54, 5, 28, 7, 162, 0, 7, 4, 167, 0, 4, 3, 54, 6, 21, 6]
abbrev dktX0_numberOf_0 : List UInt8 := dkwX0_numberOf_0 ++ dktX0_numberOf_1
theorem dksX0_numberOf_0 : cX0_numberOf.data.toList.drop 0 = dktX0_numberOf_0 := by decide +kernel
theorem dksX0_numberOf_1 : cX0_numberOf.data.toList.drop 22 = dktX0_numberOf_1 := dk_seg dksX0_numberOf_0 22 rfl rfl
theorem dksX0_numberOf_2 : cX0_numberOf.data.toList.drop 46 = dktX0_numberOf_2 := dk_seg dksX0_numberOf_1 24 rfl rfl
theorem dksX0_numberOf_3 : cX0_numberOf.data.toList.drop 69 = dktX0_numberOf_3 := dk_seg dksX0_numberOf_2 23 rfl rfl
theorem dksX0_numberOf_4 : cX0_numberOf.data.toList.drop 93 = dktX0_numberOf_4 := dk_seg dksX0_numberOf_3 24 rfl rfl
theorem dX0_numberOf_0 : decode cX0_numberOf 0 = .ok (.iconst 0, 1) := dk_3 (dk_at dksX0_numberOf_0 0 rfl rfl)
theorem dX0_numberOf_1 : decode cX0_numberOf 1 = .ok (.istore 4, 2) := dk_54 4 (dk_at dksX0_numberOf_0 1 rfl rfl)
theorem dX0_numberOf_3 : decode cX0_numberOf 3 = .ok (.ldc_w 266, 3) := dk_19 1 10 (dk_at dksX0_numberOf_0 3 rfl rfl)
theorem dX0_numberOf_6 : decode cX0_numberOf 6 = .ok (.istore 5, 2) := dk_54 5 (dk_at dksX0_numberOf_0 6 rfl rfl)
theorem dX0_numberOf_8 : decode cX0_numberOf 8 = .ok (.iload_n 2, 1) := dk_28 (dk_at dksX0_numberOf_0 8 rfl rfl)
theorem dX0_numberOf_9 : decode cX0_numberOf 9 = .ok (.iconst 4, 1) := dk_7 (dk_at dksX0_numberOf_0 9 rfl rfl)
theorem dX0_numberOf_10 : decode cX0_numberOf 10 = .ok (.if_icmp .ge 7, 3) := dk_162 0 7 (dk_at dksX0_numberOf_0 10 rfl rfl)
theorem dX0_numberOf_13 : decode cX0_numberOf 13 = .ok (.iconst 1, 1) := dk_4 (dk_at dksX0_numberOf_0 13 rfl rfl)
theorem dX0_numberOf_14 : decode cX0_numberOf 14 = .ok (.goto 4, 3) := dk_167 0 4 (dk_at dksX0_numberOf_0 14 rfl rfl)
theorem dX0_numberOf_17 : decode cX0_numberOf 17 = .ok (.iconst 0, 1) := dk_3 (dk_at dksX0_numberOf_0 17 rfl rfl)
theorem dX0_numberOf_18 : decode cX0_numberOf 18 = .ok (.istore 6, 2) := dk_54 6 (dk_at dksX0_numberOf_0 18 rfl rfl)
theorem dX0_numberOf_20 : decode cX0_numberOf 20 = .ok (.iload 6, 2) := dk_21 6 (dk_at dksX0_numberOf_0 20 rfl rfl)
theorem dX0_numberOf_22 : decode cX0_numberOf 22 = .ok (.ifCond .eq 8, 3) := dk_153 0 8 (dk_at dksX0_numberOf_1 0 rfl rfl)
theorem dX0_numberOf_25 : decode cX0_numberOf 25 = .ok (.bipush 60, 2) := dk_16 60 (dk_at dksX0_numberOf_1 3 rfl rfl)
theorem dX0_numberOf_27 : decode cX0_numberOf 27 = .ok (.goto 5, 3) := dk_167 0 5 (dk_at dksX0_numberOf_1 5 rfl rfl)
theorem dX0_numberOf_30 : decode cX0_numberOf 30 = .ok (.bipush 40, 2) := dk_16 40 (dk_at dksX0_numberOf_1 8 rfl rfl)
theorem dX0_numberOf_32 : decode cX0_numberOf 32 = .ok (.istore 7, 2) := dk_54 7 (dk_at dksX0_numberOf_1 10 rfl rfl)
theorem dX0_numberOf_34 : decode cX0_numberOf 34 = .ok (.iload 7, 2) := dk_21 7 (dk_at dksX0_numberOf_1 12 rfl rfl)
theorem dX0_numberOf_36 : decode cX0_numberOf 36 = .ok (.iload 6, 2) := dk_21 6 (dk_at dksX0_numberOf_1 14 rfl rfl)
theorem dX0_numberOf_38 : decode cX0_numberOf 38 = .ok (.ifCond .eq 7, 3) := dk_153 0 7 (dk_at dksX0_numberOf_1 16 rfl rfl)
theorem dX0_numberOf_41 : decode cX0_numberOf 41 = .ok (.iconst 0, 1) := dk_3 (dk_at dksX0_numberOf_1 19 rfl rfl)
theorem dX0_numberOf_42 : decode cX0_numberOf 42 = .ok (.goto 4, 3) := dk_167 0 4 (dk_at dksX0_numberOf_1 20 rfl rfl)
theorem dX0_numberOf_45 : decode cX0_numberOf 45 = .ok (.iconst 1, 1) := dk_4 (dk_at dksX0_numberOf_1 23 rfl rfl)
theorem dX0_numberOf_46 : decode cX0_numberOf 46 = .ok (.if_icmp .lt 45, 3) := dk_161 0 45 (dk_at dksX0_numberOf_2 0 rfl rfl)
theorem dX0_numberOf_49 : decode cX0_numberOf 49 = .ok (.aload_n 0, 1) := dk_42 (dk_at dksX0_numberOf_2 3 rfl rfl)
theorem dX0_numberOf_50 : decode cX0_numberOf 50 = .ok (.iload_n 1, 1) := dk_27 (dk_at dksX0_numberOf_2 4 rfl rfl)
theorem dX0_numberOf_51 : decode cX0_numberOf 51 = .ok (.iload 6, 2) := dk_21 6 (dk_at dksX0_numberOf_2 5 rfl rfl)
theorem dX0_numberOf_53 : decode cX0_numberOf 53 = .ok (.ifCond .eq 7, 3) := dk_153 0 7 (dk_at dksX0_numberOf_2 7 rfl rfl)
theorem dX0_numberOf_56 : decode cX0_numberOf 56 = .ok (.iconst 2, 1) := dk_5 (dk_at dksX0_numberOf_2 10 rfl rfl)
theorem dX0_numberOf_57 : decode cX0_numberOf 57 = .ok (.goto 4, 3) := dk_167 0 4 (dk_at dksX0_numberOf_2 11 rfl rfl)
theorem dX0_numberOf_60 : decode cX0_numberOf 60 = .ok (.iconst 4, 1) := dk_7 (dk_at dksX0_numberOf_2 14 rfl rfl)
theorem dX0_numberOf_61 : decode cX0_numberOf 61 = .ok (.iload 7, 2) := dk_21 7 (dk_at dksX0_numberOf_2 15 rfl rfl)
theorem dX0_numberOf_63 : decode cX0_numberOf 63 = .ok (.invokevirtual 336, 3) := dk_182 1 80 (dk_at dksX0_numberOf_2 17 rfl rfl)
theorem dX0_numberOf_66 : decode cX0_numberOf 66 = .ok (.aload_n 0, 1) := dk_42 (dk_at dksX0_numberOf_2 20 rfl rfl)
theorem dX0_numberOf_67 : decode cX0_numberOf 67 = .ok (.iload_n 1, 1) := dk_27 (dk_at dksX0_numberOf_2 21 rfl rfl)
theorem dX0_numberOf_68 : decode cX0_numberOf 68 = .ok (.aload_n 3, 1) := dk_45 (dk_at dksX0_numberOf_2 22 rfl rfl)
theorem dX0_numberOf_69 : decode cX0_numberOf 69 = .ok (.invokevirtual 339, 3) := dk_182 1 83 (dk_at dksX0_numberOf_3 0 rfl rfl)
theorem dX0_numberOf_72 : decode cX0_numberOf 72 = .ok (.ifCond .ne 6, 3) := dk_154 0 6 (dk_at dksX0_numberOf_3 3 rfl rfl)
theorem dX0_numberOf_75 : decode cX0_numberOf 75 = .ok (.goto 10, 3) := dk_167 0 10 (dk_at dksX0_numberOf_3 6 rfl rfl)
theorem dX0_numberOf_78 : decode cX0_numberOf 78 = .ok (.iload 7, 2) := dk_21 7 (dk_at dksX0_numberOf_3 9 rfl rfl)
theorem dX0_numberOf_80 : decode cX0_numberOf 80 = .ok (.istore 5, 2) := dk_54 5 (dk_at dksX0_numberOf_3 11 rfl rfl)
theorem dX0_numberOf_82 : decode cX0_numberOf 82 = .ok (.iinc 4 1, 3) := dk_132 4 1 (dk_at dksX0_numberOf_3 13 rfl rfl)
theorem dX0_numberOf_85 : decode cX0_numberOf 85 = .ok (.iinc 7 (-1), 3) := dk_132 7 255 (dk_at dksX0_numberOf_3 16 rfl rfl)
theorem dX0_numberOf_88 : decode cX0_numberOf 88 = .ok (.goto (-54), 3) := dk_167 255 202 (dk_at dksX0_numberOf_3 19 rfl rfl)
theorem dX0_numberOf_91 : decode cX0_numberOf 91 = .ok (.iload_n 2, 1) := dk_28 (dk_at dksX0_numberOf_3 22 rfl rfl)
theorem dX0_numberOf_92 : decode cX0_numberOf 92 = .ok (.iconst 2, 1) := dk_5 (dk_at dksX0_numberOf_3 23 rfl rfl)
theorem dX0_numberOf_93 : decode cX0_numberOf 93 = .ok (.irem, 1) := dk_112 (dk_at dksX0_numberOf_4 0 rfl rfl)
theorem dX0_numberOf_94 : decode cX0_numberOf 94 = .ok (.ifCond .ne 8, 3) := dk_154 0 8 (dk_at dksX0_numberOf_4 1 rfl rfl)
theorem dX0_numberOf_97 : decode cX0_numberOf 97 = .ok (.iload 4, 2) := dk_21 4 (dk_at dksX0_numberOf_4 4 rfl rfl)
theorem dX0_numberOf_99 : decode cX0_numberOf 99 = .ok (.goto 5, 3) := dk_167 0 5 (dk_at dksX0_numberOf_4 6 rfl rfl)
theorem dX0_numberOf_102 : decode cX0_numberOf 102 = .ok (.iload 5, 2) := dk_21 5 (dk_at dksX0_numberOf_4 9 rfl rfl)
theorem dX0_numberOf_104 : decode cX0_numberOf 104 = .ok (.ireturn, 1) := dk_172 (dk_at dksX0_numberOf_4 11 rfl rfl)
abbrev cX0_stuck : ByteArray := prog_1_method_59_code
def yX0_stuck : MethodName := ⟨RX0, "stuck", "(IIII)J"⟩
def dkwX0_stuck_9 : List UInt8 := [184, 1, 112, 109, 173]
abbrev dktX0_stuck_9 : List UInt8 := dkwX0_stuck_9 ++ []
def dkwX0_stuck_8 : List UInt8 := [132, 9, 1, 167, 255, 144, 21, 4, 154, 0, 8, 22, 5, 167, 0, 5, 22, 7, 22, 5, 22, 7]
abbrev dktX0_stuck_8 : List UInt8 := dkwX0_stuck_8 ++ dktX0_stuck_9
def dkwX0_stuck_7 : List UInt8 := [22, 5, 42, 180, 0, 43, 180, 0, 217, 27, 46, 5, 160, 0, 8, 22, 10, 167, 0, 4, 9, 97, 55, 5]
abbrev dktX0_stuck_7 : List UInt8 := dkwX0_stuck_7 ++ dktX0_stuck_8
def dkwX0_stuck_6 : List UInt8 := [180, 0, 43, 182, 1, 109, 87, 167, 0, 11, 42, 180, 0, 43, 182, 0, 193, 87, 132, 12, 1, 167, 255, 193]
abbrev dktX0_stuck_6 : List UInt8 := dkwX0_stuck_6 ++ dktX0_stuck_7
def dkwX0_stuck_5 : List UInt8 := [167, 0, 8, 16, 10, 29, 100, 133, 105, 55, 10, 21, 9, 21, 12, 184, 1, 46, 153, 0, 14, 42]
abbrev dktX0_stuck_5 : List UInt8 := dkwX0_stuck_5 ++ dktX0_stuck_6
def dkwX0_stuck_4 : List UInt8 := [54, 12, 21, 12, 28, 162, 0, 63, 22, 10, 21, 9, 21, 12, 184, 1, 46, 153, 0, 8, 29, 133]
abbrev dktX0_stuck_4 : List UInt8 := dkwX0_stuck_4 ++ dktX0_stuck_5
def dkwX0_stuck_3 : List UInt8 := [167, 255, 239, 3, 54, 9, 21, 9, 4, 28, 120, 162, 0, 110, 10, 55, 10, 42, 182, 1, 3, 87, 3]
abbrev dktX0_stuck_3 : List UInt8 := dkwX0_stuck_3 ++ dktX0_stuck_4
def dkwX0_stuck_2 : List UInt8 := [10, 55, 7, 3, 54, 9, 21, 9, 28, 162, 0, 17, 22, 7, 20, 1, 105, 105, 55, 7, 132, 9, 1]
abbrev dktX0_stuck_2 : List UInt8 := dkwX0_stuck_2 ++ dktX0_stuck_3
def dkwX0_stuck_1 : List UInt8 := [20, 1, 105, 184, 0, 86, 153, 0, 11, 21, 4, 184, 1, 20, 154, 0, 7, 20, 1, 107, 173, 9, 55, 5]
abbrev dktX0_stuck_1 : List UInt8 := dkwX0_stuck_1 ++ dktX0_stuck_2
def dkwX0_stuck_0 : List UInt8 := [42, 27, 182, 0, 214, 153, 0, 35, 28, 133, 9, 20, 1, 103, 184, 0, 86, 153, 0, 23, 29, 133, 9]
abbrev dktX0_stuck_0 : List UInt8 := dkwX0_stuck_0 ++ dktX0_stuck_1
theorem dksX0_stuck_0 : cX0_stuck.data.toList.drop 0 = dktX0_stuck_0 := by decide +kernel
theorem dksX0_stuck_1 : cX0_stuck.data.toList.drop 23 = dktX0_stuck_1 := dk_seg dksX0_stuck_0 23 rfl rfl
theorem dksX0_stuck_2 : cX0_stuck.data.toList.drop 47 = dktX0_stuck_2 := dk_seg dksX0_stuck_1 24 rfl rfl
theorem dksX0_stuck_3 : cX0_stuck.data.toList.drop 70 = dktX0_stuck_3 := dk_seg dksX0_stuck_2 23 rfl rfl
theorem dksX0_stuck_4 : cX0_stuck.data.toList.drop 93 = dktX0_stuck_4 := dk_seg dksX0_stuck_3 23 rfl rfl
theorem dksX0_stuck_5 : cX0_stuck.data.toList.drop 115 = dktX0_stuck_5 := dk_seg dksX0_stuck_4 22 rfl rfl
theorem dksX0_stuck_6 : cX0_stuck.data.toList.drop 137 = dktX0_stuck_6 := dk_seg dksX0_stuck_5 22 rfl rfl
theorem dksX0_stuck_7 : cX0_stuck.data.toList.drop 161 = dktX0_stuck_7 := dk_seg dksX0_stuck_6 24 rfl rfl
theorem dksX0_stuck_8 : cX0_stuck.data.toList.drop 185 = dktX0_stuck_8 := dk_seg dksX0_stuck_7 24 rfl rfl
theorem dksX0_stuck_9 : cX0_stuck.data.toList.drop 207 = dktX0_stuck_9 := dk_seg dksX0_stuck_8 22 rfl rfl
theorem dX0_stuck_0 : decode cX0_stuck 0 = .ok (.aload_n 0, 1) := dk_42 (dk_at dksX0_stuck_0 0 rfl rfl)
theorem dX0_stuck_1 : decode cX0_stuck 1 = .ok (.iload_n 1, 1) := dk_27 (dk_at dksX0_stuck_0 1 rfl rfl)
theorem dX0_stuck_2 : decode cX0_stuck 2 = .ok (.invokevirtual 214, 3) := dk_182 0 214 (dk_at dksX0_stuck_0 2 rfl rfl)
theorem dX0_stuck_5 : decode cX0_stuck 5 = .ok (.ifCond .eq 35, 3) := dk_153 0 35 (dk_at dksX0_stuck_0 5 rfl rfl)
theorem dX0_stuck_8 : decode cX0_stuck 8 = .ok (.iload_n 2, 1) := dk_28 (dk_at dksX0_stuck_0 8 rfl rfl)
theorem dX0_stuck_9 : decode cX0_stuck 9 = .ok (.i2l, 1) := dk_133 (dk_at dksX0_stuck_0 9 rfl rfl)
theorem dX0_stuck_10 : decode cX0_stuck 10 = .ok (.lconst 0, 1) := dk_9 (dk_at dksX0_stuck_0 10 rfl rfl)
theorem dX0_stuck_11 : decode cX0_stuck 11 = .ok (.ldc2_w 359, 3) := dk_20 1 103 (dk_at dksX0_stuck_0 11 rfl rfl)
theorem dX0_stuck_14 : decode cX0_stuck 14 = .ok (.invokestatic 86, 3) := dk_184 0 86 (dk_at dksX0_stuck_0 14 rfl rfl)
theorem dX0_stuck_17 : decode cX0_stuck 17 = .ok (.ifCond .eq 23, 3) := dk_153 0 23 (dk_at dksX0_stuck_0 17 rfl rfl)
theorem dX0_stuck_20 : decode cX0_stuck 20 = .ok (.iload_n 3, 1) := dk_29 (dk_at dksX0_stuck_0 20 rfl rfl)
theorem dX0_stuck_21 : decode cX0_stuck 21 = .ok (.i2l, 1) := dk_133 (dk_at dksX0_stuck_0 21 rfl rfl)
theorem dX0_stuck_22 : decode cX0_stuck 22 = .ok (.lconst 0, 1) := dk_9 (dk_at dksX0_stuck_0 22 rfl rfl)
theorem dX0_stuck_23 : decode cX0_stuck 23 = .ok (.ldc2_w 361, 3) := dk_20 1 105 (dk_at dksX0_stuck_1 0 rfl rfl)
theorem dX0_stuck_26 : decode cX0_stuck 26 = .ok (.invokestatic 86, 3) := dk_184 0 86 (dk_at dksX0_stuck_1 3 rfl rfl)
theorem dX0_stuck_29 : decode cX0_stuck 29 = .ok (.ifCond .eq 11, 3) := dk_153 0 11 (dk_at dksX0_stuck_1 6 rfl rfl)
theorem dX0_stuck_32 : decode cX0_stuck 32 = .ok (.iload 4, 2) := dk_21 4 (dk_at dksX0_stuck_1 9 rfl rfl)
theorem dX0_stuck_34 : decode cX0_stuck 34 = .ok (.invokestatic 276, 3) := dk_184 1 20 (dk_at dksX0_stuck_1 11 rfl rfl)
theorem dX0_stuck_37 : decode cX0_stuck 37 = .ok (.ifCond .ne 7, 3) := dk_154 0 7 (dk_at dksX0_stuck_1 14 rfl rfl)
theorem dX0_stuck_40 : decode cX0_stuck 40 = .ok (.ldc2_w 363, 3) := dk_20 1 107 (dk_at dksX0_stuck_1 17 rfl rfl)
theorem dX0_stuck_43 : decode cX0_stuck 43 = .ok (.lreturn, 1) := dk_173 (dk_at dksX0_stuck_1 20 rfl rfl)
theorem dX0_stuck_44 : decode cX0_stuck 44 = .ok (.lconst 0, 1) := dk_9 (dk_at dksX0_stuck_1 21 rfl rfl)
theorem dX0_stuck_45 : decode cX0_stuck 45 = .ok (.lstore 5, 2) := dk_55 5 (dk_at dksX0_stuck_1 22 rfl rfl)
theorem dX0_stuck_47 : decode cX0_stuck 47 = .ok (.lconst 1, 1) := dk_10 (dk_at dksX0_stuck_2 0 rfl rfl)
theorem dX0_stuck_48 : decode cX0_stuck 48 = .ok (.lstore 7, 2) := dk_55 7 (dk_at dksX0_stuck_2 1 rfl rfl)
theorem dX0_stuck_50 : decode cX0_stuck 50 = .ok (.iconst 0, 1) := dk_3 (dk_at dksX0_stuck_2 3 rfl rfl)
theorem dX0_stuck_51 : decode cX0_stuck 51 = .ok (.istore 9, 2) := dk_54 9 (dk_at dksX0_stuck_2 4 rfl rfl)
theorem dX0_stuck_53 : decode cX0_stuck 53 = .ok (.iload 9, 2) := dk_21 9 (dk_at dksX0_stuck_2 6 rfl rfl)
theorem dX0_stuck_55 : decode cX0_stuck 55 = .ok (.iload_n 2, 1) := dk_28 (dk_at dksX0_stuck_2 8 rfl rfl)
theorem dX0_stuck_56 : decode cX0_stuck 56 = .ok (.if_icmp .ge 17, 3) := dk_162 0 17 (dk_at dksX0_stuck_2 9 rfl rfl)
theorem dX0_stuck_59 : decode cX0_stuck 59 = .ok (.lload 7, 2) := dk_22 7 (dk_at dksX0_stuck_2 12 rfl rfl)
theorem dX0_stuck_61 : decode cX0_stuck 61 = .ok (.ldc2_w 361, 3) := dk_20 1 105 (dk_at dksX0_stuck_2 14 rfl rfl)
theorem dX0_stuck_64 : decode cX0_stuck 64 = .ok (.lmul, 1) := dk_105 (dk_at dksX0_stuck_2 17 rfl rfl)
theorem dX0_stuck_65 : decode cX0_stuck 65 = .ok (.lstore 7, 2) := dk_55 7 (dk_at dksX0_stuck_2 18 rfl rfl)
theorem dX0_stuck_67 : decode cX0_stuck 67 = .ok (.iinc 9 1, 3) := dk_132 9 1 (dk_at dksX0_stuck_2 20 rfl rfl)
theorem dX0_stuck_70 : decode cX0_stuck 70 = .ok (.goto (-17), 3) := dk_167 255 239 (dk_at dksX0_stuck_3 0 rfl rfl)
theorem dX0_stuck_73 : decode cX0_stuck 73 = .ok (.iconst 0, 1) := dk_3 (dk_at dksX0_stuck_3 3 rfl rfl)
theorem dX0_stuck_74 : decode cX0_stuck 74 = .ok (.istore 9, 2) := dk_54 9 (dk_at dksX0_stuck_3 4 rfl rfl)
theorem dX0_stuck_76 : decode cX0_stuck 76 = .ok (.iload 9, 2) := dk_21 9 (dk_at dksX0_stuck_3 6 rfl rfl)
theorem dX0_stuck_78 : decode cX0_stuck 78 = .ok (.iconst 1, 1) := dk_4 (dk_at dksX0_stuck_3 8 rfl rfl)
theorem dX0_stuck_79 : decode cX0_stuck 79 = .ok (.iload_n 2, 1) := dk_28 (dk_at dksX0_stuck_3 9 rfl rfl)
theorem dX0_stuck_80 : decode cX0_stuck 80 = .ok (.ishl, 1) := dk_120 (dk_at dksX0_stuck_3 10 rfl rfl)
theorem dX0_stuck_81 : decode cX0_stuck 81 = .ok (.if_icmp .ge 110, 3) := dk_162 0 110 (dk_at dksX0_stuck_3 11 rfl rfl)
theorem dX0_stuck_84 : decode cX0_stuck 84 = .ok (.lconst 1, 1) := dk_10 (dk_at dksX0_stuck_3 14 rfl rfl)
theorem dX0_stuck_85 : decode cX0_stuck 85 = .ok (.lstore 10, 2) := dk_55 10 (dk_at dksX0_stuck_3 15 rfl rfl)
theorem dX0_stuck_87 : decode cX0_stuck 87 = .ok (.aload_n 0, 1) := dk_42 (dk_at dksX0_stuck_3 17 rfl rfl)
theorem dX0_stuck_88 : decode cX0_stuck 88 = .ok (.invokevirtual 259, 3) := dk_182 1 3 (dk_at dksX0_stuck_3 18 rfl rfl)
theorem dX0_stuck_91 : decode cX0_stuck 91 = .ok (.pop, 1) := dk_87 (dk_at dksX0_stuck_3 21 rfl rfl)
theorem dX0_stuck_92 : decode cX0_stuck 92 = .ok (.iconst 0, 1) := dk_3 (dk_at dksX0_stuck_3 22 rfl rfl)
theorem dX0_stuck_93 : decode cX0_stuck 93 = .ok (.istore 12, 2) := dk_54 12 (dk_at dksX0_stuck_4 0 rfl rfl)
theorem dX0_stuck_95 : decode cX0_stuck 95 = .ok (.iload 12, 2) := dk_21 12 (dk_at dksX0_stuck_4 2 rfl rfl)
theorem dX0_stuck_97 : decode cX0_stuck 97 = .ok (.iload_n 2, 1) := dk_28 (dk_at dksX0_stuck_4 4 rfl rfl)
theorem dX0_stuck_98 : decode cX0_stuck 98 = .ok (.if_icmp .ge 63, 3) := dk_162 0 63 (dk_at dksX0_stuck_4 5 rfl rfl)
theorem dX0_stuck_101 : decode cX0_stuck 101 = .ok (.lload 10, 2) := dk_22 10 (dk_at dksX0_stuck_4 8 rfl rfl)
theorem dX0_stuck_103 : decode cX0_stuck 103 = .ok (.iload 9, 2) := dk_21 9 (dk_at dksX0_stuck_4 10 rfl rfl)
theorem dX0_stuck_105 : decode cX0_stuck 105 = .ok (.iload 12, 2) := dk_21 12 (dk_at dksX0_stuck_4 12 rfl rfl)
theorem dX0_stuck_107 : decode cX0_stuck 107 = .ok (.invokestatic 302, 3) := dk_184 1 46 (dk_at dksX0_stuck_4 14 rfl rfl)
theorem dX0_stuck_110 : decode cX0_stuck 110 = .ok (.ifCond .eq 8, 3) := dk_153 0 8 (dk_at dksX0_stuck_4 17 rfl rfl)
theorem dX0_stuck_113 : decode cX0_stuck 113 = .ok (.iload_n 3, 1) := dk_29 (dk_at dksX0_stuck_4 20 rfl rfl)
theorem dX0_stuck_114 : decode cX0_stuck 114 = .ok (.i2l, 1) := dk_133 (dk_at dksX0_stuck_4 21 rfl rfl)
theorem dX0_stuck_115 : decode cX0_stuck 115 = .ok (.goto 8, 3) := dk_167 0 8 (dk_at dksX0_stuck_5 0 rfl rfl)
theorem dX0_stuck_118 : decode cX0_stuck 118 = .ok (.bipush 10, 2) := dk_16 10 (dk_at dksX0_stuck_5 3 rfl rfl)
theorem dX0_stuck_120 : decode cX0_stuck 120 = .ok (.iload_n 3, 1) := dk_29 (dk_at dksX0_stuck_5 5 rfl rfl)
theorem dX0_stuck_121 : decode cX0_stuck 121 = .ok (.isub, 1) := dk_100 (dk_at dksX0_stuck_5 6 rfl rfl)
theorem dX0_stuck_122 : decode cX0_stuck 122 = .ok (.i2l, 1) := dk_133 (dk_at dksX0_stuck_5 7 rfl rfl)
theorem dX0_stuck_123 : decode cX0_stuck 123 = .ok (.lmul, 1) := dk_105 (dk_at dksX0_stuck_5 8 rfl rfl)
theorem dX0_stuck_124 : decode cX0_stuck 124 = .ok (.lstore 10, 2) := dk_55 10 (dk_at dksX0_stuck_5 9 rfl rfl)
theorem dX0_stuck_126 : decode cX0_stuck 126 = .ok (.iload 9, 2) := dk_21 9 (dk_at dksX0_stuck_5 11 rfl rfl)
theorem dX0_stuck_128 : decode cX0_stuck 128 = .ok (.iload 12, 2) := dk_21 12 (dk_at dksX0_stuck_5 13 rfl rfl)
theorem dX0_stuck_130 : decode cX0_stuck 130 = .ok (.invokestatic 302, 3) := dk_184 1 46 (dk_at dksX0_stuck_5 15 rfl rfl)
theorem dX0_stuck_133 : decode cX0_stuck 133 = .ok (.ifCond .eq 14, 3) := dk_153 0 14 (dk_at dksX0_stuck_5 18 rfl rfl)
theorem dX0_stuck_136 : decode cX0_stuck 136 = .ok (.aload_n 0, 1) := dk_42 (dk_at dksX0_stuck_5 21 rfl rfl)
theorem dX0_stuck_137 : decode cX0_stuck 137 = .ok (.getfield 43, 3) := dk_180 0 43 (dk_at dksX0_stuck_6 0 rfl rfl)
theorem dX0_stuck_140 : decode cX0_stuck 140 = .ok (.invokevirtual 365, 3) := dk_182 1 109 (dk_at dksX0_stuck_6 3 rfl rfl)
theorem dX0_stuck_143 : decode cX0_stuck 143 = .ok (.pop, 1) := dk_87 (dk_at dksX0_stuck_6 6 rfl rfl)
theorem dX0_stuck_144 : decode cX0_stuck 144 = .ok (.goto 11, 3) := dk_167 0 11 (dk_at dksX0_stuck_6 7 rfl rfl)
theorem dX0_stuck_147 : decode cX0_stuck 147 = .ok (.aload_n 0, 1) := dk_42 (dk_at dksX0_stuck_6 10 rfl rfl)
theorem dX0_stuck_148 : decode cX0_stuck 148 = .ok (.getfield 43, 3) := dk_180 0 43 (dk_at dksX0_stuck_6 11 rfl rfl)
theorem dX0_stuck_151 : decode cX0_stuck 151 = .ok (.invokevirtual 193, 3) := dk_182 0 193 (dk_at dksX0_stuck_6 14 rfl rfl)
theorem dX0_stuck_154 : decode cX0_stuck 154 = .ok (.pop, 1) := dk_87 (dk_at dksX0_stuck_6 17 rfl rfl)
theorem dX0_stuck_155 : decode cX0_stuck 155 = .ok (.iinc 12 1, 3) := dk_132 12 1 (dk_at dksX0_stuck_6 18 rfl rfl)
theorem dX0_stuck_158 : decode cX0_stuck 158 = .ok (.goto (-63), 3) := dk_167 255 193 (dk_at dksX0_stuck_6 21 rfl rfl)
theorem dX0_stuck_161 : decode cX0_stuck 161 = .ok (.lload 5, 2) := dk_22 5 (dk_at dksX0_stuck_7 0 rfl rfl)
theorem dX0_stuck_163 : decode cX0_stuck 163 = .ok (.aload_n 0, 1) := dk_42 (dk_at dksX0_stuck_7 2 rfl rfl)
theorem dX0_stuck_164 : decode cX0_stuck 164 = .ok (.getfield 43, 3) := dk_180 0 43 (dk_at dksX0_stuck_7 3 rfl rfl)
theorem dX0_stuck_167 : decode cX0_stuck 167 = .ok (.getfield 217, 3) := dk_180 0 217 (dk_at dksX0_stuck_7 6 rfl rfl)
theorem dX0_stuck_170 : decode cX0_stuck 170 = .ok (.iload_n 1, 1) := dk_27 (dk_at dksX0_stuck_7 9 rfl rfl)
theorem dX0_stuck_171 : decode cX0_stuck 171 = .ok (.iaload, 1) := dk_46 (dk_at dksX0_stuck_7 10 rfl rfl)
theorem dX0_stuck_172 : decode cX0_stuck 172 = .ok (.iconst 2, 1) := dk_5 (dk_at dksX0_stuck_7 11 rfl rfl)
theorem dX0_stuck_173 : decode cX0_stuck 173 = .ok (.if_icmp .ne 8, 3) := dk_160 0 8 (dk_at dksX0_stuck_7 12 rfl rfl)
theorem dX0_stuck_176 : decode cX0_stuck 176 = .ok (.lload 10, 2) := dk_22 10 (dk_at dksX0_stuck_7 15 rfl rfl)
theorem dX0_stuck_178 : decode cX0_stuck 178 = .ok (.goto 4, 3) := dk_167 0 4 (dk_at dksX0_stuck_7 17 rfl rfl)
theorem dX0_stuck_181 : decode cX0_stuck 181 = .ok (.lconst 0, 1) := dk_9 (dk_at dksX0_stuck_7 20 rfl rfl)
theorem dX0_stuck_182 : decode cX0_stuck 182 = .ok (.ladd, 1) := dk_97 (dk_at dksX0_stuck_7 21 rfl rfl)
theorem dX0_stuck_183 : decode cX0_stuck 183 = .ok (.lstore 5, 2) := dk_55 5 (dk_at dksX0_stuck_7 22 rfl rfl)
theorem dX0_stuck_185 : decode cX0_stuck 185 = .ok (.iinc 9 1, 3) := dk_132 9 1 (dk_at dksX0_stuck_8 0 rfl rfl)
theorem dX0_stuck_188 : decode cX0_stuck 188 = .ok (.goto (-112), 3) := dk_167 255 144 (dk_at dksX0_stuck_8 3 rfl rfl)
theorem dX0_stuck_191 : decode cX0_stuck 191 = .ok (.iload 4, 2) := dk_21 4 (dk_at dksX0_stuck_8 6 rfl rfl)
theorem dX0_stuck_193 : decode cX0_stuck 193 = .ok (.ifCond .ne 8, 3) := dk_154 0 8 (dk_at dksX0_stuck_8 8 rfl rfl)
theorem dX0_stuck_196 : decode cX0_stuck 196 = .ok (.lload 5, 2) := dk_22 5 (dk_at dksX0_stuck_8 11 rfl rfl)
theorem dX0_stuck_198 : decode cX0_stuck 198 = .ok (.goto 5, 3) := dk_167 0 5 (dk_at dksX0_stuck_8 13 rfl rfl)
theorem dX0_stuck_201 : decode cX0_stuck 201 = .ok (.lload 7, 2) := dk_22 7 (dk_at dksX0_stuck_8 16 rfl rfl)
theorem dX0_stuck_203 : decode cX0_stuck 203 = .ok (.lload 5, 2) := dk_22 5 (dk_at dksX0_stuck_8 18 rfl rfl)
theorem dX0_stuck_205 : decode cX0_stuck 205 = .ok (.lload 7, 2) := dk_22 7 (dk_at dksX0_stuck_8 20 rfl rfl)
theorem dX0_stuck_207 : decode cX0_stuck 207 = .ok (.invokestatic 368, 3) := dk_184 1 112 (dk_at dksX0_stuck_9 0 rfl rfl)
theorem dX0_stuck_210 : decode cX0_stuck 210 = .ok (.ldiv, 1) := dk_109 (dk_at dksX0_stuck_9 3 rfl rfl)
theorem dX0_stuck_211 : decode cX0_stuck 211 = .ok (.lreturn, 1) := dk_173 (dk_at dksX0_stuck_9 4 rfl rfl)
abbrev cX0_common : ByteArray := prog_1_method_58_code
def yX0_common : MethodName := ⟨RX0, "common", "(JJ)J"⟩
def dkwX0_common_1 : List UInt8 := [22, 8, 55, 6, 167, 255, 234, 22, 4, 173]
abbrev dktX0_common_1 : List UInt8 := dkwX0_common_1 ++ []
def dkwX0_common_0 : List UInt8 := [30, 55, 4, 32, 55, 6, 22, 6, 9, 148, 153, 0, 21, 22, 4, 22, 6, 113, 55, 8, 22, 6, 55, 4]
abbrev dktX0_common_0 : List UInt8 := dkwX0_common_0 ++ dktX0_common_1
theorem dksX0_common_0 : cX0_common.data.toList.drop 0 = dktX0_common_0 := by decide +kernel
theorem dksX0_common_1 : cX0_common.data.toList.drop 24 = dktX0_common_1 := dk_seg dksX0_common_0 24 rfl rfl
theorem dX0_common_0 : decode cX0_common 0 = .ok (.lload_n 0, 1) := dk_30 (dk_at dksX0_common_0 0 rfl rfl)
theorem dX0_common_1 : decode cX0_common 1 = .ok (.lstore 4, 2) := dk_55 4 (dk_at dksX0_common_0 1 rfl rfl)
theorem dX0_common_3 : decode cX0_common 3 = .ok (.lload_n 2, 1) := dk_32 (dk_at dksX0_common_0 3 rfl rfl)
theorem dX0_common_4 : decode cX0_common 4 = .ok (.lstore 6, 2) := dk_55 6 (dk_at dksX0_common_0 4 rfl rfl)
theorem dX0_common_6 : decode cX0_common 6 = .ok (.lload 6, 2) := dk_22 6 (dk_at dksX0_common_0 6 rfl rfl)
theorem dX0_common_8 : decode cX0_common 8 = .ok (.lconst 0, 1) := dk_9 (dk_at dksX0_common_0 8 rfl rfl)
theorem dX0_common_9 : decode cX0_common 9 = .ok (.lcmp, 1) := dk_148 (dk_at dksX0_common_0 9 rfl rfl)
theorem dX0_common_10 : decode cX0_common 10 = .ok (.ifCond .eq 21, 3) := dk_153 0 21 (dk_at dksX0_common_0 10 rfl rfl)
theorem dX0_common_13 : decode cX0_common 13 = .ok (.lload 4, 2) := dk_22 4 (dk_at dksX0_common_0 13 rfl rfl)
theorem dX0_common_15 : decode cX0_common 15 = .ok (.lload 6, 2) := dk_22 6 (dk_at dksX0_common_0 15 rfl rfl)
theorem dX0_common_17 : decode cX0_common 17 = .ok (.lrem, 1) := dk_113 (dk_at dksX0_common_0 17 rfl rfl)
theorem dX0_common_18 : decode cX0_common 18 = .ok (.lstore 8, 2) := dk_55 8 (dk_at dksX0_common_0 18 rfl rfl)
theorem dX0_common_20 : decode cX0_common 20 = .ok (.lload 6, 2) := dk_22 6 (dk_at dksX0_common_0 20 rfl rfl)
theorem dX0_common_22 : decode cX0_common 22 = .ok (.lstore 4, 2) := dk_55 4 (dk_at dksX0_common_0 22 rfl rfl)
theorem dX0_common_24 : decode cX0_common 24 = .ok (.lload 8, 2) := dk_22 8 (dk_at dksX0_common_1 0 rfl rfl)
theorem dX0_common_26 : decode cX0_common 26 = .ok (.lstore 6, 2) := dk_55 6 (dk_at dksX0_common_1 2 rfl rfl)
theorem dX0_common_28 : decode cX0_common 28 = .ok (.goto (-22), 3) := dk_167 255 234 (dk_at dksX0_common_1 4 rfl rfl)
theorem dX0_common_31 : decode cX0_common 31 = .ok (.lload 4, 2) := dk_22 4 (dk_at dksX0_common_1 7 rfl rfl)
theorem dX0_common_33 : decode cX0_common 33 = .ok (.lreturn, 1) := dk_173 (dk_at dksX0_common_1 9 rfl rfl)
abbrev cX0_drawn : ByteArray := prog_1_method_60_code
def yX0_drawn : MethodName := ⟨RX0, "drawn", "(III)I"⟩
def dkwX0_drawn_9 : List UInt8 := [180, 0, 43, 3, 182, 1, 58, 172]
abbrev dktX0_drawn_9 : List UInt8 := dkwX0_drawn_9 ++ []
def dkwX0_drawn_8 : List UInt8 := [184, 1, 23, 96, 54, 6, 132, 7, 1, 167, 255, 118, 29, 154, 0, 8, 21, 6, 167, 0, 11, 42]
abbrev dktX0_drawn_8 : List UInt8 := dkwX0_drawn_8 ++ dktX0_drawn_9
def dkwX0_drawn_7 : List UInt8 := [182, 0, 197, 54, 10, 21, 6, 42, 180, 0, 43, 182, 0, 193, 5, 182, 0, 197, 21, 10, 2, 130, 126]
abbrev dktX0_drawn_7 : List UInt8 := dkwX0_drawn_7 ++ dktX0_drawn_8
def dkwX0_drawn_6 : List UInt8 := [20, 0, 209, 113, 9, 148, 154, 0, 12, 42, 180, 0, 43, 21, 9, 181, 0, 203, 42, 180, 0, 43, 5]
abbrev dktX0_drawn_6 : List UInt8 := dkwX0_drawn_6 ++ dktX0_drawn_7
def dkwX0_drawn_5 : List UInt8 := [180, 0, 43, 21, 8, 21, 9, 22, 4, 20, 1, 122, 113, 136, 182, 0, 223, 167, 0, 23, 22, 4]
abbrev dktX0_drawn_5 : List UInt8 := dkwX0_drawn_5 ++ dktX0_drawn_6
def dkwX0_drawn_4 : List UInt8 := [180, 0, 174, 133, 113, 136, 54, 9, 42, 180, 0, 43, 180, 0, 217, 21, 8, 46, 5, 160, 0, 24, 42]
abbrev dktX0_drawn_4 : List UInt8 := dkwX0_drawn_4 ++ dktX0_drawn_5
def dkwX0_drawn_3 : List UInt8 := [55, 4, 22, 4, 42, 180, 0, 43, 182, 0, 169, 133, 113, 136, 54, 8, 22, 4, 42, 180, 0, 43]
abbrev dktX0_drawn_3 : List UInt8 := dkwX0_drawn_3 ++ dktX0_drawn_4
def dkwX0_drawn_2 : List UInt8 := [55, 4, 3, 54, 6, 3, 54, 7, 21, 7, 27, 162, 0, 138, 22, 4, 20, 1, 118, 105, 20, 1, 120, 113]
abbrev dktX0_drawn_2 : List UInt8 := dkwX0_drawn_2 ++ dktX0_drawn_3
def dkwX0_drawn_1 : List UInt8 := [184, 0, 86, 153, 0, 10, 29, 184, 1, 20, 154, 0, 6, 18, 100, 172, 42, 182, 1, 3, 87, 28, 133]
abbrev dktX0_drawn_1 : List UInt8 := dkwX0_drawn_1 ++ dktX0_drawn_2
def dkwX0_drawn_0 : List UInt8 := [42, 182, 0, 181, 154, 0, 6, 18, 173, 172, 27, 184, 1, 0, 153, 0, 22, 28, 133, 10, 20, 1, 116]
abbrev dktX0_drawn_0 : List UInt8 := dkwX0_drawn_0 ++ dktX0_drawn_1
theorem dksX0_drawn_0 : cX0_drawn.data.toList.drop 0 = dktX0_drawn_0 := by decide +kernel
theorem dksX0_drawn_1 : cX0_drawn.data.toList.drop 23 = dktX0_drawn_1 := dk_seg dksX0_drawn_0 23 rfl rfl
theorem dksX0_drawn_2 : cX0_drawn.data.toList.drop 46 = dktX0_drawn_2 := dk_seg dksX0_drawn_1 23 rfl rfl
theorem dksX0_drawn_3 : cX0_drawn.data.toList.drop 70 = dktX0_drawn_3 := dk_seg dksX0_drawn_2 24 rfl rfl
theorem dksX0_drawn_4 : cX0_drawn.data.toList.drop 92 = dktX0_drawn_4 := dk_seg dksX0_drawn_3 22 rfl rfl
theorem dksX0_drawn_5 : cX0_drawn.data.toList.drop 115 = dktX0_drawn_5 := dk_seg dksX0_drawn_4 23 rfl rfl
theorem dksX0_drawn_6 : cX0_drawn.data.toList.drop 137 = dktX0_drawn_6 := dk_seg dksX0_drawn_5 22 rfl rfl
theorem dksX0_drawn_7 : cX0_drawn.data.toList.drop 160 = dktX0_drawn_7 := dk_seg dksX0_drawn_6 23 rfl rfl
theorem dksX0_drawn_8 : cX0_drawn.data.toList.drop 183 = dktX0_drawn_8 := dk_seg dksX0_drawn_7 23 rfl rfl
theorem dksX0_drawn_9 : cX0_drawn.data.toList.drop 205 = dktX0_drawn_9 := dk_seg dksX0_drawn_8 22 rfl rfl
theorem dX0_drawn_0 : decode cX0_drawn 0 = .ok (.aload_n 0, 1) := dk_42 (dk_at dksX0_drawn_0 0 rfl rfl)
theorem dX0_drawn_1 : decode cX0_drawn 1 = .ok (.invokevirtual 181, 3) := dk_182 0 181 (dk_at dksX0_drawn_0 1 rfl rfl)
theorem dX0_drawn_4 : decode cX0_drawn 4 = .ok (.ifCond .ne 6, 3) := dk_154 0 6 (dk_at dksX0_drawn_0 4 rfl rfl)
theorem dX0_drawn_7 : decode cX0_drawn 7 = .ok (.ldc 173, 2) := dk_18 173 (dk_at dksX0_drawn_0 7 rfl rfl)
theorem dX0_drawn_9 : decode cX0_drawn 9 = .ok (.ireturn, 1) := dk_172 (dk_at dksX0_drawn_0 9 rfl rfl)
theorem dX0_drawn_10 : decode cX0_drawn 10 = .ok (.iload_n 1, 1) := dk_27 (dk_at dksX0_drawn_0 10 rfl rfl)
theorem dX0_drawn_11 : decode cX0_drawn 11 = .ok (.invokestatic 256, 3) := dk_184 1 0 (dk_at dksX0_drawn_0 11 rfl rfl)
theorem dX0_drawn_14 : decode cX0_drawn 14 = .ok (.ifCond .eq 22, 3) := dk_153 0 22 (dk_at dksX0_drawn_0 14 rfl rfl)
theorem dX0_drawn_17 : decode cX0_drawn 17 = .ok (.iload_n 2, 1) := dk_28 (dk_at dksX0_drawn_0 17 rfl rfl)
theorem dX0_drawn_18 : decode cX0_drawn 18 = .ok (.i2l, 1) := dk_133 (dk_at dksX0_drawn_0 18 rfl rfl)
theorem dX0_drawn_19 : decode cX0_drawn 19 = .ok (.lconst 1, 1) := dk_10 (dk_at dksX0_drawn_0 19 rfl rfl)
theorem dX0_drawn_20 : decode cX0_drawn 20 = .ok (.ldc2_w 372, 3) := dk_20 1 116 (dk_at dksX0_drawn_0 20 rfl rfl)
theorem dX0_drawn_23 : decode cX0_drawn 23 = .ok (.invokestatic 86, 3) := dk_184 0 86 (dk_at dksX0_drawn_1 0 rfl rfl)
theorem dX0_drawn_26 : decode cX0_drawn 26 = .ok (.ifCond .eq 10, 3) := dk_153 0 10 (dk_at dksX0_drawn_1 3 rfl rfl)
theorem dX0_drawn_29 : decode cX0_drawn 29 = .ok (.iload_n 3, 1) := dk_29 (dk_at dksX0_drawn_1 6 rfl rfl)
theorem dX0_drawn_30 : decode cX0_drawn 30 = .ok (.invokestatic 276, 3) := dk_184 1 20 (dk_at dksX0_drawn_1 7 rfl rfl)
theorem dX0_drawn_33 : decode cX0_drawn 33 = .ok (.ifCond .ne 6, 3) := dk_154 0 6 (dk_at dksX0_drawn_1 10 rfl rfl)
theorem dX0_drawn_36 : decode cX0_drawn 36 = .ok (.ldc 100, 2) := dk_18 100 (dk_at dksX0_drawn_1 13 rfl rfl)
theorem dX0_drawn_38 : decode cX0_drawn 38 = .ok (.ireturn, 1) := dk_172 (dk_at dksX0_drawn_1 15 rfl rfl)
theorem dX0_drawn_39 : decode cX0_drawn 39 = .ok (.aload_n 0, 1) := dk_42 (dk_at dksX0_drawn_1 16 rfl rfl)
theorem dX0_drawn_40 : decode cX0_drawn 40 = .ok (.invokevirtual 259, 3) := dk_182 1 3 (dk_at dksX0_drawn_1 17 rfl rfl)
theorem dX0_drawn_43 : decode cX0_drawn 43 = .ok (.pop, 1) := dk_87 (dk_at dksX0_drawn_1 20 rfl rfl)
theorem dX0_drawn_44 : decode cX0_drawn 44 = .ok (.iload_n 2, 1) := dk_28 (dk_at dksX0_drawn_1 21 rfl rfl)
theorem dX0_drawn_45 : decode cX0_drawn 45 = .ok (.i2l, 1) := dk_133 (dk_at dksX0_drawn_1 22 rfl rfl)
theorem dX0_drawn_46 : decode cX0_drawn 46 = .ok (.lstore 4, 2) := dk_55 4 (dk_at dksX0_drawn_2 0 rfl rfl)
theorem dX0_drawn_48 : decode cX0_drawn 48 = .ok (.iconst 0, 1) := dk_3 (dk_at dksX0_drawn_2 2 rfl rfl)
theorem dX0_drawn_49 : decode cX0_drawn 49 = .ok (.istore 6, 2) := dk_54 6 (dk_at dksX0_drawn_2 3 rfl rfl)
theorem dX0_drawn_51 : decode cX0_drawn 51 = .ok (.iconst 0, 1) := dk_3 (dk_at dksX0_drawn_2 5 rfl rfl)
theorem dX0_drawn_52 : decode cX0_drawn 52 = .ok (.istore 7, 2) := dk_54 7 (dk_at dksX0_drawn_2 6 rfl rfl)
theorem dX0_drawn_54 : decode cX0_drawn 54 = .ok (.iload 7, 2) := dk_21 7 (dk_at dksX0_drawn_2 8 rfl rfl)
theorem dX0_drawn_56 : decode cX0_drawn 56 = .ok (.iload_n 1, 1) := dk_27 (dk_at dksX0_drawn_2 10 rfl rfl)
theorem dX0_drawn_57 : decode cX0_drawn 57 = .ok (.if_icmp .ge 138, 3) := dk_162 0 138 (dk_at dksX0_drawn_2 11 rfl rfl)
theorem dX0_drawn_60 : decode cX0_drawn 60 = .ok (.lload 4, 2) := dk_22 4 (dk_at dksX0_drawn_2 14 rfl rfl)
theorem dX0_drawn_62 : decode cX0_drawn 62 = .ok (.ldc2_w 374, 3) := dk_20 1 118 (dk_at dksX0_drawn_2 16 rfl rfl)
theorem dX0_drawn_65 : decode cX0_drawn 65 = .ok (.lmul, 1) := dk_105 (dk_at dksX0_drawn_2 19 rfl rfl)
theorem dX0_drawn_66 : decode cX0_drawn 66 = .ok (.ldc2_w 376, 3) := dk_20 1 120 (dk_at dksX0_drawn_2 20 rfl rfl)
theorem dX0_drawn_69 : decode cX0_drawn 69 = .ok (.lrem, 1) := dk_113 (dk_at dksX0_drawn_2 23 rfl rfl)
theorem dX0_drawn_70 : decode cX0_drawn 70 = .ok (.lstore 4, 2) := dk_55 4 (dk_at dksX0_drawn_3 0 rfl rfl)
theorem dX0_drawn_72 : decode cX0_drawn 72 = .ok (.lload 4, 2) := dk_22 4 (dk_at dksX0_drawn_3 2 rfl rfl)
theorem dX0_drawn_74 : decode cX0_drawn 74 = .ok (.aload_n 0, 1) := dk_42 (dk_at dksX0_drawn_3 4 rfl rfl)
theorem dX0_drawn_75 : decode cX0_drawn 75 = .ok (.getfield 43, 3) := dk_180 0 43 (dk_at dksX0_drawn_3 5 rfl rfl)
theorem dX0_drawn_78 : decode cX0_drawn 78 = .ok (.invokevirtual 169, 3) := dk_182 0 169 (dk_at dksX0_drawn_3 8 rfl rfl)
theorem dX0_drawn_81 : decode cX0_drawn 81 = .ok (.i2l, 1) := dk_133 (dk_at dksX0_drawn_3 11 rfl rfl)
theorem dX0_drawn_82 : decode cX0_drawn 82 = .ok (.lrem, 1) := dk_113 (dk_at dksX0_drawn_3 12 rfl rfl)
theorem dX0_drawn_83 : decode cX0_drawn 83 = .ok (.l2i, 1) := dk_136 (dk_at dksX0_drawn_3 13 rfl rfl)
theorem dX0_drawn_84 : decode cX0_drawn 84 = .ok (.istore 8, 2) := dk_54 8 (dk_at dksX0_drawn_3 14 rfl rfl)
theorem dX0_drawn_86 : decode cX0_drawn 86 = .ok (.lload 4, 2) := dk_22 4 (dk_at dksX0_drawn_3 16 rfl rfl)
theorem dX0_drawn_88 : decode cX0_drawn 88 = .ok (.aload_n 0, 1) := dk_42 (dk_at dksX0_drawn_3 18 rfl rfl)
theorem dX0_drawn_89 : decode cX0_drawn 89 = .ok (.getfield 43, 3) := dk_180 0 43 (dk_at dksX0_drawn_3 19 rfl rfl)
theorem dX0_drawn_92 : decode cX0_drawn 92 = .ok (.getfield 174, 3) := dk_180 0 174 (dk_at dksX0_drawn_4 0 rfl rfl)
theorem dX0_drawn_95 : decode cX0_drawn 95 = .ok (.i2l, 1) := dk_133 (dk_at dksX0_drawn_4 3 rfl rfl)
theorem dX0_drawn_96 : decode cX0_drawn 96 = .ok (.lrem, 1) := dk_113 (dk_at dksX0_drawn_4 4 rfl rfl)
theorem dX0_drawn_97 : decode cX0_drawn 97 = .ok (.l2i, 1) := dk_136 (dk_at dksX0_drawn_4 5 rfl rfl)
theorem dX0_drawn_98 : decode cX0_drawn 98 = .ok (.istore 9, 2) := dk_54 9 (dk_at dksX0_drawn_4 6 rfl rfl)
theorem dX0_drawn_100 : decode cX0_drawn 100 = .ok (.aload_n 0, 1) := dk_42 (dk_at dksX0_drawn_4 8 rfl rfl)
theorem dX0_drawn_101 : decode cX0_drawn 101 = .ok (.getfield 43, 3) := dk_180 0 43 (dk_at dksX0_drawn_4 9 rfl rfl)
theorem dX0_drawn_104 : decode cX0_drawn 104 = .ok (.getfield 217, 3) := dk_180 0 217 (dk_at dksX0_drawn_4 12 rfl rfl)
theorem dX0_drawn_107 : decode cX0_drawn 107 = .ok (.iload 8, 2) := dk_21 8 (dk_at dksX0_drawn_4 15 rfl rfl)
theorem dX0_drawn_109 : decode cX0_drawn 109 = .ok (.iaload, 1) := dk_46 (dk_at dksX0_drawn_4 17 rfl rfl)
theorem dX0_drawn_110 : decode cX0_drawn 110 = .ok (.iconst 2, 1) := dk_5 (dk_at dksX0_drawn_4 18 rfl rfl)
theorem dX0_drawn_111 : decode cX0_drawn 111 = .ok (.if_icmp .ne 24, 3) := dk_160 0 24 (dk_at dksX0_drawn_4 19 rfl rfl)
theorem dX0_drawn_114 : decode cX0_drawn 114 = .ok (.aload_n 0, 1) := dk_42 (dk_at dksX0_drawn_4 22 rfl rfl)
theorem dX0_drawn_115 : decode cX0_drawn 115 = .ok (.getfield 43, 3) := dk_180 0 43 (dk_at dksX0_drawn_5 0 rfl rfl)
theorem dX0_drawn_118 : decode cX0_drawn 118 = .ok (.iload 8, 2) := dk_21 8 (dk_at dksX0_drawn_5 3 rfl rfl)
theorem dX0_drawn_120 : decode cX0_drawn 120 = .ok (.iload 9, 2) := dk_21 9 (dk_at dksX0_drawn_5 5 rfl rfl)
theorem dX0_drawn_122 : decode cX0_drawn 122 = .ok (.lload 4, 2) := dk_22 4 (dk_at dksX0_drawn_5 7 rfl rfl)
theorem dX0_drawn_124 : decode cX0_drawn 124 = .ok (.ldc2_w 378, 3) := dk_20 1 122 (dk_at dksX0_drawn_5 9 rfl rfl)
theorem dX0_drawn_127 : decode cX0_drawn 127 = .ok (.lrem, 1) := dk_113 (dk_at dksX0_drawn_5 12 rfl rfl)
theorem dX0_drawn_128 : decode cX0_drawn 128 = .ok (.l2i, 1) := dk_136 (dk_at dksX0_drawn_5 13 rfl rfl)
theorem dX0_drawn_129 : decode cX0_drawn 129 = .ok (.invokevirtual 223, 3) := dk_182 0 223 (dk_at dksX0_drawn_5 14 rfl rfl)
theorem dX0_drawn_132 : decode cX0_drawn 132 = .ok (.goto 23, 3) := dk_167 0 23 (dk_at dksX0_drawn_5 17 rfl rfl)
theorem dX0_drawn_135 : decode cX0_drawn 135 = .ok (.lload 4, 2) := dk_22 4 (dk_at dksX0_drawn_5 20 rfl rfl)
theorem dX0_drawn_137 : decode cX0_drawn 137 = .ok (.ldc2_w 209, 3) := dk_20 0 209 (dk_at dksX0_drawn_6 0 rfl rfl)
theorem dX0_drawn_140 : decode cX0_drawn 140 = .ok (.lrem, 1) := dk_113 (dk_at dksX0_drawn_6 3 rfl rfl)
theorem dX0_drawn_141 : decode cX0_drawn 141 = .ok (.lconst 0, 1) := dk_9 (dk_at dksX0_drawn_6 4 rfl rfl)
theorem dX0_drawn_142 : decode cX0_drawn 142 = .ok (.lcmp, 1) := dk_148 (dk_at dksX0_drawn_6 5 rfl rfl)
theorem dX0_drawn_143 : decode cX0_drawn 143 = .ok (.ifCond .ne 12, 3) := dk_154 0 12 (dk_at dksX0_drawn_6 6 rfl rfl)
theorem dX0_drawn_146 : decode cX0_drawn 146 = .ok (.aload_n 0, 1) := dk_42 (dk_at dksX0_drawn_6 9 rfl rfl)
theorem dX0_drawn_147 : decode cX0_drawn 147 = .ok (.getfield 43, 3) := dk_180 0 43 (dk_at dksX0_drawn_6 10 rfl rfl)
theorem dX0_drawn_150 : decode cX0_drawn 150 = .ok (.iload 9, 2) := dk_21 9 (dk_at dksX0_drawn_6 13 rfl rfl)
theorem dX0_drawn_152 : decode cX0_drawn 152 = .ok (.putfield 203, 3) := dk_181 0 203 (dk_at dksX0_drawn_6 15 rfl rfl)
theorem dX0_drawn_155 : decode cX0_drawn 155 = .ok (.aload_n 0, 1) := dk_42 (dk_at dksX0_drawn_6 18 rfl rfl)
theorem dX0_drawn_156 : decode cX0_drawn 156 = .ok (.getfield 43, 3) := dk_180 0 43 (dk_at dksX0_drawn_6 19 rfl rfl)
theorem dX0_drawn_159 : decode cX0_drawn 159 = .ok (.iconst 2, 1) := dk_5 (dk_at dksX0_drawn_6 22 rfl rfl)
theorem dX0_drawn_160 : decode cX0_drawn 160 = .ok (.invokevirtual 197, 3) := dk_182 0 197 (dk_at dksX0_drawn_7 0 rfl rfl)
theorem dX0_drawn_163 : decode cX0_drawn 163 = .ok (.istore 10, 2) := dk_54 10 (dk_at dksX0_drawn_7 3 rfl rfl)
theorem dX0_drawn_165 : decode cX0_drawn 165 = .ok (.iload 6, 2) := dk_21 6 (dk_at dksX0_drawn_7 5 rfl rfl)
theorem dX0_drawn_167 : decode cX0_drawn 167 = .ok (.aload_n 0, 1) := dk_42 (dk_at dksX0_drawn_7 7 rfl rfl)
theorem dX0_drawn_168 : decode cX0_drawn 168 = .ok (.getfield 43, 3) := dk_180 0 43 (dk_at dksX0_drawn_7 8 rfl rfl)
theorem dX0_drawn_171 : decode cX0_drawn 171 = .ok (.invokevirtual 193, 3) := dk_182 0 193 (dk_at dksX0_drawn_7 11 rfl rfl)
theorem dX0_drawn_174 : decode cX0_drawn 174 = .ok (.iconst 2, 1) := dk_5 (dk_at dksX0_drawn_7 14 rfl rfl)
theorem dX0_drawn_175 : decode cX0_drawn 175 = .ok (.invokevirtual 197, 3) := dk_182 0 197 (dk_at dksX0_drawn_7 15 rfl rfl)
theorem dX0_drawn_178 : decode cX0_drawn 178 = .ok (.iload 10, 2) := dk_21 10 (dk_at dksX0_drawn_7 18 rfl rfl)
theorem dX0_drawn_180 : decode cX0_drawn 180 = .ok (.iconst (-1), 1) := dk_2 (dk_at dksX0_drawn_7 20 rfl rfl)
theorem dX0_drawn_181 : decode cX0_drawn 181 = .ok (.ixor, 1) := dk_130 (dk_at dksX0_drawn_7 21 rfl rfl)
theorem dX0_drawn_182 : decode cX0_drawn 182 = .ok (.iand, 1) := dk_126 (dk_at dksX0_drawn_7 22 rfl rfl)
theorem dX0_drawn_183 : decode cX0_drawn 183 = .ok (.invokestatic 279, 3) := dk_184 1 23 (dk_at dksX0_drawn_8 0 rfl rfl)
theorem dX0_drawn_186 : decode cX0_drawn 186 = .ok (.iadd, 1) := dk_96 (dk_at dksX0_drawn_8 3 rfl rfl)
theorem dX0_drawn_187 : decode cX0_drawn 187 = .ok (.istore 6, 2) := dk_54 6 (dk_at dksX0_drawn_8 4 rfl rfl)
theorem dX0_drawn_189 : decode cX0_drawn 189 = .ok (.iinc 7 1, 3) := dk_132 7 1 (dk_at dksX0_drawn_8 6 rfl rfl)
theorem dX0_drawn_192 : decode cX0_drawn 192 = .ok (.goto (-138), 3) := dk_167 255 118 (dk_at dksX0_drawn_8 9 rfl rfl)
theorem dX0_drawn_195 : decode cX0_drawn 195 = .ok (.iload_n 3, 1) := dk_29 (dk_at dksX0_drawn_8 12 rfl rfl)
theorem dX0_drawn_196 : decode cX0_drawn 196 = .ok (.ifCond .ne 8, 3) := dk_154 0 8 (dk_at dksX0_drawn_8 13 rfl rfl)
theorem dX0_drawn_199 : decode cX0_drawn 199 = .ok (.iload 6, 2) := dk_21 6 (dk_at dksX0_drawn_8 16 rfl rfl)
theorem dX0_drawn_201 : decode cX0_drawn 201 = .ok (.goto 11, 3) := dk_167 0 11 (dk_at dksX0_drawn_8 18 rfl rfl)
theorem dX0_drawn_204 : decode cX0_drawn 204 = .ok (.aload_n 0, 1) := dk_42 (dk_at dksX0_drawn_8 21 rfl rfl)
theorem dX0_drawn_205 : decode cX0_drawn 205 = .ok (.getfield 43, 3) := dk_180 0 43 (dk_at dksX0_drawn_9 0 rfl rfl)
theorem dX0_drawn_208 : decode cX0_drawn 208 = .ok (.iconst 0, 1) := dk_3 (dk_at dksX0_drawn_9 3 rfl rfl)
theorem dX0_drawn_209 : decode cX0_drawn 209 = .ok (.invokevirtual 314, 3) := dk_182 1 58 (dk_at dksX0_drawn_9 4 rfl rfl)
theorem dX0_drawn_212 : decode cX0_drawn 212 = .ok (.ireturn, 1) := dk_172 (dk_at dksX0_drawn_9 7 rfl rfl)
abbrev cX0_image : ByteArray := prog_1_method_61_code
def yX0_image : MethodName := ⟨RX0, "image", "(I)I"⟩
def dkwX0_image_2 : List UInt8 := [180, 0, 50, 27, 50, 42, 180, 0, 39, 182, 0, 162, 87, 4, 172]
abbrev dktX0_image_2 : List UInt8 := dkwX0_image_2 ++ []
def dkwX0_image_1 : List UInt8 := [180, 0, 50, 27, 50, 199, 0, 16, 42, 180, 0, 50, 27, 187, 0, 36, 89, 183, 0, 38, 83, 42]
abbrev dktX0_image_1 : List UInt8 := dkwX0_image_1 ++ dktX0_image_2
def dkwX0_image_0 : List UInt8 := [27, 133, 9, 10, 184, 0, 86, 154, 0, 6, 18, 100, 172, 42, 182, 0, 181, 154, 0, 6, 18, 173, 172, 42]
abbrev dktX0_image_0 : List UInt8 := dkwX0_image_0 ++ dktX0_image_1
theorem dksX0_image_0 : cX0_image.data.toList.drop 0 = dktX0_image_0 := by decide +kernel
theorem dksX0_image_1 : cX0_image.data.toList.drop 24 = dktX0_image_1 := dk_seg dksX0_image_0 24 rfl rfl
theorem dksX0_image_2 : cX0_image.data.toList.drop 46 = dktX0_image_2 := dk_seg dksX0_image_1 22 rfl rfl
theorem dX0_image_0 : decode cX0_image 0 = .ok (.iload_n 1, 1) := dk_27 (dk_at dksX0_image_0 0 rfl rfl)
theorem dX0_image_1 : decode cX0_image 1 = .ok (.i2l, 1) := dk_133 (dk_at dksX0_image_0 1 rfl rfl)
theorem dX0_image_2 : decode cX0_image 2 = .ok (.lconst 0, 1) := dk_9 (dk_at dksX0_image_0 2 rfl rfl)
theorem dX0_image_3 : decode cX0_image 3 = .ok (.lconst 1, 1) := dk_10 (dk_at dksX0_image_0 3 rfl rfl)
theorem dX0_image_4 : decode cX0_image 4 = .ok (.invokestatic 86, 3) := dk_184 0 86 (dk_at dksX0_image_0 4 rfl rfl)
theorem dX0_image_7 : decode cX0_image 7 = .ok (.ifCond .ne 6, 3) := dk_154 0 6 (dk_at dksX0_image_0 7 rfl rfl)
theorem dX0_image_10 : decode cX0_image 10 = .ok (.ldc 100, 2) := dk_18 100 (dk_at dksX0_image_0 10 rfl rfl)
theorem dX0_image_12 : decode cX0_image 12 = .ok (.ireturn, 1) := dk_172 (dk_at dksX0_image_0 12 rfl rfl)
theorem dX0_image_13 : decode cX0_image 13 = .ok (.aload_n 0, 1) := dk_42 (dk_at dksX0_image_0 13 rfl rfl)
theorem dX0_image_14 : decode cX0_image 14 = .ok (.invokevirtual 181, 3) := dk_182 0 181 (dk_at dksX0_image_0 14 rfl rfl)
theorem dX0_image_17 : decode cX0_image 17 = .ok (.ifCond .ne 6, 3) := dk_154 0 6 (dk_at dksX0_image_0 17 rfl rfl)
theorem dX0_image_20 : decode cX0_image 20 = .ok (.ldc 173, 2) := dk_18 173 (dk_at dksX0_image_0 20 rfl rfl)
theorem dX0_image_22 : decode cX0_image 22 = .ok (.ireturn, 1) := dk_172 (dk_at dksX0_image_0 22 rfl rfl)
theorem dX0_image_23 : decode cX0_image 23 = .ok (.aload_n 0, 1) := dk_42 (dk_at dksX0_image_0 23 rfl rfl)
theorem dX0_image_24 : decode cX0_image 24 = .ok (.getfield 50, 3) := dk_180 0 50 (dk_at dksX0_image_1 0 rfl rfl)
theorem dX0_image_27 : decode cX0_image 27 = .ok (.iload_n 1, 1) := dk_27 (dk_at dksX0_image_1 3 rfl rfl)
theorem dX0_image_28 : decode cX0_image 28 = .ok (.aaload, 1) := dk_50 (dk_at dksX0_image_1 4 rfl rfl)
theorem dX0_image_29 : decode cX0_image 29 = .ok (.ifnonnull 16, 3) := dk_199 0 16 (dk_at dksX0_image_1 5 rfl rfl)
theorem dX0_image_32 : decode cX0_image 32 = .ok (.aload_n 0, 1) := dk_42 (dk_at dksX0_image_1 8 rfl rfl)
theorem dX0_image_33 : decode cX0_image 33 = .ok (.getfield 50, 3) := dk_180 0 50 (dk_at dksX0_image_1 9 rfl rfl)
theorem dX0_image_36 : decode cX0_image 36 = .ok (.iload_n 1, 1) := dk_27 (dk_at dksX0_image_1 12 rfl rfl)
theorem dX0_image_37 : decode cX0_image 37 = .ok (.new 36, 3) := dk_187 0 36 (dk_at dksX0_image_1 13 rfl rfl)
theorem dX0_image_40 : decode cX0_image 40 = .ok (.dup, 1) := dk_89 (dk_at dksX0_image_1 16 rfl rfl)
theorem dX0_image_41 : decode cX0_image 41 = .ok (.invokespecial 38, 3) := dk_183 0 38 (dk_at dksX0_image_1 17 rfl rfl)
theorem dX0_image_44 : decode cX0_image 44 = .ok (.aastore, 1) := dk_83 (dk_at dksX0_image_1 20 rfl rfl)
theorem dX0_image_45 : decode cX0_image 45 = .ok (.aload_n 0, 1) := dk_42 (dk_at dksX0_image_1 21 rfl rfl)
theorem dX0_image_46 : decode cX0_image 46 = .ok (.getfield 50, 3) := dk_180 0 50 (dk_at dksX0_image_2 0 rfl rfl)
theorem dX0_image_49 : decode cX0_image 49 = .ok (.iload_n 1, 1) := dk_27 (dk_at dksX0_image_2 3 rfl rfl)
theorem dX0_image_50 : decode cX0_image 50 = .ok (.aaload, 1) := dk_50 (dk_at dksX0_image_2 4 rfl rfl)
theorem dX0_image_51 : decode cX0_image 51 = .ok (.aload_n 0, 1) := dk_42 (dk_at dksX0_image_2 5 rfl rfl)
theorem dX0_image_52 : decode cX0_image 52 = .ok (.getfield 39, 3) := dk_180 0 39 (dk_at dksX0_image_2 6 rfl rfl)
theorem dX0_image_55 : decode cX0_image 55 = .ok (.invokevirtual 162, 3) := dk_182 0 162 (dk_at dksX0_image_2 9 rfl rfl)
theorem dX0_image_58 : decode cX0_image 58 = .ok (.pop, 1) := dk_87 (dk_at dksX0_image_2 12 rfl rfl)
theorem dX0_image_59 : decode cX0_image 59 = .ok (.iconst 1, 1) := dk_4 (dk_at dksX0_image_2 13 rfl rfl)
theorem dX0_image_60 : decode cX0_image 60 = .ok (.ireturn, 1) := dk_172 (dk_at dksX0_image_2 14 rfl rfl)
abbrev cX0_restore : ByteArray := prog_1_method_62_code
def yX0_restore : MethodName := ⟨RX0, "restore", "(I)I"⟩
def dkwX0_restore_1 : List UInt8 := [172, 42, 180, 0, 39, 42, 180, 0, 50, 27, 50, 182, 0, 162, 87, 42, 3, 181, 0, 166, 4, 172]
abbrev dktX0_restore_1 : List UInt8 := dkwX0_restore_1 ++ []
def dkwX0_restore_0 : List UInt8 := [27, 133, 9, 10, 184, 0, 86, 154, 0, 6, 18, 100, 172, 42, 180, 0, 50, 27, 50, 199, 0, 6, 18, 173]
abbrev dktX0_restore_0 : List UInt8 := dkwX0_restore_0 ++ dktX0_restore_1
theorem dksX0_restore_0 : cX0_restore.data.toList.drop 0 = dktX0_restore_0 := by decide +kernel
theorem dksX0_restore_1 : cX0_restore.data.toList.drop 24 = dktX0_restore_1 := dk_seg dksX0_restore_0 24 rfl rfl
theorem dX0_restore_0 : decode cX0_restore 0 = .ok (.iload_n 1, 1) := dk_27 (dk_at dksX0_restore_0 0 rfl rfl)
theorem dX0_restore_1 : decode cX0_restore 1 = .ok (.i2l, 1) := dk_133 (dk_at dksX0_restore_0 1 rfl rfl)
theorem dX0_restore_2 : decode cX0_restore 2 = .ok (.lconst 0, 1) := dk_9 (dk_at dksX0_restore_0 2 rfl rfl)
theorem dX0_restore_3 : decode cX0_restore 3 = .ok (.lconst 1, 1) := dk_10 (dk_at dksX0_restore_0 3 rfl rfl)
theorem dX0_restore_4 : decode cX0_restore 4 = .ok (.invokestatic 86, 3) := dk_184 0 86 (dk_at dksX0_restore_0 4 rfl rfl)
theorem dX0_restore_7 : decode cX0_restore 7 = .ok (.ifCond .ne 6, 3) := dk_154 0 6 (dk_at dksX0_restore_0 7 rfl rfl)
theorem dX0_restore_10 : decode cX0_restore 10 = .ok (.ldc 100, 2) := dk_18 100 (dk_at dksX0_restore_0 10 rfl rfl)
theorem dX0_restore_12 : decode cX0_restore 12 = .ok (.ireturn, 1) := dk_172 (dk_at dksX0_restore_0 12 rfl rfl)
theorem dX0_restore_13 : decode cX0_restore 13 = .ok (.aload_n 0, 1) := dk_42 (dk_at dksX0_restore_0 13 rfl rfl)
theorem dX0_restore_14 : decode cX0_restore 14 = .ok (.getfield 50, 3) := dk_180 0 50 (dk_at dksX0_restore_0 14 rfl rfl)
theorem dX0_restore_17 : decode cX0_restore 17 = .ok (.iload_n 1, 1) := dk_27 (dk_at dksX0_restore_0 17 rfl rfl)
theorem dX0_restore_18 : decode cX0_restore 18 = .ok (.aaload, 1) := dk_50 (dk_at dksX0_restore_0 18 rfl rfl)
theorem dX0_restore_19 : decode cX0_restore 19 = .ok (.ifnonnull 6, 3) := dk_199 0 6 (dk_at dksX0_restore_0 19 rfl rfl)
theorem dX0_restore_22 : decode cX0_restore 22 = .ok (.ldc 173, 2) := dk_18 173 (dk_at dksX0_restore_0 22 rfl rfl)
theorem dX0_restore_24 : decode cX0_restore 24 = .ok (.ireturn, 1) := dk_172 (dk_at dksX0_restore_1 0 rfl rfl)
theorem dX0_restore_25 : decode cX0_restore 25 = .ok (.aload_n 0, 1) := dk_42 (dk_at dksX0_restore_1 1 rfl rfl)
theorem dX0_restore_26 : decode cX0_restore 26 = .ok (.getfield 39, 3) := dk_180 0 39 (dk_at dksX0_restore_1 2 rfl rfl)
theorem dX0_restore_29 : decode cX0_restore 29 = .ok (.aload_n 0, 1) := dk_42 (dk_at dksX0_restore_1 5 rfl rfl)
theorem dX0_restore_30 : decode cX0_restore 30 = .ok (.getfield 50, 3) := dk_180 0 50 (dk_at dksX0_restore_1 6 rfl rfl)
theorem dX0_restore_33 : decode cX0_restore 33 = .ok (.iload_n 1, 1) := dk_27 (dk_at dksX0_restore_1 9 rfl rfl)
theorem dX0_restore_34 : decode cX0_restore 34 = .ok (.aaload, 1) := dk_50 (dk_at dksX0_restore_1 10 rfl rfl)
theorem dX0_restore_35 : decode cX0_restore 35 = .ok (.invokevirtual 162, 3) := dk_182 0 162 (dk_at dksX0_restore_1 11 rfl rfl)
theorem dX0_restore_38 : decode cX0_restore 38 = .ok (.pop, 1) := dk_87 (dk_at dksX0_restore_1 14 rfl rfl)
theorem dX0_restore_39 : decode cX0_restore 39 = .ok (.aload_n 0, 1) := dk_42 (dk_at dksX0_restore_1 15 rfl rfl)
theorem dX0_restore_40 : decode cX0_restore 40 = .ok (.iconst 0, 1) := dk_3 (dk_at dksX0_restore_1 16 rfl rfl)
theorem dX0_restore_41 : decode cX0_restore 41 = .ok (.putfield 166, 3) := dk_181 0 166 (dk_at dksX0_restore_1 17 rfl rfl)
theorem dX0_restore_44 : decode cX0_restore 44 = .ok (.iconst 1, 1) := dk_4 (dk_at dksX0_restore_1 20 rfl rfl)
theorem dX0_restore_45 : decode cX0_restore 45 = .ok (.ireturn, 1) := dk_172 (dk_at dksX0_restore_1 21 rfl rfl)
abbrev cX0_kind : ByteArray := prog_1_method_63_code
def yX0_kind : MethodName := ⟨RX0, "kind", "(I)I"⟩
def dkwX0_kind_1 : List UInt8 := [182, 1, 134, 167, 0, 5, 18, 100, 172]
abbrev dktX0_kind_1 : List UInt8 := dkwX0_kind_1 ++ []
def dkwX0_kind_0 : List UInt8 := [42, 27, 182, 0, 214, 153, 0, 25, 42, 180, 0, 39, 180, 1, 124, 27, 185, 1, 128, 2, 0, 192, 0, 67]
abbrev dktX0_kind_0 : List UInt8 := dkwX0_kind_0 ++ dktX0_kind_1
theorem dksX0_kind_0 : cX0_kind.data.toList.drop 0 = dktX0_kind_0 := by decide +kernel
theorem dksX0_kind_1 : cX0_kind.data.toList.drop 24 = dktX0_kind_1 := dk_seg dksX0_kind_0 24 rfl rfl
theorem dX0_kind_0 : decode cX0_kind 0 = .ok (.aload_n 0, 1) := dk_42 (dk_at dksX0_kind_0 0 rfl rfl)
theorem dX0_kind_1 : decode cX0_kind 1 = .ok (.iload_n 1, 1) := dk_27 (dk_at dksX0_kind_0 1 rfl rfl)
theorem dX0_kind_2 : decode cX0_kind 2 = .ok (.invokevirtual 214, 3) := dk_182 0 214 (dk_at dksX0_kind_0 2 rfl rfl)
theorem dX0_kind_5 : decode cX0_kind 5 = .ok (.ifCond .eq 25, 3) := dk_153 0 25 (dk_at dksX0_kind_0 5 rfl rfl)
theorem dX0_kind_8 : decode cX0_kind 8 = .ok (.aload_n 0, 1) := dk_42 (dk_at dksX0_kind_0 8 rfl rfl)
theorem dX0_kind_9 : decode cX0_kind 9 = .ok (.getfield 39, 3) := dk_180 0 39 (dk_at dksX0_kind_0 9 rfl rfl)
theorem dX0_kind_12 : decode cX0_kind 12 = .ok (.getfield 380, 3) := dk_180 1 124 (dk_at dksX0_kind_0 12 rfl rfl)
theorem dX0_kind_15 : decode cX0_kind 15 = .ok (.iload_n 1, 1) := dk_27 (dk_at dksX0_kind_0 15 rfl rfl)
theorem dX0_kind_16 : decode cX0_kind 16 = .ok (.invokeinterface 384 2, 5) := by decide +kernel
theorem dX0_kind_21 : decode cX0_kind 21 = .ok (.checkcast 67, 3) := dk_192 0 67 (dk_at dksX0_kind_0 21 rfl rfl)
theorem dX0_kind_24 : decode cX0_kind 24 = .ok (.invokevirtual 390, 3) := dk_182 1 134 (dk_at dksX0_kind_1 0 rfl rfl)
theorem dX0_kind_27 : decode cX0_kind 27 = .ok (.goto 5, 3) := dk_167 0 5 (dk_at dksX0_kind_1 3 rfl rfl)
theorem dX0_kind_30 : decode cX0_kind 30 = .ok (.ldc 100, 2) := dk_18 100 (dk_at dksX0_kind_1 6 rfl rfl)
theorem dX0_kind_32 : decode cX0_kind 32 = .ok (.ireturn, 1) := dk_172 (dk_at dksX0_kind_1 8 rfl rfl)
abbrev cX0_as : ByteArray := prog_1_method_64_code
def yX0_as : MethodName := ⟨RX0, "as", "(II)I"⟩
def dkwX0_as_5 : List UInt8 := [183, 0, 83, 191, 78, 42, 45, 182, 0, 108, 172]
abbrev dktX0_as_5 : List UInt8 := dkwX0_as_5 ++ []
def dkwX0_as_4 : List UInt8 := [45, 192, 0, 16, 58, 4, 42, 25, 4, 182, 1, 136, 182, 0, 104, 172, 58, 4, 187, 0, 74, 89, 6]
abbrev dktX0_as_4 : List UInt8 := dkwX0_as_4 ++ dktX0_as_5
def dkwX0_as_3 : List UInt8 := [28, 6, 160, 0, 10, 45, 192, 0, 10, 167, 0, 19, 28, 7, 160, 0, 10, 45, 192, 0, 13, 167, 0, 7]
abbrev dktX0_as_3 : List UInt8 := dkwX0_as_3 ++ dktX0_as_4
def dkwX0_as_2 : List UInt8 := [28, 4, 160, 0, 10, 45, 192, 0, 1, 167, 0, 43, 28, 5, 160, 0, 10, 45, 192, 0, 7, 167, 0, 31]
abbrev dktX0_as_2 : List UInt8 := dkwX0_as_2 ++ dktX0_as_3
def dkwX0_as_1 : List UInt8 := [180, 0, 39, 180, 1, 124, 27, 185, 1, 128, 2, 0, 192, 0, 67, 78, 28, 154, 0, 7, 45, 167, 0, 55]
abbrev dktX0_as_1 : List UInt8 := dkwX0_as_1 ++ dktX0_as_2
def dkwX0_as_0 : List UInt8 := [42, 27, 182, 0, 214, 153, 0, 15, 28, 133, 9, 20, 1, 87, 184, 0, 86, 154, 0, 6, 18, 100, 172, 42]
abbrev dktX0_as_0 : List UInt8 := dkwX0_as_0 ++ dktX0_as_1
theorem dksX0_as_0 : cX0_as.data.toList.drop 0 = dktX0_as_0 := by decide +kernel
theorem dksX0_as_1 : cX0_as.data.toList.drop 24 = dktX0_as_1 := dk_seg dksX0_as_0 24 rfl rfl
theorem dksX0_as_2 : cX0_as.data.toList.drop 48 = dktX0_as_2 := dk_seg dksX0_as_1 24 rfl rfl
theorem dksX0_as_3 : cX0_as.data.toList.drop 72 = dktX0_as_3 := dk_seg dksX0_as_2 24 rfl rfl
theorem dksX0_as_4 : cX0_as.data.toList.drop 96 = dktX0_as_4 := dk_seg dksX0_as_3 24 rfl rfl
theorem dksX0_as_5 : cX0_as.data.toList.drop 119 = dktX0_as_5 := dk_seg dksX0_as_4 23 rfl rfl
theorem dX0_as_0 : decode cX0_as 0 = .ok (.aload_n 0, 1) := dk_42 (dk_at dksX0_as_0 0 rfl rfl)
theorem dX0_as_1 : decode cX0_as 1 = .ok (.iload_n 1, 1) := dk_27 (dk_at dksX0_as_0 1 rfl rfl)
theorem dX0_as_2 : decode cX0_as 2 = .ok (.invokevirtual 214, 3) := dk_182 0 214 (dk_at dksX0_as_0 2 rfl rfl)
theorem dX0_as_5 : decode cX0_as 5 = .ok (.ifCond .eq 15, 3) := dk_153 0 15 (dk_at dksX0_as_0 5 rfl rfl)
theorem dX0_as_8 : decode cX0_as 8 = .ok (.iload_n 2, 1) := dk_28 (dk_at dksX0_as_0 8 rfl rfl)
theorem dX0_as_9 : decode cX0_as 9 = .ok (.i2l, 1) := dk_133 (dk_at dksX0_as_0 9 rfl rfl)
theorem dX0_as_10 : decode cX0_as 10 = .ok (.lconst 0, 1) := dk_9 (dk_at dksX0_as_0 10 rfl rfl)
theorem dX0_as_11 : decode cX0_as 11 = .ok (.ldc2_w 343, 3) := dk_20 1 87 (dk_at dksX0_as_0 11 rfl rfl)
theorem dX0_as_14 : decode cX0_as 14 = .ok (.invokestatic 86, 3) := dk_184 0 86 (dk_at dksX0_as_0 14 rfl rfl)
theorem dX0_as_17 : decode cX0_as 17 = .ok (.ifCond .ne 6, 3) := dk_154 0 6 (dk_at dksX0_as_0 17 rfl rfl)
theorem dX0_as_20 : decode cX0_as 20 = .ok (.ldc 100, 2) := dk_18 100 (dk_at dksX0_as_0 20 rfl rfl)
theorem dX0_as_22 : decode cX0_as 22 = .ok (.ireturn, 1) := dk_172 (dk_at dksX0_as_0 22 rfl rfl)
theorem dX0_as_23 : decode cX0_as 23 = .ok (.aload_n 0, 1) := dk_42 (dk_at dksX0_as_0 23 rfl rfl)
theorem dX0_as_24 : decode cX0_as 24 = .ok (.getfield 39, 3) := dk_180 0 39 (dk_at dksX0_as_1 0 rfl rfl)
theorem dX0_as_27 : decode cX0_as 27 = .ok (.getfield 380, 3) := dk_180 1 124 (dk_at dksX0_as_1 3 rfl rfl)
theorem dX0_as_30 : decode cX0_as 30 = .ok (.iload_n 1, 1) := dk_27 (dk_at dksX0_as_1 6 rfl rfl)
theorem dX0_as_31 : decode cX0_as 31 = .ok (.invokeinterface 384 2, 5) := by decide +kernel
theorem dX0_as_36 : decode cX0_as 36 = .ok (.checkcast 67, 3) := dk_192 0 67 (dk_at dksX0_as_1 12 rfl rfl)
theorem dX0_as_39 : decode cX0_as 39 = .ok (.astore_n 3, 1) := dk_78 (dk_at dksX0_as_1 15 rfl rfl)
theorem dX0_as_40 : decode cX0_as 40 = .ok (.iload_n 2, 1) := dk_28 (dk_at dksX0_as_1 16 rfl rfl)
theorem dX0_as_41 : decode cX0_as 41 = .ok (.ifCond .ne 7, 3) := dk_154 0 7 (dk_at dksX0_as_1 17 rfl rfl)
theorem dX0_as_44 : decode cX0_as 44 = .ok (.aload_n 3, 1) := dk_45 (dk_at dksX0_as_1 20 rfl rfl)
theorem dX0_as_45 : decode cX0_as 45 = .ok (.goto 55, 3) := dk_167 0 55 (dk_at dksX0_as_1 21 rfl rfl)
theorem dX0_as_48 : decode cX0_as 48 = .ok (.iload_n 2, 1) := dk_28 (dk_at dksX0_as_2 0 rfl rfl)
theorem dX0_as_49 : decode cX0_as 49 = .ok (.iconst 1, 1) := dk_4 (dk_at dksX0_as_2 1 rfl rfl)
theorem dX0_as_50 : decode cX0_as 50 = .ok (.if_icmp .ne 10, 3) := dk_160 0 10 (dk_at dksX0_as_2 2 rfl rfl)
theorem dX0_as_53 : decode cX0_as 53 = .ok (.aload_n 3, 1) := dk_45 (dk_at dksX0_as_2 5 rfl rfl)
theorem dX0_as_54 : decode cX0_as 54 = .ok (.checkcast 1, 3) := dk_192 0 1 (dk_at dksX0_as_2 6 rfl rfl)
theorem dX0_as_57 : decode cX0_as 57 = .ok (.goto 43, 3) := dk_167 0 43 (dk_at dksX0_as_2 9 rfl rfl)
theorem dX0_as_60 : decode cX0_as 60 = .ok (.iload_n 2, 1) := dk_28 (dk_at dksX0_as_2 12 rfl rfl)
theorem dX0_as_61 : decode cX0_as 61 = .ok (.iconst 2, 1) := dk_5 (dk_at dksX0_as_2 13 rfl rfl)
theorem dX0_as_62 : decode cX0_as 62 = .ok (.if_icmp .ne 10, 3) := dk_160 0 10 (dk_at dksX0_as_2 14 rfl rfl)
theorem dX0_as_65 : decode cX0_as 65 = .ok (.aload_n 3, 1) := dk_45 (dk_at dksX0_as_2 17 rfl rfl)
theorem dX0_as_66 : decode cX0_as 66 = .ok (.checkcast 7, 3) := dk_192 0 7 (dk_at dksX0_as_2 18 rfl rfl)
theorem dX0_as_69 : decode cX0_as 69 = .ok (.goto 31, 3) := dk_167 0 31 (dk_at dksX0_as_2 21 rfl rfl)
theorem dX0_as_72 : decode cX0_as 72 = .ok (.iload_n 2, 1) := dk_28 (dk_at dksX0_as_3 0 rfl rfl)
theorem dX0_as_73 : decode cX0_as 73 = .ok (.iconst 3, 1) := dk_6 (dk_at dksX0_as_3 1 rfl rfl)
theorem dX0_as_74 : decode cX0_as 74 = .ok (.if_icmp .ne 10, 3) := dk_160 0 10 (dk_at dksX0_as_3 2 rfl rfl)
theorem dX0_as_77 : decode cX0_as 77 = .ok (.aload_n 3, 1) := dk_45 (dk_at dksX0_as_3 5 rfl rfl)
theorem dX0_as_78 : decode cX0_as 78 = .ok (.checkcast 10, 3) := dk_192 0 10 (dk_at dksX0_as_3 6 rfl rfl)
theorem dX0_as_81 : decode cX0_as 81 = .ok (.goto 19, 3) := dk_167 0 19 (dk_at dksX0_as_3 9 rfl rfl)
theorem dX0_as_84 : decode cX0_as 84 = .ok (.iload_n 2, 1) := dk_28 (dk_at dksX0_as_3 12 rfl rfl)
theorem dX0_as_85 : decode cX0_as 85 = .ok (.iconst 4, 1) := dk_7 (dk_at dksX0_as_3 13 rfl rfl)
theorem dX0_as_86 : decode cX0_as 86 = .ok (.if_icmp .ne 10, 3) := dk_160 0 10 (dk_at dksX0_as_3 14 rfl rfl)
theorem dX0_as_89 : decode cX0_as 89 = .ok (.aload_n 3, 1) := dk_45 (dk_at dksX0_as_3 17 rfl rfl)
theorem dX0_as_90 : decode cX0_as 90 = .ok (.checkcast 13, 3) := dk_192 0 13 (dk_at dksX0_as_3 18 rfl rfl)
theorem dX0_as_93 : decode cX0_as 93 = .ok (.goto 7, 3) := dk_167 0 7 (dk_at dksX0_as_3 21 rfl rfl)
theorem dX0_as_96 : decode cX0_as 96 = .ok (.aload_n 3, 1) := dk_45 (dk_at dksX0_as_4 0 rfl rfl)
theorem dX0_as_97 : decode cX0_as 97 = .ok (.checkcast 16, 3) := dk_192 0 16 (dk_at dksX0_as_4 1 rfl rfl)
theorem dX0_as_100 : decode cX0_as 100 = .ok (.astore 4, 2) := dk_58 4 (dk_at dksX0_as_4 4 rfl rfl)
theorem dX0_as_102 : decode cX0_as 102 = .ok (.aload_n 0, 1) := dk_42 (dk_at dksX0_as_4 6 rfl rfl)
theorem dX0_as_103 : decode cX0_as 103 = .ok (.aload 4, 2) := dk_25 4 (dk_at dksX0_as_4 7 rfl rfl)
theorem dX0_as_105 : decode cX0_as 105 = .ok (.invokevirtual 392, 3) := dk_182 1 136 (dk_at dksX0_as_4 9 rfl rfl)
theorem dX0_as_108 : decode cX0_as 108 = .ok (.invokevirtual 104, 3) := dk_182 0 104 (dk_at dksX0_as_4 12 rfl rfl)
theorem dX0_as_111 : decode cX0_as 111 = .ok (.ireturn, 1) := dk_172 (dk_at dksX0_as_4 15 rfl rfl)
theorem dX0_as_112 : decode cX0_as 112 = .ok (.astore 4, 2) := dk_58 4 (dk_at dksX0_as_4 16 rfl rfl)
theorem dX0_as_114 : decode cX0_as 114 = .ok (.new 74, 3) := dk_187 0 74 (dk_at dksX0_as_4 18 rfl rfl)
theorem dX0_as_117 : decode cX0_as 117 = .ok (.dup, 1) := dk_89 (dk_at dksX0_as_4 21 rfl rfl)
theorem dX0_as_118 : decode cX0_as 118 = .ok (.iconst 3, 1) := dk_6 (dk_at dksX0_as_4 22 rfl rfl)
theorem dX0_as_119 : decode cX0_as 119 = .ok (.invokespecial 83, 3) := dk_183 0 83 (dk_at dksX0_as_5 0 rfl rfl)
theorem dX0_as_122 : decode cX0_as 122 = .ok (.athrow, 1) := dk_191 (dk_at dksX0_as_5 3 rfl rfl)
theorem dX0_as_123 : decode cX0_as 123 = .ok (.astore_n 3, 1) := dk_78 (dk_at dksX0_as_5 4 rfl rfl)
theorem dX0_as_124 : decode cX0_as 124 = .ok (.aload_n 0, 1) := dk_42 (dk_at dksX0_as_5 5 rfl rfl)
theorem dX0_as_125 : decode cX0_as 125 = .ok (.aload_n 3, 1) := dk_45 (dk_at dksX0_as_5 6 rfl rfl)
theorem dX0_as_126 : decode cX0_as 126 = .ok (.invokevirtual 108, 3) := dk_182 0 108 (dk_at dksX0_as_5 7 rfl rfl)
theorem dX0_as_129 : decode cX0_as 129 = .ok (.ireturn, 1) := dk_172 (dk_at dksX0_as_5 10 rfl rfl)
abbrev cX0_ask : ByteArray := prog_1_method_65_code
def yX0_ask : MethodName := ⟨RX0, "ask", "(II)I"⟩
def dkwX0_ask_3 : List UInt8 := [180, 0, 39, 182, 1, 144, 172]
abbrev dktX0_ask_3 : List UInt8 := dkwX0_ask_3 ++ []
def dkwX0_ask_2 : List UInt8 := [154, 0, 18, 45, 42, 180, 0, 56, 42, 180, 0, 39, 182, 1, 140, 167, 0, 15, 45, 42, 180, 0, 56, 42]
abbrev dktX0_ask_2 : List UInt8 := dkwX0_ask_2 ++ dktX0_ask_3
def dkwX0_ask_1 : List UInt8 := [183, 0, 55, 181, 0, 56, 42, 180, 0, 39, 180, 1, 124, 27, 185, 1, 128, 2, 0, 192, 0, 67, 78, 28]
abbrev dktX0_ask_1 : List UInt8 := dkwX0_ask_1 ++ dktX0_ask_2
def dkwX0_ask_0 : List UInt8 := [42, 27, 182, 0, 214, 153, 0, 10, 28, 184, 1, 20, 154, 0, 6, 18, 100, 172, 42, 187, 0, 53, 89]
abbrev dktX0_ask_0 : List UInt8 := dkwX0_ask_0 ++ dktX0_ask_1
theorem dksX0_ask_0 : cX0_ask.data.toList.drop 0 = dktX0_ask_0 := by decide +kernel
theorem dksX0_ask_1 : cX0_ask.data.toList.drop 23 = dktX0_ask_1 := dk_seg dksX0_ask_0 23 rfl rfl
theorem dksX0_ask_2 : cX0_ask.data.toList.drop 47 = dktX0_ask_2 := dk_seg dksX0_ask_1 24 rfl rfl
theorem dksX0_ask_3 : cX0_ask.data.toList.drop 71 = dktX0_ask_3 := dk_seg dksX0_ask_2 24 rfl rfl
theorem dX0_ask_0 : decode cX0_ask 0 = .ok (.aload_n 0, 1) := dk_42 (dk_at dksX0_ask_0 0 rfl rfl)
theorem dX0_ask_1 : decode cX0_ask 1 = .ok (.iload_n 1, 1) := dk_27 (dk_at dksX0_ask_0 1 rfl rfl)
theorem dX0_ask_2 : decode cX0_ask 2 = .ok (.invokevirtual 214, 3) := dk_182 0 214 (dk_at dksX0_ask_0 2 rfl rfl)
theorem dX0_ask_5 : decode cX0_ask 5 = .ok (.ifCond .eq 10, 3) := dk_153 0 10 (dk_at dksX0_ask_0 5 rfl rfl)
theorem dX0_ask_8 : decode cX0_ask 8 = .ok (.iload_n 2, 1) := dk_28 (dk_at dksX0_ask_0 8 rfl rfl)
theorem dX0_ask_9 : decode cX0_ask 9 = .ok (.invokestatic 276, 3) := dk_184 1 20 (dk_at dksX0_ask_0 9 rfl rfl)
theorem dX0_ask_12 : decode cX0_ask 12 = .ok (.ifCond .ne 6, 3) := dk_154 0 6 (dk_at dksX0_ask_0 12 rfl rfl)
theorem dX0_ask_15 : decode cX0_ask 15 = .ok (.ldc 100, 2) := dk_18 100 (dk_at dksX0_ask_0 15 rfl rfl)
theorem dX0_ask_17 : decode cX0_ask 17 = .ok (.ireturn, 1) := dk_172 (dk_at dksX0_ask_0 17 rfl rfl)
theorem dX0_ask_18 : decode cX0_ask 18 = .ok (.aload_n 0, 1) := dk_42 (dk_at dksX0_ask_0 18 rfl rfl)
theorem dX0_ask_19 : decode cX0_ask 19 = .ok (.new 53, 3) := dk_187 0 53 (dk_at dksX0_ask_0 19 rfl rfl)
theorem dX0_ask_22 : decode cX0_ask 22 = .ok (.dup, 1) := dk_89 (dk_at dksX0_ask_0 22 rfl rfl)
theorem dX0_ask_23 : decode cX0_ask 23 = .ok (.invokespecial 55, 3) := dk_183 0 55 (dk_at dksX0_ask_1 0 rfl rfl)
theorem dX0_ask_26 : decode cX0_ask 26 = .ok (.putfield 56, 3) := dk_181 0 56 (dk_at dksX0_ask_1 3 rfl rfl)
theorem dX0_ask_29 : decode cX0_ask 29 = .ok (.aload_n 0, 1) := dk_42 (dk_at dksX0_ask_1 6 rfl rfl)
theorem dX0_ask_30 : decode cX0_ask 30 = .ok (.getfield 39, 3) := dk_180 0 39 (dk_at dksX0_ask_1 7 rfl rfl)
theorem dX0_ask_33 : decode cX0_ask 33 = .ok (.getfield 380, 3) := dk_180 1 124 (dk_at dksX0_ask_1 10 rfl rfl)
theorem dX0_ask_36 : decode cX0_ask 36 = .ok (.iload_n 1, 1) := dk_27 (dk_at dksX0_ask_1 13 rfl rfl)
theorem dX0_ask_37 : decode cX0_ask 37 = .ok (.invokeinterface 384 2, 5) := by decide +kernel
theorem dX0_ask_42 : decode cX0_ask 42 = .ok (.checkcast 67, 3) := dk_192 0 67 (dk_at dksX0_ask_1 19 rfl rfl)
theorem dX0_ask_45 : decode cX0_ask 45 = .ok (.astore_n 3, 1) := dk_78 (dk_at dksX0_ask_1 22 rfl rfl)
theorem dX0_ask_46 : decode cX0_ask 46 = .ok (.iload_n 2, 1) := dk_28 (dk_at dksX0_ask_1 23 rfl rfl)
theorem dX0_ask_47 : decode cX0_ask 47 = .ok (.ifCond .ne 18, 3) := dk_154 0 18 (dk_at dksX0_ask_2 0 rfl rfl)
theorem dX0_ask_50 : decode cX0_ask 50 = .ok (.aload_n 3, 1) := dk_45 (dk_at dksX0_ask_2 3 rfl rfl)
theorem dX0_ask_51 : decode cX0_ask 51 = .ok (.aload_n 0, 1) := dk_42 (dk_at dksX0_ask_2 4 rfl rfl)
theorem dX0_ask_52 : decode cX0_ask 52 = .ok (.getfield 56, 3) := dk_180 0 56 (dk_at dksX0_ask_2 5 rfl rfl)
theorem dX0_ask_55 : decode cX0_ask 55 = .ok (.aload_n 0, 1) := dk_42 (dk_at dksX0_ask_2 8 rfl rfl)
theorem dX0_ask_56 : decode cX0_ask 56 = .ok (.getfield 39, 3) := dk_180 0 39 (dk_at dksX0_ask_2 9 rfl rfl)
theorem dX0_ask_59 : decode cX0_ask 59 = .ok (.invokevirtual 396, 3) := dk_182 1 140 (dk_at dksX0_ask_2 12 rfl rfl)
theorem dX0_ask_62 : decode cX0_ask 62 = .ok (.goto 15, 3) := dk_167 0 15 (dk_at dksX0_ask_2 15 rfl rfl)
theorem dX0_ask_65 : decode cX0_ask 65 = .ok (.aload_n 3, 1) := dk_45 (dk_at dksX0_ask_2 18 rfl rfl)
theorem dX0_ask_66 : decode cX0_ask 66 = .ok (.aload_n 0, 1) := dk_42 (dk_at dksX0_ask_2 19 rfl rfl)
theorem dX0_ask_67 : decode cX0_ask 67 = .ok (.getfield 56, 3) := dk_180 0 56 (dk_at dksX0_ask_2 20 rfl rfl)
theorem dX0_ask_70 : decode cX0_ask 70 = .ok (.aload_n 0, 1) := dk_42 (dk_at dksX0_ask_2 23 rfl rfl)
theorem dX0_ask_71 : decode cX0_ask 71 = .ok (.getfield 39, 3) := dk_180 0 39 (dk_at dksX0_ask_3 0 rfl rfl)
theorem dX0_ask_74 : decode cX0_ask 74 = .ok (.invokevirtual 400, 3) := dk_182 1 144 (dk_at dksX0_ask_3 3 rfl rfl)
theorem dX0_ask_77 : decode cX0_ask 77 = .ok (.ireturn, 1) := dk_172 (dk_at dksX0_ask_3 6 rfl rfl)
abbrev cX0_trace : ByteArray := prog_1_method_66_code
def yX0_trace : MethodName := ⟨RX0, "trace", "(I)I"⟩
def dkwX0_trace_1 : List UInt8 := [180, 1, 149, 27, 46, 167, 0, 6, 19, 1, 10, 172]
abbrev dktX0_trace_1 : List UInt8 := dkwX0_trace_1 ++ []
def dkwX0_trace_0 : List UInt8 := [27, 133, 9, 42, 180, 0, 56, 180, 1, 147, 4, 100, 133, 184, 0, 86, 153, 0, 15, 42, 180, 0, 56]
abbrev dktX0_trace_0 : List UInt8 := dkwX0_trace_0 ++ dktX0_trace_1
theorem dksX0_trace_0 : cX0_trace.data.toList.drop 0 = dktX0_trace_0 := by decide +kernel
theorem dksX0_trace_1 : cX0_trace.data.toList.drop 23 = dktX0_trace_1 := dk_seg dksX0_trace_0 23 rfl rfl
theorem dX0_trace_0 : decode cX0_trace 0 = .ok (.iload_n 1, 1) := dk_27 (dk_at dksX0_trace_0 0 rfl rfl)
theorem dX0_trace_1 : decode cX0_trace 1 = .ok (.i2l, 1) := dk_133 (dk_at dksX0_trace_0 1 rfl rfl)
theorem dX0_trace_2 : decode cX0_trace 2 = .ok (.lconst 0, 1) := dk_9 (dk_at dksX0_trace_0 2 rfl rfl)
theorem dX0_trace_3 : decode cX0_trace 3 = .ok (.aload_n 0, 1) := dk_42 (dk_at dksX0_trace_0 3 rfl rfl)
theorem dX0_trace_4 : decode cX0_trace 4 = .ok (.getfield 56, 3) := dk_180 0 56 (dk_at dksX0_trace_0 4 rfl rfl)
theorem dX0_trace_7 : decode cX0_trace 7 = .ok (.getfield 403, 3) := dk_180 1 147 (dk_at dksX0_trace_0 7 rfl rfl)
theorem dX0_trace_10 : decode cX0_trace 10 = .ok (.iconst 1, 1) := dk_4 (dk_at dksX0_trace_0 10 rfl rfl)
theorem dX0_trace_11 : decode cX0_trace 11 = .ok (.isub, 1) := dk_100 (dk_at dksX0_trace_0 11 rfl rfl)
theorem dX0_trace_12 : decode cX0_trace 12 = .ok (.i2l, 1) := dk_133 (dk_at dksX0_trace_0 12 rfl rfl)
theorem dX0_trace_13 : decode cX0_trace 13 = .ok (.invokestatic 86, 3) := dk_184 0 86 (dk_at dksX0_trace_0 13 rfl rfl)
theorem dX0_trace_16 : decode cX0_trace 16 = .ok (.ifCond .eq 15, 3) := dk_153 0 15 (dk_at dksX0_trace_0 16 rfl rfl)
theorem dX0_trace_19 : decode cX0_trace 19 = .ok (.aload_n 0, 1) := dk_42 (dk_at dksX0_trace_0 19 rfl rfl)
theorem dX0_trace_20 : decode cX0_trace 20 = .ok (.getfield 56, 3) := dk_180 0 56 (dk_at dksX0_trace_0 20 rfl rfl)
theorem dX0_trace_23 : decode cX0_trace 23 = .ok (.getfield 405, 3) := dk_180 1 149 (dk_at dksX0_trace_1 0 rfl rfl)
theorem dX0_trace_26 : decode cX0_trace 26 = .ok (.iload_n 1, 1) := dk_27 (dk_at dksX0_trace_1 3 rfl rfl)
theorem dX0_trace_27 : decode cX0_trace 27 = .ok (.iaload, 1) := dk_46 (dk_at dksX0_trace_1 4 rfl rfl)
theorem dX0_trace_28 : decode cX0_trace 28 = .ok (.goto 6, 3) := dk_167 0 6 (dk_at dksX0_trace_1 5 rfl rfl)
theorem dX0_trace_31 : decode cX0_trace 31 = .ok (.ldc_w 266, 3) := dk_19 1 10 (dk_at dksX0_trace_1 8 rfl rfl)
theorem dX0_trace_34 : decode cX0_trace 34 = .ok (.ireturn, 1) := dk_172 (dk_at dksX0_trace_1 11 rfl rfl)
abbrev cX0_count : ByteArray := prog_1_method_67_code
def yX0_count : MethodName := ⟨RX0, "count", "(I)I"⟩
def dkwX0_count_6 : List UInt8 := [172, 42, 180, 0, 135, 172, 18, 100, 172]
abbrev dktX0_count_6 : List UInt8 := dkwX0_count_6 ++ []
def dkwX0_count_5 : List UInt8 := [180, 0, 39, 5, 182, 0, 197, 184, 1, 23, 172, 42, 180, 0, 39, 3, 182, 1, 58, 172, 42, 180, 0, 166]
abbrev dktX0_count_5 : List UInt8 := dkwX0_count_5 ++ dktX0_count_6
def dkwX0_count_4 : List UInt8 := [172, 42, 180, 0, 39, 180, 0, 187, 172, 42, 180, 0, 39, 3, 182, 0, 197, 184, 1, 23, 172, 42]
abbrev dktX0_count_4 : List UInt8 := dkwX0_count_4 ++ dktX0_count_5
def dkwX0_count_3 : List UInt8 := [61, 132, 3, 1, 167, 255, 230, 28, 172, 42, 180, 0, 39, 182, 0, 169, 172, 42, 180, 0, 39, 180, 0, 174]
abbrev dktX0_count_3 : List UInt8 := dkwX0_count_3 ++ dktX0_count_4
def dkwX0_count_2 : List UInt8 := [3, 62, 29, 16, 8, 162, 0, 26, 28, 42, 180, 0, 28, 29, 50, 199, 0, 7, 3, 167, 0, 4, 4, 96]
abbrev dktX0_count_2 : List UInt8 := dkwX0_count_2 ++ dktX0_count_3
def dkwX0_count_1 : List UInt8 := [170, 0, 0, 0, 149, 0, 0, 0, 0, 0, 0, 0, 8, 0, 0, 0, 49, 0, 0, 0, 82, 0, 0, 0, 90, 0, 0, 0, 98, 0, 0, 0, 106, 0, 0, 0, 118, 0, 0, 0, 130, 0, 0, 0, 139, 0, 0, 0, 144]
abbrev dktX0_count_1 : List UInt8 := dkwX0_count_1 ++ dktX0_count_2
def dkwX0_count_0 : List UInt8 := [3, 61, 27]
abbrev dktX0_count_0 : List UInt8 := dkwX0_count_0 ++ dktX0_count_1
theorem dksX0_count_0 : cX0_count.data.toList.drop 0 = dktX0_count_0 := by decide +kernel
theorem dksX0_count_1 : cX0_count.data.toList.drop 3 = dktX0_count_1 := dk_seg dksX0_count_0 3 rfl rfl
theorem dksX0_count_2 : cX0_count.data.toList.drop 52 = dktX0_count_2 := dk_seg dksX0_count_1 49 rfl rfl
theorem dksX0_count_3 : cX0_count.data.toList.drop 76 = dktX0_count_3 := dk_seg dksX0_count_2 24 rfl rfl
theorem dksX0_count_4 : cX0_count.data.toList.drop 100 = dktX0_count_4 := dk_seg dksX0_count_3 24 rfl rfl
theorem dksX0_count_5 : cX0_count.data.toList.drop 122 = dktX0_count_5 := dk_seg dksX0_count_4 22 rfl rfl
theorem dksX0_count_6 : cX0_count.data.toList.drop 146 = dktX0_count_6 := dk_seg dksX0_count_5 24 rfl rfl
theorem dX0_count_0 : decode cX0_count 0 = .ok (.iconst 0, 1) := dk_3 (dk_at dksX0_count_0 0 rfl rfl)
theorem dX0_count_1 : decode cX0_count 1 = .ok (.istore_n 2, 1) := dk_61 (dk_at dksX0_count_0 1 rfl rfl)
theorem dX0_count_2 : decode cX0_count 2 = .ok (.iload_n 1, 1) := dk_27 (dk_at dksX0_count_0 2 rfl rfl)
theorem dX0_count_3 : decode cX0_count 3 = .ok (.tableswitch 149 0 8 #[49, 82, 90, 98, 106, 118, 130, 139, 144], 49) := by decide +kernel
theorem dX0_count_52 : decode cX0_count 52 = .ok (.iconst 0, 1) := dk_3 (dk_at dksX0_count_2 0 rfl rfl)
theorem dX0_count_53 : decode cX0_count 53 = .ok (.istore_n 3, 1) := dk_62 (dk_at dksX0_count_2 1 rfl rfl)
theorem dX0_count_54 : decode cX0_count 54 = .ok (.iload_n 3, 1) := dk_29 (dk_at dksX0_count_2 2 rfl rfl)
theorem dX0_count_55 : decode cX0_count 55 = .ok (.bipush 8, 2) := dk_16 8 (dk_at dksX0_count_2 3 rfl rfl)
theorem dX0_count_57 : decode cX0_count 57 = .ok (.if_icmp .ge 26, 3) := dk_162 0 26 (dk_at dksX0_count_2 5 rfl rfl)
theorem dX0_count_60 : decode cX0_count 60 = .ok (.iload_n 2, 1) := dk_28 (dk_at dksX0_count_2 8 rfl rfl)
theorem dX0_count_61 : decode cX0_count 61 = .ok (.aload_n 0, 1) := dk_42 (dk_at dksX0_count_2 9 rfl rfl)
theorem dX0_count_62 : decode cX0_count 62 = .ok (.getfield 28, 3) := dk_180 0 28 (dk_at dksX0_count_2 10 rfl rfl)
theorem dX0_count_65 : decode cX0_count 65 = .ok (.iload_n 3, 1) := dk_29 (dk_at dksX0_count_2 13 rfl rfl)
theorem dX0_count_66 : decode cX0_count 66 = .ok (.aaload, 1) := dk_50 (dk_at dksX0_count_2 14 rfl rfl)
theorem dX0_count_67 : decode cX0_count 67 = .ok (.ifnonnull 7, 3) := dk_199 0 7 (dk_at dksX0_count_2 15 rfl rfl)
theorem dX0_count_70 : decode cX0_count 70 = .ok (.iconst 0, 1) := dk_3 (dk_at dksX0_count_2 18 rfl rfl)
theorem dX0_count_71 : decode cX0_count 71 = .ok (.goto 4, 3) := dk_167 0 4 (dk_at dksX0_count_2 19 rfl rfl)
theorem dX0_count_74 : decode cX0_count 74 = .ok (.iconst 1, 1) := dk_4 (dk_at dksX0_count_2 22 rfl rfl)
theorem dX0_count_75 : decode cX0_count 75 = .ok (.iadd, 1) := dk_96 (dk_at dksX0_count_2 23 rfl rfl)
theorem dX0_count_76 : decode cX0_count 76 = .ok (.istore_n 2, 1) := dk_61 (dk_at dksX0_count_3 0 rfl rfl)
theorem dX0_count_77 : decode cX0_count 77 = .ok (.iinc 3 1, 3) := dk_132 3 1 (dk_at dksX0_count_3 1 rfl rfl)
theorem dX0_count_80 : decode cX0_count 80 = .ok (.goto (-26), 3) := dk_167 255 230 (dk_at dksX0_count_3 4 rfl rfl)
theorem dX0_count_83 : decode cX0_count 83 = .ok (.iload_n 2, 1) := dk_28 (dk_at dksX0_count_3 7 rfl rfl)
theorem dX0_count_84 : decode cX0_count 84 = .ok (.ireturn, 1) := dk_172 (dk_at dksX0_count_3 8 rfl rfl)
theorem dX0_count_85 : decode cX0_count 85 = .ok (.aload_n 0, 1) := dk_42 (dk_at dksX0_count_3 9 rfl rfl)
theorem dX0_count_86 : decode cX0_count 86 = .ok (.getfield 39, 3) := dk_180 0 39 (dk_at dksX0_count_3 10 rfl rfl)
theorem dX0_count_89 : decode cX0_count 89 = .ok (.invokevirtual 169, 3) := dk_182 0 169 (dk_at dksX0_count_3 13 rfl rfl)
theorem dX0_count_92 : decode cX0_count 92 = .ok (.ireturn, 1) := dk_172 (dk_at dksX0_count_3 16 rfl rfl)
theorem dX0_count_93 : decode cX0_count 93 = .ok (.aload_n 0, 1) := dk_42 (dk_at dksX0_count_3 17 rfl rfl)
theorem dX0_count_94 : decode cX0_count 94 = .ok (.getfield 39, 3) := dk_180 0 39 (dk_at dksX0_count_3 18 rfl rfl)
theorem dX0_count_97 : decode cX0_count 97 = .ok (.getfield 174, 3) := dk_180 0 174 (dk_at dksX0_count_3 21 rfl rfl)
theorem dX0_count_100 : decode cX0_count 100 = .ok (.ireturn, 1) := dk_172 (dk_at dksX0_count_4 0 rfl rfl)
theorem dX0_count_101 : decode cX0_count 101 = .ok (.aload_n 0, 1) := dk_42 (dk_at dksX0_count_4 1 rfl rfl)
theorem dX0_count_102 : decode cX0_count 102 = .ok (.getfield 39, 3) := dk_180 0 39 (dk_at dksX0_count_4 2 rfl rfl)
theorem dX0_count_105 : decode cX0_count 105 = .ok (.getfield 187, 3) := dk_180 0 187 (dk_at dksX0_count_4 5 rfl rfl)
theorem dX0_count_108 : decode cX0_count 108 = .ok (.ireturn, 1) := dk_172 (dk_at dksX0_count_4 8 rfl rfl)
theorem dX0_count_109 : decode cX0_count 109 = .ok (.aload_n 0, 1) := dk_42 (dk_at dksX0_count_4 9 rfl rfl)
theorem dX0_count_110 : decode cX0_count 110 = .ok (.getfield 39, 3) := dk_180 0 39 (dk_at dksX0_count_4 10 rfl rfl)
theorem dX0_count_113 : decode cX0_count 113 = .ok (.iconst 0, 1) := dk_3 (dk_at dksX0_count_4 13 rfl rfl)
theorem dX0_count_114 : decode cX0_count 114 = .ok (.invokevirtual 197, 3) := dk_182 0 197 (dk_at dksX0_count_4 14 rfl rfl)
theorem dX0_count_117 : decode cX0_count 117 = .ok (.invokestatic 279, 3) := dk_184 1 23 (dk_at dksX0_count_4 17 rfl rfl)
theorem dX0_count_120 : decode cX0_count 120 = .ok (.ireturn, 1) := dk_172 (dk_at dksX0_count_4 20 rfl rfl)
theorem dX0_count_121 : decode cX0_count 121 = .ok (.aload_n 0, 1) := dk_42 (dk_at dksX0_count_4 21 rfl rfl)
theorem dX0_count_122 : decode cX0_count 122 = .ok (.getfield 39, 3) := dk_180 0 39 (dk_at dksX0_count_5 0 rfl rfl)
theorem dX0_count_125 : decode cX0_count 125 = .ok (.iconst 2, 1) := dk_5 (dk_at dksX0_count_5 3 rfl rfl)
theorem dX0_count_126 : decode cX0_count 126 = .ok (.invokevirtual 197, 3) := dk_182 0 197 (dk_at dksX0_count_5 4 rfl rfl)
theorem dX0_count_129 : decode cX0_count 129 = .ok (.invokestatic 279, 3) := dk_184 1 23 (dk_at dksX0_count_5 7 rfl rfl)
theorem dX0_count_132 : decode cX0_count 132 = .ok (.ireturn, 1) := dk_172 (dk_at dksX0_count_5 10 rfl rfl)
theorem dX0_count_133 : decode cX0_count 133 = .ok (.aload_n 0, 1) := dk_42 (dk_at dksX0_count_5 11 rfl rfl)
theorem dX0_count_134 : decode cX0_count 134 = .ok (.getfield 39, 3) := dk_180 0 39 (dk_at dksX0_count_5 12 rfl rfl)
theorem dX0_count_137 : decode cX0_count 137 = .ok (.iconst 0, 1) := dk_3 (dk_at dksX0_count_5 15 rfl rfl)
theorem dX0_count_138 : decode cX0_count 138 = .ok (.invokevirtual 314, 3) := dk_182 1 58 (dk_at dksX0_count_5 16 rfl rfl)
theorem dX0_count_141 : decode cX0_count 141 = .ok (.ireturn, 1) := dk_172 (dk_at dksX0_count_5 19 rfl rfl)
theorem dX0_count_142 : decode cX0_count 142 = .ok (.aload_n 0, 1) := dk_42 (dk_at dksX0_count_5 20 rfl rfl)
theorem dX0_count_143 : decode cX0_count 143 = .ok (.getfield 166, 3) := dk_180 0 166 (dk_at dksX0_count_5 21 rfl rfl)
theorem dX0_count_146 : decode cX0_count 146 = .ok (.ireturn, 1) := dk_172 (dk_at dksX0_count_6 0 rfl rfl)
theorem dX0_count_147 : decode cX0_count 147 = .ok (.aload_n 0, 1) := dk_42 (dk_at dksX0_count_6 1 rfl rfl)
theorem dX0_count_148 : decode cX0_count 148 = .ok (.getfield 135, 3) := dk_180 0 135 (dk_at dksX0_count_6 2 rfl rfl)
theorem dX0_count_151 : decode cX0_count 151 = .ok (.ireturn, 1) := dk_172 (dk_at dksX0_count_6 5 rfl rfl)
theorem dX0_count_152 : decode cX0_count 152 = .ok (.ldc 100, 2) := dk_18 100 (dk_at dksX0_count_6 6 rfl rfl)
theorem dX0_count_154 : decode cX0_count 154 = .ok (.ireturn, 1) := dk_172 (dk_at dksX0_count_6 8 rfl rfl)
abbrev cX0_status : ByteArray := prog_1_method_68_code
def yX0_status : MethodName := ⟨RX0, "status", "()I"⟩
theorem dX0_status_0 : decode cX0_status 0 = .ok (.aload_n 0, 1) := by decide +kernel
theorem dX0_status_1 : decode cX0_status 1 = .ok (.getfield 79, 3) := by decide +kernel
theorem dX0_status_4 : decode cX0_status 4 = .ok (.ireturn, 1) := by decide +kernel
theorem q82 : (Jvm.Cond.initialized "DishLift") ∈ lw_all := lw_g (lw_at lw_m1 1 rfl) rfl
theorem q116 : (Jvm.Cond.instantiable "DishLift" (14 : Nat)) ∈ lw_all := lw_g (lw_at lw_m1 35 rfl) rfl
theorem q118 : (Jvm.Cond.instanceMethod ({ cls := "DishLift", name := "<init>", desc := "()V" } : Jvm.MethodName)) ∈ lw_all := lw_g (lw_at lw_m1 37 rfl) rfl
theorem q119 : (Jvm.Cond.code ({ cls := "DishLift", name := "<init>", desc := "()V" } : Jvm.MethodName) prog_1_method_4_code (1 : Nat) (Option.none : Option Jvm.ClassFile.FieldType)) ∈ lw_all := lw_g (lw_at lw_m1 38 rfl) rfl
theorem q120 : (Jvm.Cond.methodLink "DishLift" (19 : Nat) ({ cls := "java/lang/Object", name := "<init>", desc := "()V" } : Jvm.MethodName)) ∈ lw_all := lw_g (lw_at lw_m1 39 rfl) rfl
theorem q123 : (Jvm.Cond.classLink "DishLift" (26 : Nat) "DishLift$Row") ∈ lw_all := lw_g (lw_at lw_m1 42 rfl) rfl
theorem q125 : (Jvm.Cond.classLink "DishLift" (36 : Nat) "DishLift$House") ∈ lw_all := lw_g (lw_at lw_m1 44 rfl) rfl
theorem q127 : (Jvm.Cond.methodLink "DishLift" (38 : Nat) ({ cls := "DishLift$House", name := "<init>", desc := "()V" } : Jvm.MethodName)) ∈ lw_all := lw_g (lw_at lw_m1 46 rfl) rfl
theorem q161 : (Jvm.Cond.fieldLink "DishLift" (174 : Nat) "DishLift$House" "floors" "I") ∈ lw_all := lw_g (lw_at lw_m1 80 rfl) rfl
theorem q164 : (Jvm.Cond.fieldLink "DishLift" (211 : Nat) "DishLift$House" "room" "I") ∈ lw_all := lw_g (lw_at lw_m1 83 rfl) rfl
theorem q167 : (Jvm.Cond.fieldLink "DishLift" (206 : Nat) "DishLift$House" "rope" "I") ∈ lw_all := lw_g (lw_at lw_m1 86 rfl) rfl
theorem q169 : (Jvm.Cond.fieldLink "DishLift" (203 : Nat) "DishLift$House" "car" "I") ∈ lw_all := lw_g (lw_at lw_m1 88 rfl) rfl
theorem q171 : (Jvm.Cond.fieldLink "DishLift" (247 : Nat) "DishLift$House" "way" "I") ∈ lw_all := lw_g (lw_at lw_m1 90 rfl) rfl
theorem q174 : (Jvm.Cond.fieldLink "DishLift" (380 : Nat) "DishLift$House" "dishes" "Ljava/util/List;") ∈ lw_all := lw_g (lw_at lw_m1 93 rfl) rfl
theorem q176 : (Jvm.Cond.fieldLink "DishLift" (217 : Nat) "DishLift$House" "how" "[I") ∈ lw_all := lw_g (lw_at lw_m1 95 rfl) rfl
theorem q179 : (Jvm.Cond.fieldLink "DishLift" (227 : Nat) "DishLift$House" "at" "[I") ∈ lw_all := lw_g (lw_at lw_m1 98 rfl) rfl
theorem q182 : (Jvm.Cond.fieldLink "DishLift" (220 : Nat) "DishLift$House" "to" "[I") ∈ lw_all := lw_g (lw_at lw_m1 101 rfl) rfl
theorem q186 : (Jvm.Cond.fieldLink "DishLift" (234 : Nat) "DishLift$House" "weight" "[I") ∈ lw_all := lw_g (lw_at lw_m1 105 rfl) rfl
theorem q190 : (Jvm.Cond.fieldLink "DishLift" (237 : Nat) "DishLift$House" "heat" "[I") ∈ lw_all := lw_g (lw_at lw_m1 109 rfl) rfl
theorem q192 : (Jvm.Cond.fieldLink "DishLift" (293 : Nat) "DishLift$House" "rank" "[I") ∈ lw_all := lw_g (lw_at lw_m1 111 rfl) rfl
theorem q194 : (Jvm.Cond.fieldLink "DishLift" (187 : Nat) "DishLift$House" "minute" "I") ∈ lw_all := lw_g (lw_at lw_m1 113 rfl) rfl
theorem q196 : (Jvm.Cond.fieldLink "DishLift" (329 : Nat) "DishLift$House" "takenFor" "I") ∈ lw_all := lw_g (lw_at lw_m1 115 rfl) rfl
theorem q198 : (Jvm.Cond.fieldLink "DishLift" (332 : Nat) "DishLift$House" "taken" "LDishLift$Dish;") ∈ lw_all := lw_g (lw_at lw_m1 117 rfl) rfl
theorem q232 : (Jvm.Cond.classLink "DishLift" (53 : Nat) "DishLift$Trail") ∈ lw_all := lw_g (lw_at lw_m1 151 rfl) rfl
theorem q234 : (Jvm.Cond.methodLinkNest "DishLift" (55 : Nat) ({ cls := "DishLift$Trail", name := "<init>", desc := "()V" } : Jvm.MethodName) "DishLift") ∈ lw_tbl := lw_at lw_m1 153 rfl
theorem q239 : (Jvm.Cond.fieldLinkNest "DishLift" (405 : Nat) "DishLift$Trail" "body" "[I" "DishLift") ∈ lw_tbl := lw_at lw_m1 158 rfl
theorem q241 : (Jvm.Cond.fieldLinkNest "DishLift" (403 : Nat) "DishLift$Trail" "many" "I" "DishLift") ∈ lw_tbl := lw_at lw_m1 160 rfl
theorem q247 : (Jvm.Cond.classLink "DishLift" (67 : Nat) "DishLift$Dish") ∈ lw_all := lw_g (lw_at lw_m1 166 rfl) rfl
theorem q249 : (Jvm.Cond.classLink "DishLift" (1 : Nat) "DishLift$Hot") ∈ lw_all := lw_g (lw_at lw_m1 168 rfl) rfl
theorem q251 : (Jvm.Cond.methodLink "DishLift" (3 : Nat) ({ cls := "DishLift$Hot", name := "<init>", desc := "(I)V" } : Jvm.MethodName)) ∈ lw_all := lw_g (lw_at lw_m1 170 rfl) rfl
theorem q262 : (Jvm.Cond.classLink "DishLift" (7 : Nat) "DishLift$Soup") ∈ lw_all := lw_g (lw_at lw_m1 181 rfl) rfl
theorem q264 : (Jvm.Cond.methodLink "DishLift" (9 : Nat) ({ cls := "DishLift$Soup", name := "<init>", desc := "(I)V" } : Jvm.MethodName)) ∈ lw_all := lw_g (lw_at lw_m1 183 rfl) rfl
theorem q270 : (Jvm.Cond.classLink "DishLift" (10 : Nat) "DishLift$Roast") ∈ lw_all := lw_g (lw_at lw_m1 189 rfl) rfl
theorem q272 : (Jvm.Cond.methodLink "DishLift" (12 : Nat) ({ cls := "DishLift$Roast", name := "<init>", desc := "(I)V" } : Jvm.MethodName)) ∈ lw_all := lw_g (lw_at lw_m1 191 rfl) rfl
theorem q278 : (Jvm.Cond.classLink "DishLift" (13 : Nat) "DishLift$Cold") ∈ lw_all := lw_g (lw_at lw_m1 197 rfl) rfl
theorem q280 : (Jvm.Cond.methodLink "DishLift" (15 : Nat) ({ cls := "DishLift$Cold", name := "<init>", desc := "(I)V" } : Jvm.MethodName)) ∈ lw_all := lw_g (lw_at lw_m1 199 rfl) rfl
theorem q286 : (Jvm.Cond.classLink "DishLift" (16 : Nat) "DishLift$Ice") ∈ lw_all := lw_g (lw_at lw_m1 205 rfl) rfl
theorem q288 : (Jvm.Cond.methodLink "DishLift" (18 : Nat) ({ cls := "DishLift$Ice", name := "<init>", desc := "(I)V" } : Jvm.MethodName)) ∈ lw_all := lw_g (lw_at lw_m1 207 rfl) rfl
theorem q294 : (Jvm.Cond.fieldLink "DishLift" (28 : Nat) "DishLift" "rows" "[LDishLift$Row;") ∈ lw_all := lw_g (lw_at lw_m1 213 rfl) rfl
theorem q295 : (Jvm.Cond.fieldLink "DishLift" (32 : Nat) "DishLift" "tape" "[B") ∈ lw_all := lw_g (lw_at lw_m1 214 rfl) rfl
theorem q296 : (Jvm.Cond.fieldLink "DishLift" (135 : Nat) "DishLift" "taped" "I") ∈ lw_all := lw_g (lw_at lw_m1 215 rfl) rfl
theorem q297 : (Jvm.Cond.fieldLink "DishLift" (152 : Nat) "DishLift" "faultKind" "I") ∈ lw_all := lw_g (lw_at lw_m1 216 rfl) rfl
theorem q298 : (Jvm.Cond.fieldLink "DishLift" (39 : Nat) "DishLift" "house" "LDishLift$House;") ∈ lw_all := lw_g (lw_at lw_m1 217 rfl) rfl
theorem q299 : (Jvm.Cond.fieldLink "DishLift" (43 : Nat) "DishLift" "trial" "LDishLift$House;") ∈ lw_all := lw_g (lw_at lw_m1 218 rfl) rfl
theorem q300 : (Jvm.Cond.fieldLink "DishLift" (46 : Nat) "DishLift" "past" "[LDishLift$House;") ∈ lw_all := lw_g (lw_at lw_m1 219 rfl) rfl
theorem q301 : (Jvm.Cond.fieldLink "DishLift" (166 : Nat) "DishLift" "acts" "I") ∈ lw_all := lw_g (lw_at lw_m1 220 rfl) rfl
theorem q302 : (Jvm.Cond.fieldLink "DishLift" (50 : Nat) "DishLift" "images" "[LDishLift$House;") ∈ lw_all := lw_g (lw_at lw_m1 221 rfl) rfl
theorem q303 : (Jvm.Cond.fieldLink "DishLift" (56 : Nat) "DishLift" "trail" "LDishLift$Trail;") ∈ lw_all := lw_g (lw_at lw_m1 222 rfl) rfl
theorem q304 : (Jvm.Cond.fieldLink "DishLift" (79 : Nat) "DishLift" "status" "I") ∈ lw_all := lw_g (lw_at lw_m1 223 rfl) rfl
theorem q305 : (Jvm.Cond.fieldLink "DishLift" (60 : Nat) "DishLift" "line" "[I") ∈ lw_all := lw_g (lw_at lw_m1 224 rfl) rfl
theorem q306 : (Jvm.Cond.fieldLink "DishLift" (64 : Nat) "DishLift" "best" "[I") ∈ lw_all := lw_g (lw_at lw_m1 225 rfl) rfl
theorem q307 : (Jvm.Cond.fieldLink "DishLift" (69 : Nat) "DishLift" "takens" "[LDishLift$Dish;") ∈ lw_all := lw_g (lw_at lw_m1 226 rfl) rfl
theorem q308 : (Jvm.Cond.laysFinal "DishLift" "DishLift" "rows" "[LDishLift$Row;") ∈ lw_all := lw_g (lw_at lw_m1 227 rfl) rfl
theorem q309 : (Jvm.Cond.soleField "DishLift" "rows") ∈ lw_all := lw_g (lw_at lw_m1 228 rfl) rfl
theorem q310 : (Jvm.Cond.laysFinal "DishLift" "DishLift" "tape" "[B") ∈ lw_all := lw_g (lw_at lw_m1 229 rfl) rfl
theorem q311 : (Jvm.Cond.soleField "DishLift" "tape") ∈ lw_all := lw_g (lw_at lw_m1 230 rfl) rfl
theorem q312 : (Jvm.Cond.lays "DishLift" "DishLift" "taped" "I") ∈ lw_all := lw_g (lw_at lw_m1 231 rfl) rfl
theorem q313 : (Jvm.Cond.soleField "DishLift" "taped") ∈ lw_all := lw_g (lw_at lw_m1 232 rfl) rfl
theorem q314 : (Jvm.Cond.lays "DishLift" "DishLift" "faultKind" "I") ∈ lw_all := lw_g (lw_at lw_m1 233 rfl) rfl
theorem q315 : (Jvm.Cond.soleField "DishLift" "faultKind") ∈ lw_all := lw_g (lw_at lw_m1 234 rfl) rfl
theorem q316 : (Jvm.Cond.laysFinal "DishLift" "DishLift" "house" "LDishLift$House;") ∈ lw_all := lw_g (lw_at lw_m1 235 rfl) rfl
theorem q317 : (Jvm.Cond.soleField "DishLift" "house") ∈ lw_all := lw_g (lw_at lw_m1 236 rfl) rfl
theorem q318 : (Jvm.Cond.laysFinal "DishLift" "DishLift" "trial" "LDishLift$House;") ∈ lw_all := lw_g (lw_at lw_m1 237 rfl) rfl
theorem q319 : (Jvm.Cond.soleField "DishLift" "trial") ∈ lw_all := lw_g (lw_at lw_m1 238 rfl) rfl
theorem q320 : (Jvm.Cond.laysFinal "DishLift" "DishLift" "past" "[LDishLift$House;") ∈ lw_all := lw_g (lw_at lw_m1 239 rfl) rfl
theorem q321 : (Jvm.Cond.soleField "DishLift" "past") ∈ lw_all := lw_g (lw_at lw_m2 0 rfl) rfl
theorem q322 : (Jvm.Cond.lays "DishLift" "DishLift" "acts" "I") ∈ lw_all := lw_g (lw_at lw_m2 1 rfl) rfl
theorem q323 : (Jvm.Cond.soleField "DishLift" "acts") ∈ lw_all := lw_g (lw_at lw_m2 2 rfl) rfl
theorem q324 : (Jvm.Cond.laysFinal "DishLift" "DishLift" "images" "[LDishLift$House;") ∈ lw_all := lw_g (lw_at lw_m2 3 rfl) rfl
theorem q325 : (Jvm.Cond.soleField "DishLift" "images") ∈ lw_all := lw_g (lw_at lw_m2 4 rfl) rfl
theorem q326 : (Jvm.Cond.lays "DishLift" "DishLift" "trail" "LDishLift$Trail;") ∈ lw_all := lw_g (lw_at lw_m2 5 rfl) rfl
theorem q327 : (Jvm.Cond.soleField "DishLift" "trail") ∈ lw_all := lw_g (lw_at lw_m2 6 rfl) rfl
theorem q328 : (Jvm.Cond.lays "DishLift" "DishLift" "status" "I") ∈ lw_all := lw_g (lw_at lw_m2 7 rfl) rfl
theorem q329 : (Jvm.Cond.soleField "DishLift" "status") ∈ lw_all := lw_g (lw_at lw_m2 8 rfl) rfl
theorem q330 : (Jvm.Cond.laysFinal "DishLift" "DishLift" "line" "[I") ∈ lw_all := lw_g (lw_at lw_m2 9 rfl) rfl
theorem q331 : (Jvm.Cond.soleField "DishLift" "line") ∈ lw_all := lw_g (lw_at lw_m2 10 rfl) rfl
theorem q332 : (Jvm.Cond.laysFinal "DishLift" "DishLift" "best" "[I") ∈ lw_all := lw_g (lw_at lw_m2 11 rfl) rfl
theorem q333 : (Jvm.Cond.soleField "DishLift" "best") ∈ lw_all := lw_g (lw_at lw_m2 12 rfl) rfl
theorem q334 : (Jvm.Cond.laysFinal "DishLift" "DishLift" "takens" "[LDishLift$Dish;") ∈ lw_all := lw_g (lw_at lw_m2 13 rfl) rfl
theorem q335 : (Jvm.Cond.soleField "DishLift" "takens") ∈ lw_all := lw_g (lw_at lw_m2 14 rfl) rfl
theorem q336 : (Jvm.Cond.superclass "DishLift" "java/lang/Object") ∈ lw_all := lw_g (lw_at lw_m2 15 rfl) rfl
theorem q338 : (Jvm.Cond.instanceMethod ({ cls := "DishLift", name := "row", desc := "(III)I" } : Jvm.MethodName)) ∈ lw_all := lw_g (lw_at lw_m2 17 rfl) rfl
theorem q339 : (Jvm.Cond.selects "DishLift" ({ cls := "DishLift", name := "row", desc := "(III)I" } : Jvm.MethodName) ({ cls := "DishLift", name := "row", desc := "(III)I" } : Jvm.MethodName)) ∈ lw_all := lw_g (lw_at lw_m2 18 rfl) rfl
theorem q340 : (Jvm.Cond.codeWith ({ cls := "DishLift", name := "row", desc := "(III)I" } : Jvm.MethodName) prog_1_method_10_code (5 : Nat) (Option.some Jvm.ClassFile.FieldType.int) [((28 : Nat), (61 : Nat), (62 : Nat), (74 : Nat))]) ∈ lw_all := lw_g (lw_at lw_m2 19 rfl) rfl
theorem q341 : (Jvm.Cond.classLink "DishLift" (74 : Nat) "DishLift$Finding") ∈ lw_all := lw_g (lw_at lw_m2 20 rfl) rfl
theorem q342 : (Jvm.Cond.methodLink "DishLift" (94 : Nat) ({ cls := "DishLift", name := "isRow", desc := "(I)Z" } : Jvm.MethodName)) ∈ lw_all := lw_g (lw_at lw_m2 21 rfl) rfl
theorem q343 : (Jvm.Cond.static ({ cls := "DishLift", name := "isRow", desc := "(I)Z" } : Jvm.MethodName)) ∈ lw_all := lw_g (lw_at lw_m2 22 rfl) rfl
theorem q344 : (Jvm.Cond.code ({ cls := "DishLift", name := "isRow", desc := "(I)Z" } : Jvm.MethodName) prog_1_method_8_code (1 : Nat) (Option.some Jvm.ClassFile.FieldType.boolean)) ∈ lw_all := lw_g (lw_at lw_m2 23 rfl) rfl
theorem q345 : (Jvm.Cond.constantLong "DishLift" (84 : Nat) (7 : Int64)) ∈ lw_all := lw_g (lw_at lw_m2 24 rfl) rfl
theorem q346 : (Jvm.Cond.methodLink "DishLift" (86 : Nat) ({ cls := "DishLift", name := "isIn", desc := "(JJJ)Z" } : Jvm.MethodName)) ∈ lw_all := lw_g (lw_at lw_m2 25 rfl) rfl
theorem q347 : (Jvm.Cond.static ({ cls := "DishLift", name := "isIn", desc := "(JJJ)Z" } : Jvm.MethodName)) ∈ lw_all := lw_g (lw_at lw_m2 26 rfl) rfl
theorem q348 : (Jvm.Cond.code ({ cls := "DishLift", name := "isIn", desc := "(JJJ)Z" } : Jvm.MethodName) prog_1_method_1_code (6 : Nat) (Option.some Jvm.ClassFile.FieldType.boolean)) ∈ lw_all := lw_g (lw_at lw_m2 27 rfl) rfl
theorem q349 : (Jvm.Cond.constantLong "DishLift" (98 : Nat) (2 : Int64)) ∈ lw_all := lw_g (lw_at lw_m2 28 rfl) rfl
theorem q350 : (Jvm.Cond.constant "DishLift" (100 : Nat) (-1000001 : Int32)) ∈ lw_all := lw_g (lw_at lw_m2 29 rfl) rfl
theorem q351 : (Jvm.Cond.methodLink "DishLift" (90 : Nat) ({ cls := "DishLift", name := "must", desc := "(ZI)V" } : Jvm.MethodName)) ∈ lw_all := lw_g (lw_at lw_m2 30 rfl) rfl
theorem q352 : (Jvm.Cond.static ({ cls := "DishLift", name := "must", desc := "(ZI)V" } : Jvm.MethodName)) ∈ lw_all := lw_g (lw_at lw_m2 31 rfl) rfl
theorem q353 : (Jvm.Cond.code ({ cls := "DishLift", name := "must", desc := "(ZI)V" } : Jvm.MethodName) prog_1_method_7_code (2 : Nat) (Option.none : Option Jvm.ClassFile.FieldType)) ∈ lw_all := lw_g (lw_at lw_m2 32 rfl) rfl
theorem q393 : (Jvm.Cond.methodLink "DishLift" (83 : Nat) ({ cls := "DishLift$Finding", name := "<init>", desc := "(I)V" } : Jvm.MethodName)) ∈ lw_all := lw_g (lw_at lw_m2 72 rfl) rfl
theorem q403 : (Jvm.Cond.fieldLink "DishLift" (73 : Nat) "DishLift$Finding" "number" "I") ∈ lw_all := lw_g (lw_at lw_m2 82 rfl) rfl
theorem q420 : (Jvm.Cond.methodLink "DishLift" (101 : Nat) ({ cls := "DishLift$Row", name := "<init>", desc := "(II)V" } : Jvm.MethodName)) ∈ lw_all := lw_g (lw_at lw_m2 99 rfl) rfl
theorem q425 : (Jvm.Cond.fieldLink "DishLift" (122 : Nat) "DishLift$Row" "lane" "I") ∈ lw_all := lw_g (lw_at lw_m2 104 rfl) rfl
theorem q427 : (Jvm.Cond.fieldLink "DishLift" (116 : Nat) "DishLift$Row" "items" "[I") ∈ lw_all := lw_g (lw_at lw_m2 106 rfl) rfl
theorem q433 : (Jvm.Cond.methodLink "DishLift" (104 : Nat) ({ cls := "DishLift", name := "well", desc := "(I)I" } : Jvm.MethodName)) ∈ lw_all := lw_g (lw_at lw_m2 112 rfl) rfl
theorem q434 : (Jvm.Cond.privateMethod ({ cls := "DishLift", name := "well", desc := "(I)I" } : Jvm.MethodName)) ∈ lw_tbl := lw_at lw_m2 113 rfl
theorem q435 : (Jvm.Cond.instanceMethod ({ cls := "DishLift", name := "well", desc := "(I)I" } : Jvm.MethodName)) ∈ lw_all := lw_g (lw_at lw_m2 114 rfl) rfl
theorem q436 : (Jvm.Cond.code ({ cls := "DishLift", name := "well", desc := "(I)I" } : Jvm.MethodName) prog_1_method_6_code (2 : Nat) (Option.some Jvm.ClassFile.FieldType.int)) ∈ lw_all := lw_g (lw_at lw_m2 115 rfl) rfl
theorem q437 : (Jvm.Cond.methodLink "DishLift" (108 : Nat) ({ cls := "DishLift", name := "found", desc := "(LDishLift$Finding;)I" } : Jvm.MethodName)) ∈ lw_all := lw_g (lw_at lw_m2 116 rfl) rfl
theorem q438 : (Jvm.Cond.privateMethod ({ cls := "DishLift", name := "found", desc := "(LDishLift$Finding;)I" } : Jvm.MethodName)) ∈ lw_tbl := lw_at lw_m2 117 rfl
theorem q439 : (Jvm.Cond.instanceMethod ({ cls := "DishLift", name := "found", desc := "(LDishLift$Finding;)I" } : Jvm.MethodName)) ∈ lw_all := lw_g (lw_at lw_m2 118 rfl) rfl
theorem q440 : (Jvm.Cond.code ({ cls := "DishLift", name := "found", desc := "(LDishLift$Finding;)I" } : Jvm.MethodName) prog_1_method_5_code (2 : Nat) (Option.some Jvm.ClassFile.FieldType.int)) ∈ lw_all := lw_g (lw_at lw_m2 119 rfl) rfl
theorem q441 : (Jvm.Cond.constant "DishLift" (82 : Nat) (-1000010 : Int32)) ∈ lw_all := lw_g (lw_at lw_m2 120 rfl) rfl
theorem q443 : (Jvm.Cond.instanceMethod ({ cls := "DishLift", name := "set", desc := "(III)I" } : Jvm.MethodName)) ∈ lw_all := lw_g (lw_at lw_m2 122 rfl) rfl
theorem q444 : (Jvm.Cond.selects "DishLift" ({ cls := "DishLift", name := "set", desc := "(III)I" } : Jvm.MethodName) ({ cls := "DishLift", name := "set", desc := "(III)I" } : Jvm.MethodName)) ∈ lw_all := lw_g (lw_at lw_m2 123 rfl) rfl
theorem q445 : (Jvm.Cond.codeWith ({ cls := "DishLift", name := "set", desc := "(III)I" } : Jvm.MethodName) prog_1_method_11_code (5 : Nat) (Option.some Jvm.ClassFile.FieldType.int) [((10 : Nat), (60 : Nat), (61 : Nat), (74 : Nat))]) ∈ lw_all := lw_g (lw_at lw_m2 124 rfl) rfl
theorem q446 : (Jvm.Cond.methodLink "DishLift" (112 : Nat) ({ cls := "DishLift", name := "rowAt", desc := "(I)LDishLift$Row;" } : Jvm.MethodName)) ∈ lw_all := lw_g (lw_at lw_m2 125 rfl) rfl
theorem q447 : (Jvm.Cond.privateMethod ({ cls := "DishLift", name := "rowAt", desc := "(I)LDishLift$Row;" } : Jvm.MethodName)) ∈ lw_tbl := lw_at lw_m2 126 rfl
theorem q448 : (Jvm.Cond.instanceMethod ({ cls := "DishLift", name := "rowAt", desc := "(I)LDishLift$Row;" } : Jvm.MethodName)) ∈ lw_all := lw_g (lw_at lw_m2 127 rfl) rfl
theorem q449 : (Jvm.Cond.code ({ cls := "DishLift", name := "rowAt", desc := "(I)LDishLift$Row;" } : Jvm.MethodName) prog_1_method_9_code (2 : Nat) (Option.some (Jvm.ClassFile.FieldType.object "DishLift$Row"))) ∈ lw_all := lw_g (lw_at lw_m2 128 rfl) rfl
theorem q450 : (Jvm.Cond.methodLink "DishLift" (119 : Nat) ({ cls := "DishLift$Row", name := "cut", desc := "(I)I" } : Jvm.MethodName)) ∈ lw_all := lw_g (lw_at lw_m2 129 rfl) rfl
theorem q455 : (Jvm.Cond.instanceMethod ({ cls := "DishLift", name := "copy", desc := "(IIIII)I" } : Jvm.MethodName)) ∈ lw_all := lw_g (lw_at lw_m2 134 rfl) rfl
theorem q456 : (Jvm.Cond.selects "DishLift" ({ cls := "DishLift", name := "copy", desc := "(IIIII)I" } : Jvm.MethodName) ({ cls := "DishLift", name := "copy", desc := "(IIIII)I" } : Jvm.MethodName)) ∈ lw_all := lw_g (lw_at lw_m2 135 rfl) rfl
theorem q457 : (Jvm.Cond.codeWith ({ cls := "DishLift", name := "copy", desc := "(IIIII)I" } : Jvm.MethodName) prog_1_method_12_code (9 : Nat) (Option.some Jvm.ClassFile.FieldType.int) [((53 : Nat), (71 : Nat), (74 : Nat), (131 : Nat)), ((17 : Nat), (91 : Nat), (92 : Nat), (74 : Nat))]) ∈ lw_all := lw_g (lw_at lw_m2 136 rfl) rfl
theorem q458 : (Jvm.Cond.classLink "DishLift" (131 : Nat) "java/lang/IndexOutOfBoundsException") ∈ lw_all := lw_g (lw_at lw_m2 137 rfl) rfl
theorem q492 : (Jvm.Cond.methodLink "DishLift" (125 : Nat) ({ cls := "java/lang/System", name := "arraycopy", desc := "(Ljava/lang/Object;ILjava/lang/Object;II)V" } : Jvm.MethodName)) ∈ lw_all := lw_g (lw_at lw_m2 171 rfl) rfl
theorem q496 : (Jvm.Cond.instanceMethod ({ cls := "DishLift", name := "drop", desc := "(I)I" } : Jvm.MethodName)) ∈ lw_all := lw_g (lw_at lw_m2 175 rfl) rfl
theorem q497 : (Jvm.Cond.selects "DishLift" ({ cls := "DishLift", name := "drop", desc := "(I)I" } : Jvm.MethodName) ({ cls := "DishLift", name := "drop", desc := "(I)I" } : Jvm.MethodName)) ∈ lw_all := lw_g (lw_at lw_m2 176 rfl) rfl
theorem q498 : (Jvm.Cond.codeWith ({ cls := "DishLift", name := "drop", desc := "(I)I" } : Jvm.MethodName) prog_1_method_13_code (3 : Nat) (Option.some Jvm.ClassFile.FieldType.int) [((10 : Nat), (32 : Nat), (33 : Nat), (74 : Nat))]) ∈ lw_all := lw_g (lw_at lw_m2 177 rfl) rfl
theorem q500 : (Jvm.Cond.instanceMethod ({ cls := "DishLift", name := "feed", desc := "(I)I" } : Jvm.MethodName)) ∈ lw_all := lw_g (lw_at lw_m2 179 rfl) rfl
theorem q501 : (Jvm.Cond.selects "DishLift" ({ cls := "DishLift", name := "feed", desc := "(I)I" } : Jvm.MethodName) ({ cls := "DishLift", name := "feed", desc := "(I)I" } : Jvm.MethodName)) ∈ lw_all := lw_g (lw_at lw_m2 180 rfl) rfl
theorem q502 : (Jvm.Cond.code ({ cls := "DishLift", name := "feed", desc := "(I)I" } : Jvm.MethodName) prog_1_method_14_code (2 : Nat) (Option.some Jvm.ClassFile.FieldType.int)) ∈ lw_all := lw_g (lw_at lw_m2 181 rfl) rfl
theorem q503 : (Jvm.Cond.constantLong "DishLift" (133 : Nat) (255 : Int64)) ∈ lw_all := lw_g (lw_at lw_m2 182 rfl) rfl
theorem q504 : (Jvm.Cond.constant "DishLift" (138 : Nat) (-1000003 : Int32)) ∈ lw_all := lw_g (lw_at lw_m2 183 rfl) rfl
theorem q506 : (Jvm.Cond.instanceMethod ({ cls := "DishLift", name := "house", desc := "()I" } : Jvm.MethodName)) ∈ lw_all := lw_g (lw_at lw_m2 185 rfl) rfl
theorem q507 : (Jvm.Cond.selects "DishLift" ({ cls := "DishLift", name := "house", desc := "()I" } : Jvm.MethodName) ({ cls := "DishLift", name := "house", desc := "()I" } : Jvm.MethodName)) ∈ lw_all := lw_g (lw_at lw_m2 186 rfl) rfl
theorem q508 : (Jvm.Cond.codeWith ({ cls := "DishLift", name := "house", desc := "()I" } : Jvm.MethodName) prog_1_method_15_code (3 : Nat) (Option.some Jvm.ClassFile.FieldType.int) [((21 : Nat), (25 : Nat), (28 : Nat), (147 : Nat))]) ∈ lw_all := lw_g (lw_at lw_m2 187 rfl) rfl
theorem q509 : (Jvm.Cond.classLink "DishLift" (147 : Nat) "DishLift$Fault") ∈ lw_all := lw_g (lw_at lw_m2 188 rfl) rfl
theorem q510 : (Jvm.Cond.classLink "DishLift" (139 : Nat) "DishLift$Reader") ∈ lw_all := lw_g (lw_at lw_m2 189 rfl) rfl
theorem q512 : (Jvm.Cond.methodLink "DishLift" (141 : Nat) ({ cls := "DishLift$Reader", name := "<init>", desc := "([BI)V" } : Jvm.MethodName)) ∈ lw_all := lw_g (lw_at lw_m2 191 rfl) rfl
theorem q525 : (Jvm.Cond.fieldLink "DishLift" (159 : Nat) "DishLift$Reader" "made" "LDishLift$House;") ∈ lw_all := lw_g (lw_at lw_m2 204 rfl) rfl
theorem q541 : (Jvm.Cond.methodLink "DishLift" (144 : Nat) ({ cls := "DishLift$Reader", name := "all", desc := "()V" } : Jvm.MethodName)) ∈ lw_all := lw_g (lw_at lw_m2 220 rfl) rfl
theorem q581 : (Jvm.Cond.fieldLink "DishLift" (149 : Nat) "DishLift$Fault" "kind" "I") ∈ lw_all := lw_g (lw_at lw_m3 20 rfl) rfl
theorem q583 : (Jvm.Cond.fieldLink "DishLift" (156 : Nat) "DishLift$Fault" "place" "I") ∈ lw_all := lw_g (lw_at lw_m3 22 rfl) rfl
theorem q681 : (Jvm.Cond.static ({ cls := "DishLift", name := "dishBy", desc := "(II)LDishLift$Dish;" } : Jvm.MethodName)) ∈ lw_all := lw_g (lw_at lw_m3 120 rfl) rfl
theorem q682 : (Jvm.Cond.code ({ cls := "DishLift", name := "dishBy", desc := "(II)LDishLift$Dish;" } : Jvm.MethodName) prog_1_method_3_code (2 : Nat) (Option.some (Jvm.ClassFile.FieldType.object "DishLift$Dish"))) ∈ lw_all := lw_g (lw_at lw_m3 121 rfl) rfl
theorem q720 : (Jvm.Cond.selects "DishLift" ({ cls := "java/lang/Object", name := "getClass", desc := "()Ljava/lang/Class;" } : Jvm.MethodName) ({ cls := "java/lang/Object", name := "getClass", desc := "()Ljava/lang/Class;" } : Jvm.MethodName)) ∈ lw_all := lw_g (lw_at lw_m3 159 rfl) rfl
theorem q749 : (Jvm.Cond.constant "DishLift" (155 : Nat) (-1000100 : Int32)) ∈ lw_all := lw_g (lw_at lw_m3 188 rfl) rfl
theorem q750 : (Jvm.Cond.methodLink "DishLift" (162 : Nat) ({ cls := "DishLift$House", name := "become", desc := "(LDishLift$House;)LDishLift$House;" } : Jvm.MethodName)) ∈ lw_all := lw_g (lw_at lw_m3 189 rfl) rfl
theorem q755 : (Jvm.Cond.methodLink "DishLift" (169 : Nat) ({ cls := "DishLift$House", name := "many", desc := "()I" } : Jvm.MethodName)) ∈ lw_all := lw_g (lw_at lw_m3 194 rfl) rfl
theorem q757 : (Jvm.Cond.instanceMethod ({ cls := "DishLift", name := "fault", desc := "()I" } : Jvm.MethodName)) ∈ lw_all := lw_g (lw_at lw_m3 196 rfl) rfl
theorem q758 : (Jvm.Cond.selects "DishLift" ({ cls := "DishLift", name := "fault", desc := "()I" } : Jvm.MethodName) ({ cls := "DishLift", name := "fault", desc := "()I" } : Jvm.MethodName)) ∈ lw_all := lw_g (lw_at lw_m3 197 rfl) rfl
theorem q759 : (Jvm.Cond.code ({ cls := "DishLift", name := "fault", desc := "()I" } : Jvm.MethodName) prog_1_method_16_code (1 : Nat) (Option.some Jvm.ClassFile.FieldType.int)) ∈ lw_all := lw_g (lw_at lw_m3 198 rfl) rfl
theorem q761 : (Jvm.Cond.instanceMethod ({ cls := "DishLift", name := "undo", desc := "()I" } : Jvm.MethodName)) ∈ lw_all := lw_g (lw_at lw_m3 200 rfl) rfl
theorem q762 : (Jvm.Cond.selects "DishLift" ({ cls := "DishLift", name := "undo", desc := "()I" } : Jvm.MethodName) ({ cls := "DishLift", name := "undo", desc := "()I" } : Jvm.MethodName)) ∈ lw_all := lw_g (lw_at lw_m3 201 rfl) rfl
theorem q763 : (Jvm.Cond.code ({ cls := "DishLift", name := "undo", desc := "()I" } : Jvm.MethodName) prog_1_method_19_code (1 : Nat) (Option.some Jvm.ClassFile.FieldType.int)) ∈ lw_all := lw_g (lw_at lw_m3 202 rfl) rfl
theorem q764 : (Jvm.Cond.constant "DishLift" (173 : Nat) (-1000002 : Int32)) ∈ lw_all := lw_g (lw_at lw_m3 203 rfl) rfl
theorem q766 : (Jvm.Cond.instanceMethod ({ cls := "DishLift", name := "minutes", desc := "(I)I" } : Jvm.MethodName)) ∈ lw_all := lw_g (lw_at lw_m3 205 rfl) rfl
theorem q767 : (Jvm.Cond.selects "DishLift" ({ cls := "DishLift", name := "minutes", desc := "(I)I" } : Jvm.MethodName) ({ cls := "DishLift", name := "minutes", desc := "(I)I" } : Jvm.MethodName)) ∈ lw_all := lw_g (lw_at lw_m3 206 rfl) rfl
theorem q768 : (Jvm.Cond.code ({ cls := "DishLift", name := "minutes", desc := "(I)I" } : Jvm.MethodName) prog_1_method_25_code (3 : Nat) (Option.some Jvm.ClassFile.FieldType.int)) ∈ lw_all := lw_g (lw_at lw_m3 207 rfl) rfl
theorem q769 : (Jvm.Cond.methodLink "DishLift" (181 : Nat) ({ cls := "DishLift", name := "isHouse", desc := "()Z" } : Jvm.MethodName)) ∈ lw_all := lw_g (lw_at lw_m3 208 rfl) rfl
theorem q770 : (Jvm.Cond.privateMethod ({ cls := "DishLift", name := "isHouse", desc := "()Z" } : Jvm.MethodName)) ∈ lw_tbl := lw_at lw_m3 209 rfl
theorem q771 : (Jvm.Cond.instanceMethod ({ cls := "DishLift", name := "isHouse", desc := "()Z" } : Jvm.MethodName)) ∈ lw_all := lw_g (lw_at lw_m3 210 rfl) rfl
theorem q772 : (Jvm.Cond.code ({ cls := "DishLift", name := "isHouse", desc := "()Z" } : Jvm.MethodName) prog_1_method_20_code (1 : Nat) (Option.some Jvm.ClassFile.FieldType.boolean)) ∈ lw_all := lw_g (lw_at lw_m3 211 rfl) rfl
theorem q773 : (Jvm.Cond.constantLong "DishLift" (185 : Nat) (24 : Int64)) ∈ lw_all := lw_g (lw_at lw_m3 212 rfl) rfl
theorem q774 : (Jvm.Cond.methodLink "DishLift" (190 : Nat) ({ cls := "DishLift", name := "keep", desc := "()V" } : Jvm.MethodName)) ∈ lw_all := lw_g (lw_at lw_m3 213 rfl) rfl
theorem q775 : (Jvm.Cond.privateMethod ({ cls := "DishLift", name := "keep", desc := "()V" } : Jvm.MethodName)) ∈ lw_tbl := lw_at lw_m3 214 rfl
theorem q776 : (Jvm.Cond.instanceMethod ({ cls := "DishLift", name := "keep", desc := "()V" } : Jvm.MethodName)) ∈ lw_all := lw_g (lw_at lw_m3 215 rfl) rfl
theorem q777 : (Jvm.Cond.code ({ cls := "DishLift", name := "keep", desc := "()V" } : Jvm.MethodName) prog_1_method_18_code (3 : Nat) (Option.none : Option Jvm.ClassFile.FieldType)) ∈ lw_all := lw_g (lw_at lw_m3 216 rfl) rfl
theorem q778 : (Jvm.Cond.methodLink "DishLift" (193 : Nat) ({ cls := "DishLift$House", name := "pass", desc := "()LDishLift$House;" } : Jvm.MethodName)) ∈ lw_all := lw_g (lw_at lw_m3 217 rfl) rfl
theorem q867 : (Jvm.Cond.methodLink "DishLift" (197 : Nat) ({ cls := "DishLift$House", name := "areSo", desc := "(I)I" } : Jvm.MethodName)) ∈ lw_all := lw_g (lw_at lw_m4 66 rfl) rfl
theorem q869 : (Jvm.Cond.instanceMethod ({ cls := "DishLift", name := "pull", desc := "(I)I" } : Jvm.MethodName)) ∈ lw_all := lw_g (lw_at lw_m4 68 rfl) rfl
theorem q870 : (Jvm.Cond.selects "DishLift" ({ cls := "DishLift", name := "pull", desc := "(I)I" } : Jvm.MethodName) ({ cls := "DishLift", name := "pull", desc := "(I)I" } : Jvm.MethodName)) ∈ lw_all := lw_g (lw_at lw_m4 69 rfl) rfl
theorem q871 : (Jvm.Cond.code ({ cls := "DishLift", name := "pull", desc := "(I)I" } : Jvm.MethodName) prog_1_method_26_code (3 : Nat) (Option.some Jvm.ClassFile.FieldType.int)) ∈ lw_all := lw_g (lw_at lw_m4 70 rfl) rfl
theorem q872 : (Jvm.Cond.methodLink "DishLift" (200 : Nat) ({ cls := "DishLift", name := "isFloor", desc := "(I)Z" } : Jvm.MethodName)) ∈ lw_all := lw_g (lw_at lw_m4 71 rfl) rfl
theorem q873 : (Jvm.Cond.privateMethod ({ cls := "DishLift", name := "isFloor", desc := "(I)Z" } : Jvm.MethodName)) ∈ lw_tbl := lw_at lw_m4 72 rfl
theorem q874 : (Jvm.Cond.instanceMethod ({ cls := "DishLift", name := "isFloor", desc := "(I)Z" } : Jvm.MethodName)) ∈ lw_all := lw_g (lw_at lw_m4 73 rfl) rfl
theorem q875 : (Jvm.Cond.code ({ cls := "DishLift", name := "isFloor", desc := "(I)Z" } : Jvm.MethodName) prog_1_method_22_code (2 : Nat) (Option.some Jvm.ClassFile.FieldType.boolean)) ∈ lw_all := lw_g (lw_at lw_m4 74 rfl) rfl
theorem q877 : (Jvm.Cond.instanceMethod ({ cls := "DishLift", name := "rope", desc := "(I)I" } : Jvm.MethodName)) ∈ lw_all := lw_g (lw_at lw_m4 76 rfl) rfl
theorem q878 : (Jvm.Cond.selects "DishLift" ({ cls := "DishLift", name := "rope", desc := "(I)I" } : Jvm.MethodName) ({ cls := "DishLift", name := "rope", desc := "(I)I" } : Jvm.MethodName)) ∈ lw_all := lw_g (lw_at lw_m4 77 rfl) rfl
theorem q879 : (Jvm.Cond.code ({ cls := "DishLift", name := "rope", desc := "(I)I" } : Jvm.MethodName) prog_1_method_27_code (3 : Nat) (Option.some Jvm.ClassFile.FieldType.int)) ∈ lw_all := lw_g (lw_at lw_m4 78 rfl) rfl
theorem q880 : (Jvm.Cond.constantLong "DishLift" (179 : Nat) (40 : Int64)) ∈ lw_all := lw_g (lw_at lw_m4 79 rfl) rfl
theorem q882 : (Jvm.Cond.instanceMethod ({ cls := "DishLift", name := "room", desc := "(I)I" } : Jvm.MethodName)) ∈ lw_all := lw_g (lw_at lw_m4 81 rfl) rfl
theorem q883 : (Jvm.Cond.selects "DishLift" ({ cls := "DishLift", name := "room", desc := "(I)I" } : Jvm.MethodName) ({ cls := "DishLift", name := "room", desc := "(I)I" } : Jvm.MethodName)) ∈ lw_all := lw_g (lw_at lw_m4 82 rfl) rfl
theorem q884 : (Jvm.Cond.code ({ cls := "DishLift", name := "room", desc := "(I)I" } : Jvm.MethodName) prog_1_method_28_code (3 : Nat) (Option.some Jvm.ClassFile.FieldType.int)) ∈ lw_all := lw_g (lw_at lw_m4 83 rfl) rfl
theorem q885 : (Jvm.Cond.constantLong "DishLift" (209 : Nat) (4 : Int64)) ∈ lw_all := lw_g (lw_at lw_m4 84 rfl) rfl
theorem q887 : (Jvm.Cond.instanceMethod ({ cls := "DishLift", name := "send", desc := "(III)I" } : Jvm.MethodName)) ∈ lw_all := lw_g (lw_at lw_m4 86 rfl) rfl
theorem q888 : (Jvm.Cond.selects "DishLift" ({ cls := "DishLift", name := "send", desc := "(III)I" } : Jvm.MethodName) ({ cls := "DishLift", name := "send", desc := "(III)I" } : Jvm.MethodName)) ∈ lw_all := lw_g (lw_at lw_m4 87 rfl) rfl
theorem q889 : (Jvm.Cond.code ({ cls := "DishLift", name := "send", desc := "(III)I" } : Jvm.MethodName) prog_1_method_29_code (4 : Nat) (Option.some Jvm.ClassFile.FieldType.int)) ∈ lw_all := lw_g (lw_at lw_m4 88 rfl) rfl
theorem q890 : (Jvm.Cond.methodLink "DishLift" (214 : Nat) ({ cls := "DishLift", name := "isDish", desc := "(I)Z" } : Jvm.MethodName)) ∈ lw_all := lw_g (lw_at lw_m4 89 rfl) rfl
theorem q891 : (Jvm.Cond.privateMethod ({ cls := "DishLift", name := "isDish", desc := "(I)Z" } : Jvm.MethodName)) ∈ lw_tbl := lw_at lw_m4 90 rfl
theorem q892 : (Jvm.Cond.instanceMethod ({ cls := "DishLift", name := "isDish", desc := "(I)Z" } : Jvm.MethodName)) ∈ lw_all := lw_g (lw_at lw_m4 91 rfl) rfl
theorem q893 : (Jvm.Cond.code ({ cls := "DishLift", name := "isDish", desc := "(I)Z" } : Jvm.MethodName) prog_1_method_21_code (2 : Nat) (Option.some Jvm.ClassFile.FieldType.boolean)) ∈ lw_all := lw_g (lw_at lw_m4 92 rfl) rfl
theorem q894 : (Jvm.Cond.constantLong "DishLift" (177 : Nat) (60 : Int64)) ∈ lw_all := lw_g (lw_at lw_m4 93 rfl) rfl
theorem q895 : (Jvm.Cond.methodLink "DishLift" (223 : Nat) ({ cls := "DishLift$House", name := "send", desc := "(III)V" } : Jvm.MethodName)) ∈ lw_all := lw_g (lw_at lw_m4 94 rfl) rfl
theorem q900 : (Jvm.Cond.instanceMethod ({ cls := "DishLift", name := "dish", desc := "(II)I" } : Jvm.MethodName)) ∈ lw_all := lw_g (lw_at lw_m4 99 rfl) rfl
theorem q901 : (Jvm.Cond.selects "DishLift" ({ cls := "DishLift", name := "dish", desc := "(II)I" } : Jvm.MethodName) ({ cls := "DishLift", name := "dish", desc := "(II)I" } : Jvm.MethodName)) ∈ lw_all := lw_g (lw_at lw_m4 100 rfl) rfl
theorem q902 : (Jvm.Cond.code ({ cls := "DishLift", name := "dish", desc := "(II)I" } : Jvm.MethodName) prog_1_method_31_code (3 : Nat) (Option.some Jvm.ClassFile.FieldType.int)) ∈ lw_all := lw_g (lw_at lw_m4 101 rfl) rfl
theorem q903 : (Jvm.Cond.methodLink "DishLift" (230 : Nat) ({ cls := "DishLift", name := "whereIn", desc := "(LDishLift$House;I)I" } : Jvm.MethodName)) ∈ lw_all := lw_g (lw_at lw_m4 102 rfl) rfl
theorem q904 : (Jvm.Cond.static ({ cls := "DishLift", name := "whereIn", desc := "(LDishLift$House;I)I" } : Jvm.MethodName)) ∈ lw_all := lw_g (lw_at lw_m4 103 rfl) rfl
theorem q905 : (Jvm.Cond.code ({ cls := "DishLift", name := "whereIn", desc := "(LDishLift$House;I)I" } : Jvm.MethodName) prog_1_method_30_code (2 : Nat) (Option.some Jvm.ClassFile.FieldType.int)) ∈ lw_all := lw_g (lw_at lw_m4 104 rfl) rfl
theorem q906 : (Jvm.Cond.methodLink "DishLift" (240 : Nat) ({ cls := "DishLift$House", name := "dish", desc := "(I)LDishLift$Dish;" } : Jvm.MethodName)) ∈ lw_all := lw_g (lw_at lw_m4 105 rfl) rfl
theorem q907 : (Jvm.Cond.methodLink "DishLift" (244 : Nat) ({ cls := "DishLift$Dish", name := "isGood", desc := "(I)Z" } : Jvm.MethodName)) ∈ lw_all := lw_g (lw_at lw_m4 106 rfl) rfl
theorem q920 : (Jvm.Cond.instanceMethod ({ cls := "DishLift", name := "car", desc := "(I)I" } : Jvm.MethodName)) ∈ lw_all := lw_g (lw_at lw_m4 119 rfl) rfl
theorem q921 : (Jvm.Cond.selects "DishLift" ({ cls := "DishLift", name := "car", desc := "(I)I" } : Jvm.MethodName) ({ cls := "DishLift", name := "car", desc := "(I)I" } : Jvm.MethodName)) ∈ lw_all := lw_g (lw_at lw_m4 120 rfl) rfl
theorem q922 : (Jvm.Cond.code ({ cls := "DishLift", name := "car", desc := "(I)I" } : Jvm.MethodName) prog_1_method_32_code (2 : Nat) (Option.some Jvm.ClassFile.FieldType.int)) ∈ lw_all := lw_g (lw_at lw_m4 121 rfl) rfl
theorem q923 : (Jvm.Cond.methodLink "DishLift" (250 : Nat) ({ cls := "DishLift$House", name := "called", desc := "()I" } : Jvm.MethodName)) ∈ lw_all := lw_g (lw_at lw_m4 122 rfl) rfl
theorem q924 : (Jvm.Cond.methodLink "DishLift" (253 : Nat) ({ cls := "DishLift$House", name := "load", desc := "()I" } : Jvm.MethodName)) ∈ lw_all := lw_g (lw_at lw_m4 123 rfl) rfl
theorem q926 : (Jvm.Cond.instanceMethod ({ cls := "DishLift", name := "ahead", desc := "(III)I" } : Jvm.MethodName)) ∈ lw_all := lw_g (lw_at lw_m4 125 rfl) rfl
theorem q927 : (Jvm.Cond.selects "DishLift" ({ cls := "DishLift", name := "ahead", desc := "(III)I" } : Jvm.MethodName) ({ cls := "DishLift", name := "ahead", desc := "(III)I" } : Jvm.MethodName)) ∈ lw_all := lw_g (lw_at lw_m4 126 rfl) rfl
theorem q928 : (Jvm.Cond.code ({ cls := "DishLift", name := "ahead", desc := "(III)I" } : Jvm.MethodName) prog_1_method_35_code (4 : Nat) (Option.some Jvm.ClassFile.FieldType.int)) ∈ lw_all := lw_g (lw_at lw_m4 127 rfl) rfl
theorem q929 : (Jvm.Cond.methodLink "DishLift" (256 : Nat) ({ cls := "DishLift", name := "isFar", desc := "(I)Z" } : Jvm.MethodName)) ∈ lw_all := lw_g (lw_at lw_m4 128 rfl) rfl
theorem q930 : (Jvm.Cond.static ({ cls := "DishLift", name := "isFar", desc := "(I)Z" } : Jvm.MethodName)) ∈ lw_all := lw_g (lw_at lw_m4 129 rfl) rfl
theorem q931 : (Jvm.Cond.code ({ cls := "DishLift", name := "isFar", desc := "(I)Z" } : Jvm.MethodName) prog_1_method_23_code (1 : Nat) (Option.some Jvm.ClassFile.FieldType.boolean)) ∈ lw_all := lw_g (lw_at lw_m4 130 rfl) rfl
theorem q932 : (Jvm.Cond.methodLink "DishLift" (259 : Nat) ({ cls := "DishLift", name := "tried", desc := "()LDishLift$House;" } : Jvm.MethodName)) ∈ lw_all := lw_g (lw_at lw_m4 131 rfl) rfl
theorem q933 : (Jvm.Cond.privateMethod ({ cls := "DishLift", name := "tried", desc := "()LDishLift$House;" } : Jvm.MethodName)) ∈ lw_tbl := lw_at lw_m4 132 rfl
theorem q934 : (Jvm.Cond.instanceMethod ({ cls := "DishLift", name := "tried", desc := "()LDishLift$House;" } : Jvm.MethodName)) ∈ lw_all := lw_g (lw_at lw_m4 133 rfl) rfl
theorem q935 : (Jvm.Cond.code ({ cls := "DishLift", name := "tried", desc := "()LDishLift$House;" } : Jvm.MethodName) prog_1_method_33_code (1 : Nat) (Option.some (Jvm.ClassFile.FieldType.object "DishLift$House"))) ∈ lw_all := lw_g (lw_at lw_m4 134 rfl) rfl
theorem q936 : (Jvm.Cond.methodLink "DishLift" (262 : Nat) ({ cls := "DishLift", name := "goOn", desc := "(I)LDishLift$House;" } : Jvm.MethodName)) ∈ lw_all := lw_g (lw_at lw_m4 135 rfl) rfl
theorem q937 : (Jvm.Cond.privateMethod ({ cls := "DishLift", name := "goOn", desc := "(I)LDishLift$House;" } : Jvm.MethodName)) ∈ lw_tbl := lw_at lw_m4 136 rfl
theorem q938 : (Jvm.Cond.instanceMethod ({ cls := "DishLift", name := "goOn", desc := "(I)LDishLift$House;" } : Jvm.MethodName)) ∈ lw_all := lw_g (lw_at lw_m4 137 rfl) rfl
theorem q939 : (Jvm.Cond.code ({ cls := "DishLift", name := "goOn", desc := "(I)LDishLift$House;" } : Jvm.MethodName) prog_1_method_34_code (3 : Nat) (Option.some (Jvm.ClassFile.FieldType.object "DishLift$House"))) ∈ lw_all := lw_g (lw_at lw_m4 138 rfl) rfl
theorem q941 : (Jvm.Cond.instanceMethod ({ cls := "DishLift", name := "later", desc := "(I)I" } : Jvm.MethodName)) ∈ lw_all := lw_g (lw_at lw_m4 140 rfl) rfl
theorem q942 : (Jvm.Cond.selects "DishLift" ({ cls := "DishLift", name := "later", desc := "(I)I" } : Jvm.MethodName) ({ cls := "DishLift", name := "later", desc := "(I)I" } : Jvm.MethodName)) ∈ lw_all := lw_g (lw_at lw_m4 141 rfl) rfl
theorem q943 : (Jvm.Cond.code ({ cls := "DishLift", name := "later", desc := "(I)I" } : Jvm.MethodName) prog_1_method_36_code (2 : Nat) (Option.some Jvm.ClassFile.FieldType.int)) ∈ lw_all := lw_g (lw_at lw_m4 142 rfl) rfl
theorem q945 : (Jvm.Cond.instanceMethod ({ cls := "DishLift", name := "when", desc := "(I)I" } : Jvm.MethodName)) ∈ lw_all := lw_g (lw_at lw_m4 144 rfl) rfl
theorem q946 : (Jvm.Cond.selects "DishLift" ({ cls := "DishLift", name := "when", desc := "(I)I" } : Jvm.MethodName) ({ cls := "DishLift", name := "when", desc := "(I)I" } : Jvm.MethodName)) ∈ lw_all := lw_g (lw_at lw_m4 145 rfl) rfl
theorem q947 : (Jvm.Cond.code ({ cls := "DishLift", name := "when", desc := "(I)I" } : Jvm.MethodName) prog_1_method_37_code (3 : Nat) (Option.some Jvm.ClassFile.FieldType.int)) ∈ lw_all := lw_g (lw_at lw_m4 146 rfl) rfl
theorem q948 : (Jvm.Cond.constant "DishLift" (266 : Nat) (-1000000 : Int32)) ∈ lw_all := lw_g (lw_at lw_m4 147 rfl) rfl
theorem q950 : (Jvm.Cond.instanceMethod ({ cls := "DishLift", name := "done", desc := "()I" } : Jvm.MethodName)) ∈ lw_all := lw_g (lw_at lw_m4 149 rfl) rfl
theorem q951 : (Jvm.Cond.selects "DishLift" ({ cls := "DishLift", name := "done", desc := "()I" } : Jvm.MethodName) ({ cls := "DishLift", name := "done", desc := "()I" } : Jvm.MethodName)) ∈ lw_all := lw_g (lw_at lw_m4 150 rfl) rfl
theorem q952 : (Jvm.Cond.code ({ cls := "DishLift", name := "done", desc := "()I" } : Jvm.MethodName) prog_1_method_38_code (2 : Nat) (Option.some Jvm.ClassFile.FieldType.int)) ∈ lw_all := lw_g (lw_at lw_m4 151 rfl) rfl
theorem q953 : (Jvm.Cond.methodLink "DishLift" (267 : Nat) ({ cls := "DishLift$House", name := "isDone", desc := "()Z" } : Jvm.MethodName)) ∈ lw_all := lw_g (lw_at lw_m4 152 rfl) rfl
theorem q958 : (Jvm.Cond.instanceMethod ({ cls := "DishLift", name := "fine", desc := "(I)I" } : Jvm.MethodName)) ∈ lw_all := lw_g (lw_at lw_m4 157 rfl) rfl
theorem q959 : (Jvm.Cond.selects "DishLift" ({ cls := "DishLift", name := "fine", desc := "(I)I" } : Jvm.MethodName) ({ cls := "DishLift", name := "fine", desc := "(I)I" } : Jvm.MethodName)) ∈ lw_all := lw_g (lw_at lw_m4 158 rfl) rfl
theorem q960 : (Jvm.Cond.code ({ cls := "DishLift", name := "fine", desc := "(I)I" } : Jvm.MethodName) prog_1_method_39_code (2 : Nat) (Option.some Jvm.ClassFile.FieldType.int)) ∈ lw_all := lw_g (lw_at lw_m4 159 rfl) rfl
theorem q961 : (Jvm.Cond.methodLink "DishLift" (270 : Nat) ({ cls := "DishLift$House", name := "fine", desc := "()I" } : Jvm.MethodName)) ∈ lw_all := lw_g (lw_at lw_m4 160 rfl) rfl
theorem q967 : (Jvm.Cond.instanceMethod ({ cls := "DishLift", name := "site", desc := "(II)I" } : Jvm.MethodName)) ∈ lw_all := lw_g (lw_at lw_m4 166 rfl) rfl
theorem q968 : (Jvm.Cond.selects "DishLift" ({ cls := "DishLift", name := "site", desc := "(II)I" } : Jvm.MethodName) ({ cls := "DishLift", name := "site", desc := "(II)I" } : Jvm.MethodName)) ∈ lw_all := lw_g (lw_at lw_m4 167 rfl) rfl
theorem q969 : (Jvm.Cond.code ({ cls := "DishLift", name := "site", desc := "(II)I" } : Jvm.MethodName) prog_1_method_40_code (7 : Nat) (Option.some Jvm.ClassFile.FieldType.int)) ∈ lw_all := lw_g (lw_at lw_m4 168 rfl) rfl
theorem q970 : (Jvm.Cond.methodLink "DishLift" (273 : Nat) ({ cls := "DishLift", name := "isNear", desc := "(I)Z" } : Jvm.MethodName)) ∈ lw_all := lw_g (lw_at lw_m4 169 rfl) rfl
theorem q971 : (Jvm.Cond.static ({ cls := "DishLift", name := "isNear", desc := "(I)Z" } : Jvm.MethodName)) ∈ lw_all := lw_g (lw_at lw_m4 170 rfl) rfl
theorem q972 : (Jvm.Cond.code ({ cls := "DishLift", name := "isNear", desc := "(I)Z" } : Jvm.MethodName) prog_1_method_24_code (1 : Nat) (Option.some Jvm.ClassFile.FieldType.boolean)) ∈ lw_all := lw_g (lw_at lw_m4 171 rfl) rfl
theorem q973 : (Jvm.Cond.methodLink "DishLift" (276 : Nat) ({ cls := "DishLift", name := "isHalf", desc := "(I)Z" } : Jvm.MethodName)) ∈ lw_all := lw_g (lw_at lw_m4 172 rfl) rfl
theorem q974 : (Jvm.Cond.static ({ cls := "DishLift", name := "isHalf", desc := "(I)Z" } : Jvm.MethodName)) ∈ lw_all := lw_g (lw_at lw_m4 173 rfl) rfl
theorem q975 : (Jvm.Cond.code ({ cls := "DishLift", name := "isHalf", desc := "(I)Z" } : Jvm.MethodName) prog_1_method_17_code (1 : Nat) (Option.some Jvm.ClassFile.FieldType.boolean)) ∈ lw_all := lw_g (lw_at lw_m4 174 rfl) rfl
theorem q976 : (Jvm.Cond.methodLink "DishLift" (279 : Nat) ({ cls := "java/lang/Integer", name := "bitCount", desc := "(I)I" } : Jvm.MethodName)) ∈ lw_all := lw_g (lw_at lw_m4 175 rfl) rfl
theorem q977 : (Jvm.Cond.methodLink "DishLift" (284 : Nat) ({ cls := "java/lang/Math", name := "max", desc := "(II)I" } : Jvm.MethodName)) ∈ lw_all := lw_g (lw_at lw_m4 176 rfl) rfl
theorem q979 : (Jvm.Cond.instanceMethod ({ cls := "DishLift", name := "need", desc := "(II)I" } : Jvm.MethodName)) ∈ lw_all := lw_g (lw_at lw_m4 178 rfl) rfl
theorem q980 : (Jvm.Cond.selects "DishLift" ({ cls := "DishLift", name := "need", desc := "(II)I" } : Jvm.MethodName) ({ cls := "DishLift", name := "need", desc := "(II)I" } : Jvm.MethodName)) ∈ lw_all := lw_g (lw_at lw_m4 179 rfl) rfl
theorem q981 : (Jvm.Cond.code ({ cls := "DishLift", name := "need", desc := "(II)I" } : Jvm.MethodName) prog_1_method_41_code (4 : Nat) (Option.some Jvm.ClassFile.FieldType.int)) ∈ lw_all := lw_g (lw_at lw_m4 180 rfl) rfl
theorem q983 : (Jvm.Cond.instanceMethod ({ cls := "DishLift", name := "ranks", desc := "(II)I" } : Jvm.MethodName)) ∈ lw_all := lw_g (lw_at lw_m4 182 rfl) rfl
theorem q984 : (Jvm.Cond.selects "DishLift" ({ cls := "DishLift", name := "ranks", desc := "(II)I" } : Jvm.MethodName) ({ cls := "DishLift", name := "ranks", desc := "(II)I" } : Jvm.MethodName)) ∈ lw_all := lw_g (lw_at lw_m4 183 rfl) rfl
theorem q985 : (Jvm.Cond.code ({ cls := "DishLift", name := "ranks", desc := "(II)I" } : Jvm.MethodName) prog_1_method_45_code (6 : Nat) (Option.some Jvm.ClassFile.FieldType.int)) ∈ lw_all := lw_g (lw_at lw_m4 184 rfl) rfl
theorem q986 : (Jvm.Cond.methodLink "DishLift" (296 : Nat) ({ cls := "DishLift", name := "waited", desc := "(I)I" } : Jvm.MethodName)) ∈ lw_all := lw_g (lw_at lw_m4 185 rfl) rfl
theorem q987 : (Jvm.Cond.privateMethod ({ cls := "DishLift", name := "waited", desc := "(I)I" } : Jvm.MethodName)) ∈ lw_tbl := lw_at lw_m4 186 rfl
theorem q988 : (Jvm.Cond.instanceMethod ({ cls := "DishLift", name := "waited", desc := "(I)I" } : Jvm.MethodName)) ∈ lw_all := lw_g (lw_at lw_m4 187 rfl) rfl
theorem q989 : (Jvm.Cond.code ({ cls := "DishLift", name := "waited", desc := "(I)I" } : Jvm.MethodName) prog_1_method_44_code (4 : Nat) (Option.some Jvm.ClassFile.FieldType.int)) ∈ lw_all := lw_g (lw_at lw_m4 188 rfl) rfl
theorem q990 : (Jvm.Cond.methodLink "DishLift" (299 : Nat) ({ cls := "DishLift", name := "isNext", desc := "()Z" } : Jvm.MethodName)) ∈ lw_all := lw_g (lw_at lw_m4 189 rfl) rfl
theorem q991 : (Jvm.Cond.privateMethod ({ cls := "DishLift", name := "isNext", desc := "()Z" } : Jvm.MethodName)) ∈ lw_tbl := lw_at lw_m4 190 rfl
theorem q992 : (Jvm.Cond.instanceMethod ({ cls := "DishLift", name := "isNext", desc := "()Z" } : Jvm.MethodName)) ∈ lw_all := lw_g (lw_at lw_m4 191 rfl) rfl
theorem q993 : (Jvm.Cond.code ({ cls := "DishLift", name := "isNext", desc := "()Z" } : Jvm.MethodName) prog_1_method_42_code (6 : Nat) (Option.some Jvm.ClassFile.FieldType.boolean)) ∈ lw_all := lw_g (lw_at lw_m4 192 rfl) rfl
theorem q994 : (Jvm.Cond.methodLink "DishLift" (290 : Nat) ({ cls := "DishLift", name := "swap", desc := "(II)V" } : Jvm.MethodName)) ∈ lw_all := lw_g (lw_at lw_m4 193 rfl) rfl
theorem q995 : (Jvm.Cond.privateMethod ({ cls := "DishLift", name := "swap", desc := "(II)V" } : Jvm.MethodName)) ∈ lw_tbl := lw_at lw_m4 194 rfl
theorem q996 : (Jvm.Cond.instanceMethod ({ cls := "DishLift", name := "swap", desc := "(II)V" } : Jvm.MethodName)) ∈ lw_all := lw_g (lw_at lw_m4 195 rfl) rfl
theorem q997 : (Jvm.Cond.code ({ cls := "DishLift", name := "swap", desc := "(II)V" } : Jvm.MethodName) prog_1_method_43_code (4 : Nat) (Option.none : Option Jvm.ClassFile.FieldType)) ∈ lw_all := lw_g (lw_at lw_m4 196 rfl) rfl
theorem q999 : (Jvm.Cond.instanceMethod ({ cls := "DishLift", name := "holds", desc := "(I)I" } : Jvm.MethodName)) ∈ lw_all := lw_g (lw_at lw_m4 198 rfl) rfl
theorem q1000 : (Jvm.Cond.selects "DishLift" ({ cls := "DishLift", name := "holds", desc := "(I)I" } : Jvm.MethodName) ({ cls := "DishLift", name := "holds", desc := "(I)I" } : Jvm.MethodName)) ∈ lw_all := lw_g (lw_at lw_m4 199 rfl) rfl
theorem q1001 : (Jvm.Cond.code ({ cls := "DishLift", name := "holds", desc := "(I)I" } : Jvm.MethodName) prog_1_method_47_code (7 : Nat) (Option.some Jvm.ClassFile.FieldType.int)) ∈ lw_all := lw_g (lw_at lw_m4 200 rfl) rfl
theorem q1002 : (Jvm.Cond.methodLink "DishLift" (306 : Nat) ({ cls := "DishLift", name := "weightOf", desc := "(I)I" } : Jvm.MethodName)) ∈ lw_all := lw_g (lw_at lw_m4 201 rfl) rfl
theorem q1003 : (Jvm.Cond.privateMethod ({ cls := "DishLift", name := "weightOf", desc := "(I)I" } : Jvm.MethodName)) ∈ lw_tbl := lw_at lw_m4 202 rfl
theorem q1004 : (Jvm.Cond.instanceMethod ({ cls := "DishLift", name := "weightOf", desc := "(I)I" } : Jvm.MethodName)) ∈ lw_all := lw_g (lw_at lw_m4 203 rfl) rfl
theorem q1005 : (Jvm.Cond.code ({ cls := "DishLift", name := "weightOf", desc := "(I)I" } : Jvm.MethodName) prog_1_method_46_code (4 : Nat) (Option.some Jvm.ClassFile.FieldType.int)) ∈ lw_all := lw_g (lw_at lw_m4 204 rfl) rfl
theorem q1006 : (Jvm.Cond.methodLink "DishLift" (302 : Nat) ({ cls := "DishLift", name := "has", desc := "(II)Z" } : Jvm.MethodName)) ∈ lw_all := lw_g (lw_at lw_m4 205 rfl) rfl
theorem q1007 : (Jvm.Cond.static ({ cls := "DishLift", name := "has", desc := "(II)Z" } : Jvm.MethodName)) ∈ lw_all := lw_g (lw_at lw_m4 206 rfl) rfl
theorem q1008 : (Jvm.Cond.code ({ cls := "DishLift", name := "has", desc := "(II)Z" } : Jvm.MethodName) prog_1_method_2_code (2 : Nat) (Option.some Jvm.ClassFile.FieldType.boolean)) ∈ lw_all := lw_g (lw_at lw_m4 207 rfl) rfl
theorem q1010 : (Jvm.Cond.instanceMethod ({ cls := "DishLift", name := "share", desc := "(II)I" } : Jvm.MethodName)) ∈ lw_all := lw_g (lw_at lw_m4 209 rfl) rfl
theorem q1011 : (Jvm.Cond.selects "DishLift" ({ cls := "DishLift", name := "share", desc := "(II)I" } : Jvm.MethodName) ({ cls := "DishLift", name := "share", desc := "(II)I" } : Jvm.MethodName)) ∈ lw_all := lw_g (lw_at lw_m4 210 rfl) rfl
theorem q1012 : (Jvm.Cond.code ({ cls := "DishLift", name := "share", desc := "(II)I" } : Jvm.MethodName) prog_1_method_49_code (7 : Nat) (Option.some Jvm.ClassFile.FieldType.int)) ∈ lw_all := lw_g (lw_at lw_m4 211 rfl) rfl
theorem q1013 : (Jvm.Cond.constantLong "DishLift" (309 : Nat) (999 : Int64)) ∈ lw_all := lw_g (lw_at lw_m4 212 rfl) rfl
theorem q1014 : (Jvm.Cond.methodLink "DishLift" (311 : Nat) ({ cls := "DishLift", name := "claim", desc := "(I)I" } : Jvm.MethodName)) ∈ lw_all := lw_g (lw_at lw_m4 213 rfl) rfl
theorem q1015 : (Jvm.Cond.privateMethod ({ cls := "DishLift", name := "claim", desc := "(I)I" } : Jvm.MethodName)) ∈ lw_tbl := lw_at lw_m4 214 rfl
theorem q1016 : (Jvm.Cond.instanceMethod ({ cls := "DishLift", name := "claim", desc := "(I)I" } : Jvm.MethodName)) ∈ lw_all := lw_g (lw_at lw_m4 215 rfl) rfl
theorem q1017 : (Jvm.Cond.code ({ cls := "DishLift", name := "claim", desc := "(I)I" } : Jvm.MethodName) prog_1_method_48_code (2 : Nat) (Option.some Jvm.ClassFile.FieldType.int)) ∈ lw_all := lw_g (lw_at lw_m4 216 rfl) rfl
theorem q1019 : (Jvm.Cond.instanceMethod ({ cls := "DishLift", name := "byTurns", desc := "(II)I" } : Jvm.MethodName)) ∈ lw_all := lw_g (lw_at lw_m4 218 rfl) rfl
theorem q1020 : (Jvm.Cond.selects "DishLift" ({ cls := "DishLift", name := "byTurns", desc := "(II)I" } : Jvm.MethodName) ({ cls := "DishLift", name := "byTurns", desc := "(II)I" } : Jvm.MethodName)) ∈ lw_all := lw_g (lw_at lw_m4 219 rfl) rfl
theorem q1021 : (Jvm.Cond.code ({ cls := "DishLift", name := "byTurns", desc := "(II)I" } : Jvm.MethodName) prog_1_method_51_code (3 : Nat) (Option.some Jvm.ClassFile.FieldType.int)) ∈ lw_all := lw_g (lw_at lw_m4 220 rfl) rfl
theorem q1022 : (Jvm.Cond.constantLong "DishLift" (325 : Nat) (20 : Int64)) ∈ lw_all := lw_g (lw_at lw_m4 221 rfl) rfl
theorem q1023 : (Jvm.Cond.methodLink "DishLift" (318 : Nat) ({ cls := "DishLift", name := "turnFrom", desc := "(IIII)I" } : Jvm.MethodName)) ∈ lw_all := lw_g (lw_at lw_m4 222 rfl) rfl
theorem q1024 : (Jvm.Cond.privateMethod ({ cls := "DishLift", name := "turnFrom", desc := "(IIII)I" } : Jvm.MethodName)) ∈ lw_tbl := lw_at lw_m4 223 rfl
theorem q1025 : (Jvm.Cond.instanceMethod ({ cls := "DishLift", name := "turnFrom", desc := "(IIII)I" } : Jvm.MethodName)) ∈ lw_all := lw_g (lw_at lw_m4 224 rfl) rfl
theorem q1026 : (Jvm.Cond.code ({ cls := "DishLift", name := "turnFrom", desc := "(IIII)I" } : Jvm.MethodName) prog_1_method_50_code (8 : Nat) (Option.some Jvm.ClassFile.FieldType.int)) ∈ lw_all := lw_g (lw_at lw_m4 225 rfl) rfl
theorem q1027 : (Jvm.Cond.methodLink "DishLift" (314 : Nat) ({ cls := "DishLift$House", name := "heats", desc := "(Z)I" } : Jvm.MethodName)) ∈ lw_all := lw_g (lw_at lw_m4 226 rfl) rfl
theorem q1031 : (Jvm.Cond.methodLink "DishLift" (322 : Nat) ({ cls := "java/lang/Math", name := "min", desc := "(II)I" } : Jvm.MethodName)) ∈ lw_all := lw_g (lw_at lw_m4 230 rfl) rfl
theorem q1033 : (Jvm.Cond.instanceMethod ({ cls := "DishLift", name := "who", desc := "(IIIII)I" } : Jvm.MethodName)) ∈ lw_all := lw_g (lw_at lw_m4 232 rfl) rfl
theorem q1034 : (Jvm.Cond.selects "DishLift" ({ cls := "DishLift", name := "who", desc := "(IIIII)I" } : Jvm.MethodName) ({ cls := "DishLift", name := "who", desc := "(IIIII)I" } : Jvm.MethodName)) ∈ lw_all := lw_g (lw_at lw_m4 233 rfl) rfl
theorem q1035 : (Jvm.Cond.codeWith ({ cls := "DishLift", name := "who", desc := "(IIIII)I" } : Jvm.MethodName) prog_1_method_57_code (7 : Nat) (Option.some Jvm.ClassFile.FieldType.int) [((38 : Nat), (80 : Nat), (81 : Nat), (74 : Nat))]) ∈ lw_all := lw_g (lw_at lw_m4 234 rfl) rfl
theorem q1036 : (Jvm.Cond.constantLong "DishLift" (343 : Nat) (5 : Int64)) ∈ lw_all := lw_g (lw_at lw_m4 235 rfl) rfl
theorem q1037 : (Jvm.Cond.methodLink "DishLift" (345 : Nat) ({ cls := "DishLift", name := "isTold", desc := "(I)Z" } : Jvm.MethodName)) ∈ lw_all := lw_g (lw_at lw_m4 236 rfl) rfl
theorem q1038 : (Jvm.Cond.static ({ cls := "DishLift", name := "isTold", desc := "(I)Z" } : Jvm.MethodName)) ∈ lw_all := lw_g (lw_at lw_m4 237 rfl) rfl
theorem q1039 : (Jvm.Cond.code ({ cls := "DishLift", name := "isTold", desc := "(I)Z" } : Jvm.MethodName) prog_1_method_52_code (1 : Nat) (Option.some Jvm.ClassFile.FieldType.boolean)) ∈ lw_all := lw_g (lw_at lw_m4 238 rfl) rfl
theorem q1040 : (Jvm.Cond.constantLong "DishLift" (327 : Nat) (12 : Int64)) ∈ lw_all := lw_g (lw_at lw_m4 239 rfl) rfl
theorem q1041 : (Jvm.Cond.methodLink "DishLift" (348 : Nat) ({ cls := "DishLift$Row", name := "row", desc := "(II)[I" } : Jvm.MethodName)) ∈ lw_all := lw_g (lw_at lw_m5 0 rfl) rfl
theorem q1047 : (Jvm.Cond.methodLink "DishLift" (352 : Nat) ({ cls := "DishLift", name := "setOf", desc := "(II[I)I" } : Jvm.MethodName)) ∈ lw_all := lw_g (lw_at lw_m5 6 rfl) rfl
theorem q1048 : (Jvm.Cond.privateMethod ({ cls := "DishLift", name := "setOf", desc := "(II[I)I" } : Jvm.MethodName)) ∈ lw_tbl := lw_at lw_m5 7 rfl
theorem q1049 : (Jvm.Cond.instanceMethod ({ cls := "DishLift", name := "setOf", desc := "(II[I)I" } : Jvm.MethodName)) ∈ lw_all := lw_g (lw_at lw_m5 8 rfl) rfl
theorem q1050 : (Jvm.Cond.code ({ cls := "DishLift", name := "setOf", desc := "(II[I)I" } : Jvm.MethodName) prog_1_method_55_code (6 : Nat) (Option.some Jvm.ClassFile.FieldType.int)) ∈ lw_all := lw_g (lw_at lw_m5 9 rfl) rfl
theorem q1051 : (Jvm.Cond.methodLink "DishLift" (336 : Nat) ({ cls := "DishLift", name := "alters", desc := "(III)V" } : Jvm.MethodName)) ∈ lw_all := lw_g (lw_at lw_m5 10 rfl) rfl
theorem q1052 : (Jvm.Cond.privateMethod ({ cls := "DishLift", name := "alters", desc := "(III)V" } : Jvm.MethodName)) ∈ lw_tbl := lw_at lw_m5 11 rfl
theorem q1053 : (Jvm.Cond.instanceMethod ({ cls := "DishLift", name := "alters", desc := "(III)V" } : Jvm.MethodName)) ∈ lw_all := lw_g (lw_at lw_m5 12 rfl) rfl
theorem q1054 : (Jvm.Cond.code ({ cls := "DishLift", name := "alters", desc := "(III)V" } : Jvm.MethodName) prog_1_method_54_code (4 : Nat) (Option.none : Option Jvm.ClassFile.FieldType)) ∈ lw_all := lw_g (lw_at lw_m5 13 rfl) rfl
theorem q1055 : (Jvm.Cond.methodLink "DishLift" (339 : Nat) ({ cls := "DishLift", name := "isSo", desc := "(I[I)Z" } : Jvm.MethodName)) ∈ lw_all := lw_g (lw_at lw_m5 14 rfl) rfl
theorem q1056 : (Jvm.Cond.privateMethod ({ cls := "DishLift", name := "isSo", desc := "(I[I)Z" } : Jvm.MethodName)) ∈ lw_tbl := lw_at lw_m5 15 rfl
theorem q1057 : (Jvm.Cond.instanceMethod ({ cls := "DishLift", name := "isSo", desc := "(I[I)Z" } : Jvm.MethodName)) ∈ lw_all := lw_g (lw_at lw_m5 16 rfl) rfl
theorem q1058 : (Jvm.Cond.code ({ cls := "DishLift", name := "isSo", desc := "(I[I)Z" } : Jvm.MethodName) prog_1_method_53_code (5 : Nat) (Option.some Jvm.ClassFile.FieldType.boolean)) ∈ lw_all := lw_g (lw_at lw_m5 17 rfl) rfl
theorem q1059 : (Jvm.Cond.methodLink "DishLift" (356 : Nat) ({ cls := "DishLift", name := "numberOf", desc := "(II[I)I" } : Jvm.MethodName)) ∈ lw_all := lw_g (lw_at lw_m5 18 rfl) rfl
theorem q1060 : (Jvm.Cond.privateMethod ({ cls := "DishLift", name := "numberOf", desc := "(II[I)I" } : Jvm.MethodName)) ∈ lw_tbl := lw_at lw_m5 19 rfl
theorem q1061 : (Jvm.Cond.instanceMethod ({ cls := "DishLift", name := "numberOf", desc := "(II[I)I" } : Jvm.MethodName)) ∈ lw_all := lw_g (lw_at lw_m5 20 rfl) rfl
theorem q1062 : (Jvm.Cond.code ({ cls := "DishLift", name := "numberOf", desc := "(II[I)I" } : Jvm.MethodName) prog_1_method_56_code (8 : Nat) (Option.some Jvm.ClassFile.FieldType.int)) ∈ lw_all := lw_g (lw_at lw_m5 21 rfl) rfl
theorem q1064 : (Jvm.Cond.instanceMethod ({ cls := "DishLift", name := "stuck", desc := "(IIII)J" } : Jvm.MethodName)) ∈ lw_all := lw_g (lw_at lw_m5 23 rfl) rfl
theorem q1065 : (Jvm.Cond.selects "DishLift" ({ cls := "DishLift", name := "stuck", desc := "(IIII)J" } : Jvm.MethodName) ({ cls := "DishLift", name := "stuck", desc := "(IIII)J" } : Jvm.MethodName)) ∈ lw_all := lw_g (lw_at lw_m5 24 rfl) rfl
theorem q1066 : (Jvm.Cond.code ({ cls := "DishLift", name := "stuck", desc := "(IIII)J" } : Jvm.MethodName) prog_1_method_59_code (13 : Nat) (Option.some Jvm.ClassFile.FieldType.long)) ∈ lw_all := lw_g (lw_at lw_m5 25 rfl) rfl
theorem q1067 : (Jvm.Cond.constantLong "DishLift" (359 : Nat) (8 : Int64)) ∈ lw_all := lw_g (lw_at lw_m5 26 rfl) rfl
theorem q1068 : (Jvm.Cond.constantLong "DishLift" (361 : Nat) (10 : Int64)) ∈ lw_all := lw_g (lw_at lw_m5 27 rfl) rfl
theorem q1069 : (Jvm.Cond.constantLong "DishLift" (363 : Nat) (-1000001 : Int64)) ∈ lw_all := lw_g (lw_at lw_m5 28 rfl) rfl
theorem q1070 : (Jvm.Cond.methodLink "DishLift" (365 : Nat) ({ cls := "DishLift$House", name := "sticks", desc := "()LDishLift$House;" } : Jvm.MethodName)) ∈ lw_all := lw_g (lw_at lw_m5 29 rfl) rfl
theorem q1074 : (Jvm.Cond.methodLink "DishLift" (368 : Nat) ({ cls := "DishLift", name := "common", desc := "(JJ)J" } : Jvm.MethodName)) ∈ lw_all := lw_g (lw_at lw_m5 33 rfl) rfl
theorem q1075 : (Jvm.Cond.static ({ cls := "DishLift", name := "common", desc := "(JJ)J" } : Jvm.MethodName)) ∈ lw_all := lw_g (lw_at lw_m5 34 rfl) rfl
theorem q1076 : (Jvm.Cond.code ({ cls := "DishLift", name := "common", desc := "(JJ)J" } : Jvm.MethodName) prog_1_method_58_code (10 : Nat) (Option.some Jvm.ClassFile.FieldType.long)) ∈ lw_all := lw_g (lw_at lw_m5 35 rfl) rfl
theorem q1078 : (Jvm.Cond.instanceMethod ({ cls := "DishLift", name := "drawn", desc := "(III)I" } : Jvm.MethodName)) ∈ lw_all := lw_g (lw_at lw_m5 37 rfl) rfl
theorem q1079 : (Jvm.Cond.selects "DishLift" ({ cls := "DishLift", name := "drawn", desc := "(III)I" } : Jvm.MethodName) ({ cls := "DishLift", name := "drawn", desc := "(III)I" } : Jvm.MethodName)) ∈ lw_all := lw_g (lw_at lw_m5 38 rfl) rfl
theorem q1080 : (Jvm.Cond.code ({ cls := "DishLift", name := "drawn", desc := "(III)I" } : Jvm.MethodName) prog_1_method_60_code (11 : Nat) (Option.some Jvm.ClassFile.FieldType.int)) ∈ lw_all := lw_g (lw_at lw_m5 39 rfl) rfl
theorem q1081 : (Jvm.Cond.constantLong "DishLift" (372 : Nat) (999999 : Int64)) ∈ lw_all := lw_g (lw_at lw_m5 40 rfl) rfl
theorem q1082 : (Jvm.Cond.constantLong "DishLift" (374 : Nat) (16807 : Int64)) ∈ lw_all := lw_g (lw_at lw_m5 41 rfl) rfl
theorem q1083 : (Jvm.Cond.constantLong "DishLift" (376 : Nat) (2147483647 : Int64)) ∈ lw_all := lw_g (lw_at lw_m5 42 rfl) rfl
theorem q1084 : (Jvm.Cond.constantLong "DishLift" (378 : Nat) (61 : Int64)) ∈ lw_all := lw_g (lw_at lw_m5 43 rfl) rfl
theorem q1086 : (Jvm.Cond.instanceMethod ({ cls := "DishLift", name := "image", desc := "(I)I" } : Jvm.MethodName)) ∈ lw_all := lw_g (lw_at lw_m5 45 rfl) rfl
theorem q1087 : (Jvm.Cond.selects "DishLift" ({ cls := "DishLift", name := "image", desc := "(I)I" } : Jvm.MethodName) ({ cls := "DishLift", name := "image", desc := "(I)I" } : Jvm.MethodName)) ∈ lw_all := lw_g (lw_at lw_m5 46 rfl) rfl
theorem q1088 : (Jvm.Cond.code ({ cls := "DishLift", name := "image", desc := "(I)I" } : Jvm.MethodName) prog_1_method_61_code (2 : Nat) (Option.some Jvm.ClassFile.FieldType.int)) ∈ lw_all := lw_g (lw_at lw_m5 47 rfl) rfl
theorem q1090 : (Jvm.Cond.instanceMethod ({ cls := "DishLift", name := "restore", desc := "(I)I" } : Jvm.MethodName)) ∈ lw_all := lw_g (lw_at lw_m5 49 rfl) rfl
theorem q1091 : (Jvm.Cond.selects "DishLift" ({ cls := "DishLift", name := "restore", desc := "(I)I" } : Jvm.MethodName) ({ cls := "DishLift", name := "restore", desc := "(I)I" } : Jvm.MethodName)) ∈ lw_all := lw_g (lw_at lw_m5 50 rfl) rfl
theorem q1092 : (Jvm.Cond.code ({ cls := "DishLift", name := "restore", desc := "(I)I" } : Jvm.MethodName) prog_1_method_62_code (2 : Nat) (Option.some Jvm.ClassFile.FieldType.int)) ∈ lw_all := lw_g (lw_at lw_m5 51 rfl) rfl
theorem q1094 : (Jvm.Cond.instanceMethod ({ cls := "DishLift", name := "kind", desc := "(I)I" } : Jvm.MethodName)) ∈ lw_all := lw_g (lw_at lw_m5 53 rfl) rfl
theorem q1095 : (Jvm.Cond.selects "DishLift" ({ cls := "DishLift", name := "kind", desc := "(I)I" } : Jvm.MethodName) ({ cls := "DishLift", name := "kind", desc := "(I)I" } : Jvm.MethodName)) ∈ lw_all := lw_g (lw_at lw_m5 54 rfl) rfl
theorem q1096 : (Jvm.Cond.code ({ cls := "DishLift", name := "kind", desc := "(I)I" } : Jvm.MethodName) prog_1_method_63_code (2 : Nat) (Option.some Jvm.ClassFile.FieldType.int)) ∈ lw_all := lw_g (lw_at lw_m5 55 rfl) rfl
theorem q1097 : (Jvm.Cond.interfaceEntry "DishLift" (384 : Nat)) ∈ lw_tbl := lw_at lw_m5 56 rfl
theorem q1098 : (Jvm.Cond.methodLink "DishLift" (384 : Nat) ({ cls := "java/util/List", name := "get", desc := "(I)Ljava/lang/Object;" } : Jvm.MethodName)) ∈ lw_all := lw_g (lw_at lw_m5 57 rfl) rfl
theorem q1099 : (Jvm.Cond.methodLink "DishLift" (390 : Nat) ({ cls := "DishLift$Dish", name := "kind", desc := "()I" } : Jvm.MethodName)) ∈ lw_all := lw_g (lw_at lw_m5 58 rfl) rfl
theorem q1118 : (Jvm.Cond.instanceMethod ({ cls := "DishLift", name := "as", desc := "(II)I" } : Jvm.MethodName)) ∈ lw_all := lw_g (lw_at lw_m5 77 rfl) rfl
theorem q1119 : (Jvm.Cond.selects "DishLift" ({ cls := "DishLift", name := "as", desc := "(II)I" } : Jvm.MethodName) ({ cls := "DishLift", name := "as", desc := "(II)I" } : Jvm.MethodName)) ∈ lw_all := lw_g (lw_at lw_m5 78 rfl) rfl
theorem q1120 : (Jvm.Cond.codeWith ({ cls := "DishLift", name := "as", desc := "(II)I" } : Jvm.MethodName) prog_1_method_64_code (5 : Nat) (Option.some Jvm.ClassFile.FieldType.int) [((40 : Nat), (111 : Nat), (112 : Nat), (394 : Nat)), ((23 : Nat), (111 : Nat), (123 : Nat), (74 : Nat)), ((112 : Nat), (123 : Nat), (123 : Nat), (74 : Nat))]) ∈ lw_all := lw_g (lw_at lw_m5 79 rfl) rfl
theorem q1121 : (Jvm.Cond.classLink "DishLift" (394 : Nat) "java/lang/ClassCastException") ∈ lw_all := lw_g (lw_at lw_m5 80 rfl) rfl
theorem q1135 : (Jvm.Cond.methodLink "DishLift" (392 : Nat) ({ cls := "DishLift$Dish", name := "number", desc := "()I" } : Jvm.MethodName)) ∈ lw_all := lw_g (lw_at lw_m5 94 rfl) rfl
theorem q1145 : (Jvm.Cond.instanceMethod ({ cls := "DishLift", name := "ask", desc := "(II)I" } : Jvm.MethodName)) ∈ lw_all := lw_g (lw_at lw_m5 104 rfl) rfl
theorem q1146 : (Jvm.Cond.selects "DishLift" ({ cls := "DishLift", name := "ask", desc := "(II)I" } : Jvm.MethodName) ({ cls := "DishLift", name := "ask", desc := "(II)I" } : Jvm.MethodName)) ∈ lw_all := lw_g (lw_at lw_m5 105 rfl) rfl
theorem q1147 : (Jvm.Cond.code ({ cls := "DishLift", name := "ask", desc := "(II)I" } : Jvm.MethodName) prog_1_method_65_code (4 : Nat) (Option.some Jvm.ClassFile.FieldType.int)) ∈ lw_all := lw_g (lw_at lw_m5 106 rfl) rfl
theorem q1148 : (Jvm.Cond.methodLink "DishLift" (396 : Nat) ({ cls := "DishLift$Dish", name := "size", desc := "(LDishLift$Trail;LDishLift$House;)I" } : Jvm.MethodName)) ∈ lw_all := lw_g (lw_at lw_m5 107 rfl) rfl
theorem q1231 : (Jvm.Cond.instanceMethod ({ cls := "DishLift", name := "trace", desc := "(I)I" } : Jvm.MethodName)) ∈ lw_all := lw_g (lw_at lw_m5 190 rfl) rfl
theorem q1232 : (Jvm.Cond.selects "DishLift" ({ cls := "DishLift", name := "trace", desc := "(I)I" } : Jvm.MethodName) ({ cls := "DishLift", name := "trace", desc := "(I)I" } : Jvm.MethodName)) ∈ lw_all := lw_g (lw_at lw_m5 191 rfl) rfl
theorem q1233 : (Jvm.Cond.code ({ cls := "DishLift", name := "trace", desc := "(I)I" } : Jvm.MethodName) prog_1_method_66_code (2 : Nat) (Option.some Jvm.ClassFile.FieldType.int)) ∈ lw_all := lw_g (lw_at lw_m5 192 rfl) rfl
theorem q1235 : (Jvm.Cond.instanceMethod ({ cls := "DishLift", name := "count", desc := "(I)I" } : Jvm.MethodName)) ∈ lw_all := lw_g (lw_at lw_m5 194 rfl) rfl
theorem q1236 : (Jvm.Cond.selects "DishLift" ({ cls := "DishLift", name := "count", desc := "(I)I" } : Jvm.MethodName) ({ cls := "DishLift", name := "count", desc := "(I)I" } : Jvm.MethodName)) ∈ lw_all := lw_g (lw_at lw_m5 195 rfl) rfl
theorem q1237 : (Jvm.Cond.code ({ cls := "DishLift", name := "count", desc := "(I)I" } : Jvm.MethodName) prog_1_method_67_code (4 : Nat) (Option.some Jvm.ClassFile.FieldType.int)) ∈ lw_all := lw_g (lw_at lw_m5 196 rfl) rfl
theorem q1239 : (Jvm.Cond.instanceMethod ({ cls := "DishLift", name := "status", desc := "()I" } : Jvm.MethodName)) ∈ lw_all := lw_g (lw_at lw_m5 198 rfl) rfl
theorem q1240 : (Jvm.Cond.selects "DishLift" ({ cls := "DishLift", name := "status", desc := "()I" } : Jvm.MethodName) ({ cls := "DishLift", name := "status", desc := "()I" } : Jvm.MethodName)) ∈ lw_all := lw_g (lw_at lw_m5 199 rfl) rfl
theorem q1241 : (Jvm.Cond.code ({ cls := "DishLift", name := "status", desc := "()I" } : Jvm.MethodName) prog_1_method_68_code (1 : Nat) (Option.some Jvm.ClassFile.FieldType.int)) ∈ lw_all := lw_g (lw_at lw_m5 200 rfl) rfl
theorem q1703 : (Jvm.Cond.castable "DishLift" "java/lang/Object") ∈ lw_tbl := lw_at lw_m7 182 rfl
theorem in_X0 : ∀ w ∈ wsX00, w ∈ lw_all := lw_in wsX00 [308, 310, 312, 314, 316, 318, 320, 322, 324, 326, 328, 330, 332, 334] (by decide +kernel) (by decide +kernel)

