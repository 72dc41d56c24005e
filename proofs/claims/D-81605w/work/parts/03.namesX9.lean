/-! DishLiftModel -/
set_option maxRecDepth 100000
def RX9 : String := "DishLiftModel"
def TX9 : u_T := fun k => match k with
  | 0 => ("DishLiftModel", "w", "[I", true)
  | 1 => ("DishLiftModel", "undoes", "I", false)
  | 2 => ("DishLiftModel", "tape", "[I", true)
  | 3 => ("DishLiftModel", "taped", "I", false)
  | 4 => ("DishLiftModel", "faulty", "I", false)
  | 5 => ("DishLiftModel", "status", "I", false)
  | 6 => ("DishLiftModel", "many", "[I", true)
  | 7 => ("DishLiftModel", "lane", "[I", true)
  | 8 => ("DishLiftModel", "items", "[I", true)
  | 9 => ("DishLiftModel", "held", "[I", true)
  | 10 => ("DishLiftModel", "at", "I", false)
  | 11 => ("DishLiftModel", "start", "I", false)
  | 12 => ("DishLiftModel", "number", "I", false)
  | 13 => ("DishLiftModel", "order", "[I", true)
  | 14 => ("DishLiftModel", "bestOrder", "[I", true)
  | 15 => ("DishLiftModel", "value", "[I", true)
  | 16 => ("DishLiftModel", "isKept", "[Z", true)
  | 17 => ("DishLiftModel", "trace", "[I", true)
  | _ => ("DishLiftModel", "traced", "I", false)
def tyX9 : Nat → FieldType := fun k => match k with
  | 0 => .array .int
  | 1 => .int
  | 2 => .array .int
  | 3 => .int
  | 4 => .int
  | 5 => .int
  | 6 => .array .int
  | 7 => .array .int
  | 8 => .array .int
  | 9 => .array .int
  | 10 => .int
  | 11 => .int
  | 12 => .int
  | 13 => .array .int
  | 14 => .array .int
  | 15 => .array .int
  | 16 => .array .boolean
  | 17 => .array .int
  | _ => .int
abbrev wsX90 : List Cond := u_ws RX9 TX9 19
set_option maxRecDepth 100000 in
theorem nmX9 : ∀ a, a < 19 → ∀ b, b < 19 → a ≠ b → (TX9 a).2.1 ≠ (TX9 b).2.1 := by decide +kernel
set_option maxRecDepth 100000 in
theorem tyX9_ok : ∀ k, k < 19 → parseFieldDescriptor (TX9 k).2.2.1 = some (tyX9 k) := by decide +kernel
abbrev cX9_init : ByteArray := prog_16_method_1_code
def yX9_init : MethodName := ⟨RX9, "<init>", "()V"⟩
def dkwX9_init_4 : List UInt8 := [27, 16, 8, 162, 0, 16, 42, 180, 0, 16, 27, 2, 79, 132, 1, 1, 167, 255, 240, 177]
abbrev dktX9_init_4 : List UInt8 := dkwX9_init_4 ++ []
def dkwX9_init_3 : List UInt8 := [16, 45, 188, 10, 181, 0, 34, 42, 5, 188, 4, 181, 0, 37, 42, 16, 16, 188, 10, 181, 0, 41, 3, 60]
abbrev dktX9_init_3 : List UInt8 := dkwX9_init_3 ++ dktX9_init_4
def dkwX9_init_2 : List UInt8 := [16, 40, 188, 10, 181, 0, 25, 42, 16, 7, 188, 10, 181, 0, 28, 42, 16, 6, 188, 10, 181, 0, 31, 42]
abbrev dktX9_init_2 : List UInt8 := dkwX9_init_2 ++ dktX9_init_3
def dkwX9_init_1 : List UInt8 := [188, 10, 181, 0, 16, 42, 16, 8, 188, 10, 181, 0, 19, 42, 17, 1, 64, 188, 10, 181, 0, 22, 42]
abbrev dktX9_init_1 : List UInt8 := dkwX9_init_1 ++ dktX9_init_2
def dkwX9_init_0 : List UInt8 := [42, 183, 0, 1, 42, 17, 4, 223, 188, 10, 181, 0, 7, 42, 16, 110, 188, 10, 181, 0, 13, 42, 16, 8]
abbrev dktX9_init_0 : List UInt8 := dkwX9_init_0 ++ dktX9_init_1
theorem dksX9_init_0 : cX9_init.data.toList.drop 0 = dktX9_init_0 := by decide +kernel
theorem dksX9_init_1 : cX9_init.data.toList.drop 24 = dktX9_init_1 := dk_seg dksX9_init_0 24 rfl rfl
theorem dksX9_init_2 : cX9_init.data.toList.drop 47 = dktX9_init_2 := dk_seg dksX9_init_1 23 rfl rfl
theorem dksX9_init_3 : cX9_init.data.toList.drop 71 = dktX9_init_3 := dk_seg dksX9_init_2 24 rfl rfl
theorem dksX9_init_4 : cX9_init.data.toList.drop 95 = dktX9_init_4 := dk_seg dksX9_init_3 24 rfl rfl
theorem dX9_init_0 : decode cX9_init 0 = .ok (.aload_n 0, 1) := dk_42 (dk_at dksX9_init_0 0 rfl rfl)
theorem dX9_init_1 : decode cX9_init 1 = .ok (.invokespecial 1, 3) := dk_183 0 1 (dk_at dksX9_init_0 1 rfl rfl)
theorem dX9_init_4 : decode cX9_init 4 = .ok (.aload_n 0, 1) := dk_42 (dk_at dksX9_init_0 4 rfl rfl)
theorem dX9_init_5 : decode cX9_init 5 = .ok (.sipush 1247, 3) := dk_17 4 223 (dk_at dksX9_init_0 5 rfl rfl)
theorem dX9_init_8 : decode cX9_init 8 = .ok (.newarray .int, 2) := dk_188_10 (dk_at dksX9_init_0 8 rfl rfl)
theorem dX9_init_10 : decode cX9_init 10 = .ok (.putfield 7, 3) := dk_181 0 7 (dk_at dksX9_init_0 10 rfl rfl)
theorem dX9_init_13 : decode cX9_init 13 = .ok (.aload_n 0, 1) := dk_42 (dk_at dksX9_init_0 13 rfl rfl)
theorem dX9_init_14 : decode cX9_init 14 = .ok (.bipush 110, 2) := dk_16 110 (dk_at dksX9_init_0 14 rfl rfl)
theorem dX9_init_16 : decode cX9_init 16 = .ok (.newarray .int, 2) := dk_188_10 (dk_at dksX9_init_0 16 rfl rfl)
theorem dX9_init_18 : decode cX9_init 18 = .ok (.putfield 13, 3) := dk_181 0 13 (dk_at dksX9_init_0 18 rfl rfl)
theorem dX9_init_21 : decode cX9_init 21 = .ok (.aload_n 0, 1) := dk_42 (dk_at dksX9_init_0 21 rfl rfl)
theorem dX9_init_22 : decode cX9_init 22 = .ok (.bipush 8, 2) := dk_16 8 (dk_at dksX9_init_0 22 rfl rfl)
theorem dX9_init_24 : decode cX9_init 24 = .ok (.newarray .int, 2) := dk_188_10 (dk_at dksX9_init_1 0 rfl rfl)
theorem dX9_init_26 : decode cX9_init 26 = .ok (.putfield 16, 3) := dk_181 0 16 (dk_at dksX9_init_1 2 rfl rfl)
theorem dX9_init_29 : decode cX9_init 29 = .ok (.aload_n 0, 1) := dk_42 (dk_at dksX9_init_1 5 rfl rfl)
theorem dX9_init_30 : decode cX9_init 30 = .ok (.bipush 8, 2) := dk_16 8 (dk_at dksX9_init_1 6 rfl rfl)
theorem dX9_init_32 : decode cX9_init 32 = .ok (.newarray .int, 2) := dk_188_10 (dk_at dksX9_init_1 8 rfl rfl)
theorem dX9_init_34 : decode cX9_init 34 = .ok (.putfield 19, 3) := dk_181 0 19 (dk_at dksX9_init_1 10 rfl rfl)
theorem dX9_init_37 : decode cX9_init 37 = .ok (.aload_n 0, 1) := dk_42 (dk_at dksX9_init_1 13 rfl rfl)
theorem dX9_init_38 : decode cX9_init 38 = .ok (.sipush 320, 3) := dk_17 1 64 (dk_at dksX9_init_1 14 rfl rfl)
theorem dX9_init_41 : decode cX9_init 41 = .ok (.newarray .int, 2) := dk_188_10 (dk_at dksX9_init_1 17 rfl rfl)
theorem dX9_init_43 : decode cX9_init 43 = .ok (.putfield 22, 3) := dk_181 0 22 (dk_at dksX9_init_1 19 rfl rfl)
theorem dX9_init_46 : decode cX9_init 46 = .ok (.aload_n 0, 1) := dk_42 (dk_at dksX9_init_1 22 rfl rfl)
theorem dX9_init_47 : decode cX9_init 47 = .ok (.bipush 40, 2) := dk_16 40 (dk_at dksX9_init_2 0 rfl rfl)
theorem dX9_init_49 : decode cX9_init 49 = .ok (.newarray .int, 2) := dk_188_10 (dk_at dksX9_init_2 2 rfl rfl)
theorem dX9_init_51 : decode cX9_init 51 = .ok (.putfield 25, 3) := dk_181 0 25 (dk_at dksX9_init_2 4 rfl rfl)
theorem dX9_init_54 : decode cX9_init 54 = .ok (.aload_n 0, 1) := dk_42 (dk_at dksX9_init_2 7 rfl rfl)
theorem dX9_init_55 : decode cX9_init 55 = .ok (.bipush 7, 2) := dk_16 7 (dk_at dksX9_init_2 8 rfl rfl)
theorem dX9_init_57 : decode cX9_init 57 = .ok (.newarray .int, 2) := dk_188_10 (dk_at dksX9_init_2 10 rfl rfl)
theorem dX9_init_59 : decode cX9_init 59 = .ok (.putfield 28, 3) := dk_181 0 28 (dk_at dksX9_init_2 12 rfl rfl)
theorem dX9_init_62 : decode cX9_init 62 = .ok (.aload_n 0, 1) := dk_42 (dk_at dksX9_init_2 15 rfl rfl)
theorem dX9_init_63 : decode cX9_init 63 = .ok (.bipush 6, 2) := dk_16 6 (dk_at dksX9_init_2 16 rfl rfl)
theorem dX9_init_65 : decode cX9_init 65 = .ok (.newarray .int, 2) := dk_188_10 (dk_at dksX9_init_2 18 rfl rfl)
theorem dX9_init_67 : decode cX9_init 67 = .ok (.putfield 31, 3) := dk_181 0 31 (dk_at dksX9_init_2 20 rfl rfl)
theorem dX9_init_70 : decode cX9_init 70 = .ok (.aload_n 0, 1) := dk_42 (dk_at dksX9_init_2 23 rfl rfl)
theorem dX9_init_71 : decode cX9_init 71 = .ok (.bipush 45, 2) := dk_16 45 (dk_at dksX9_init_3 0 rfl rfl)
theorem dX9_init_73 : decode cX9_init 73 = .ok (.newarray .int, 2) := dk_188_10 (dk_at dksX9_init_3 2 rfl rfl)
theorem dX9_init_75 : decode cX9_init 75 = .ok (.putfield 34, 3) := dk_181 0 34 (dk_at dksX9_init_3 4 rfl rfl)
theorem dX9_init_78 : decode cX9_init 78 = .ok (.aload_n 0, 1) := dk_42 (dk_at dksX9_init_3 7 rfl rfl)
theorem dX9_init_79 : decode cX9_init 79 = .ok (.iconst 2, 1) := dk_5 (dk_at dksX9_init_3 8 rfl rfl)
theorem dX9_init_80 : decode cX9_init 80 = .ok (.newarray .boolean, 2) := dk_188_4 (dk_at dksX9_init_3 9 rfl rfl)
theorem dX9_init_82 : decode cX9_init 82 = .ok (.putfield 37, 3) := dk_181 0 37 (dk_at dksX9_init_3 11 rfl rfl)
theorem dX9_init_85 : decode cX9_init 85 = .ok (.aload_n 0, 1) := dk_42 (dk_at dksX9_init_3 14 rfl rfl)
theorem dX9_init_86 : decode cX9_init 86 = .ok (.bipush 16, 2) := dk_16 16 (dk_at dksX9_init_3 15 rfl rfl)
theorem dX9_init_88 : decode cX9_init 88 = .ok (.newarray .int, 2) := dk_188_10 (dk_at dksX9_init_3 17 rfl rfl)
theorem dX9_init_90 : decode cX9_init 90 = .ok (.putfield 41, 3) := dk_181 0 41 (dk_at dksX9_init_3 19 rfl rfl)
theorem dX9_init_93 : decode cX9_init 93 = .ok (.iconst 0, 1) := dk_3 (dk_at dksX9_init_3 22 rfl rfl)
theorem dX9_init_94 : decode cX9_init 94 = .ok (.istore_n 1, 1) := dk_60 (dk_at dksX9_init_3 23 rfl rfl)
theorem dX9_init_95 : decode cX9_init 95 = .ok (.iload_n 1, 1) := dk_27 (dk_at dksX9_init_4 0 rfl rfl)
theorem dX9_init_96 : decode cX9_init 96 = .ok (.bipush 8, 2) := dk_16 8 (dk_at dksX9_init_4 1 rfl rfl)
theorem dX9_init_98 : decode cX9_init 98 = .ok (.if_icmp .ge 16, 3) := dk_162 0 16 (dk_at dksX9_init_4 3 rfl rfl)
theorem dX9_init_101 : decode cX9_init 101 = .ok (.aload_n 0, 1) := dk_42 (dk_at dksX9_init_4 6 rfl rfl)
theorem dX9_init_102 : decode cX9_init 102 = .ok (.getfield 16, 3) := dk_180 0 16 (dk_at dksX9_init_4 7 rfl rfl)
theorem dX9_init_105 : decode cX9_init 105 = .ok (.iload_n 1, 1) := dk_27 (dk_at dksX9_init_4 10 rfl rfl)
theorem dX9_init_106 : decode cX9_init 106 = .ok (.iconst (-1), 1) := dk_2 (dk_at dksX9_init_4 11 rfl rfl)
theorem dX9_init_107 : decode cX9_init 107 = .ok (.iastore, 1) := dk_79 (dk_at dksX9_init_4 12 rfl rfl)
theorem dX9_init_108 : decode cX9_init 108 = .ok (.iinc 1 1, 3) := dk_132 1 1 (dk_at dksX9_init_4 13 rfl rfl)
theorem dX9_init_111 : decode cX9_init 111 = .ok (.goto (-16), 3) := dk_167 255 240 (dk_at dksX9_init_4 16 rfl rfl)
theorem dX9_init_114 : decode cX9_init 114 = .ok (.return_, 1) := dk_177 (dk_at dksX9_init_4 19 rfl rfl)
abbrev cX9_row : ByteArray := prog_16_method_13_code
def yX9_row : MethodName := ⟨RX9, "row", "(III)I"⟩
def dkwX9_row_3 : List UInt8 := [180, 0, 22, 16, 40, 27, 104, 21, 4, 96, 3, 79, 132, 4, 1, 167, 255, 233, 29, 172]
abbrev dktX9_row_3 : List UInt8 := dkwX9_row_3 ++ []
def dkwX9_row_2 : List UInt8 := [180, 0, 16, 27, 29, 79, 42, 180, 0, 19, 27, 28, 79, 3, 54, 4, 21, 4, 16, 40, 162, 0, 22, 42]
abbrev dktX9_row_2 : List UInt8 := dkwX9_row_2 ++ dktX9_row_3
def dkwX9_row_1 : List UInt8 := [164, 0, 6, 18, 61, 172, 29, 156, 0, 9, 42, 7, 182, 0, 62, 172, 42, 3, 181, 0, 50, 42]
abbrev dktX9_row_1 : List UInt8 := dkwX9_row_1 ++ dktX9_row_2
def dkwX9_row_0 : List UInt8 := [27, 184, 0, 55, 153, 0, 21, 28, 133, 9, 20, 0, 59, 184, 0, 44, 153, 0, 9, 29, 16, 40]
abbrev dktX9_row_0 : List UInt8 := dkwX9_row_0 ++ dktX9_row_1
theorem dksX9_row_0 : cX9_row.data.toList.drop 0 = dktX9_row_0 := by decide +kernel
theorem dksX9_row_1 : cX9_row.data.toList.drop 22 = dktX9_row_1 := dk_seg dksX9_row_0 22 rfl rfl
theorem dksX9_row_2 : cX9_row.data.toList.drop 44 = dktX9_row_2 := dk_seg dksX9_row_1 22 rfl rfl
theorem dksX9_row_3 : cX9_row.data.toList.drop 68 = dktX9_row_3 := dk_seg dksX9_row_2 24 rfl rfl
theorem dX9_row_0 : decode cX9_row 0 = .ok (.iload_n 1, 1) := dk_27 (dk_at dksX9_row_0 0 rfl rfl)
theorem dX9_row_1 : decode cX9_row 1 = .ok (.invokestatic 55, 3) := dk_184 0 55 (dk_at dksX9_row_0 1 rfl rfl)
theorem dX9_row_4 : decode cX9_row 4 = .ok (.ifCond .eq 21, 3) := dk_153 0 21 (dk_at dksX9_row_0 4 rfl rfl)
theorem dX9_row_7 : decode cX9_row 7 = .ok (.iload_n 2, 1) := dk_28 (dk_at dksX9_row_0 7 rfl rfl)
theorem dX9_row_8 : decode cX9_row 8 = .ok (.i2l, 1) := dk_133 (dk_at dksX9_row_0 8 rfl rfl)
theorem dX9_row_9 : decode cX9_row 9 = .ok (.lconst 0, 1) := dk_9 (dk_at dksX9_row_0 9 rfl rfl)
theorem dX9_row_10 : decode cX9_row 10 = .ok (.ldc2_w 59, 3) := dk_20 0 59 (dk_at dksX9_row_0 10 rfl rfl)
theorem dX9_row_13 : decode cX9_row 13 = .ok (.invokestatic 44, 3) := dk_184 0 44 (dk_at dksX9_row_0 13 rfl rfl)
theorem dX9_row_16 : decode cX9_row 16 = .ok (.ifCond .eq 9, 3) := dk_153 0 9 (dk_at dksX9_row_0 16 rfl rfl)
theorem dX9_row_19 : decode cX9_row 19 = .ok (.iload_n 3, 1) := dk_29 (dk_at dksX9_row_0 19 rfl rfl)
theorem dX9_row_20 : decode cX9_row 20 = .ok (.bipush 40, 2) := dk_16 40 (dk_at dksX9_row_0 20 rfl rfl)
theorem dX9_row_22 : decode cX9_row 22 = .ok (.if_icmp .le 6, 3) := dk_164 0 6 (dk_at dksX9_row_1 0 rfl rfl)
theorem dX9_row_25 : decode cX9_row 25 = .ok (.ldc 61, 2) := dk_18 61 (dk_at dksX9_row_1 3 rfl rfl)
theorem dX9_row_27 : decode cX9_row 27 = .ok (.ireturn, 1) := dk_172 (dk_at dksX9_row_1 5 rfl rfl)
theorem dX9_row_28 : decode cX9_row 28 = .ok (.iload_n 3, 1) := dk_29 (dk_at dksX9_row_1 6 rfl rfl)
theorem dX9_row_29 : decode cX9_row 29 = .ok (.ifCond .ge 9, 3) := dk_156 0 9 (dk_at dksX9_row_1 7 rfl rfl)
theorem dX9_row_32 : decode cX9_row 32 = .ok (.aload_n 0, 1) := dk_42 (dk_at dksX9_row_1 10 rfl rfl)
theorem dX9_row_33 : decode cX9_row 33 = .ok (.iconst 4, 1) := dk_7 (dk_at dksX9_row_1 11 rfl rfl)
theorem dX9_row_34 : decode cX9_row 34 = .ok (.invokevirtual 62, 3) := dk_182 0 62 (dk_at dksX9_row_1 12 rfl rfl)
theorem dX9_row_37 : decode cX9_row 37 = .ok (.ireturn, 1) := dk_172 (dk_at dksX9_row_1 15 rfl rfl)
theorem dX9_row_38 : decode cX9_row 38 = .ok (.aload_n 0, 1) := dk_42 (dk_at dksX9_row_1 16 rfl rfl)
theorem dX9_row_39 : decode cX9_row 39 = .ok (.iconst 0, 1) := dk_3 (dk_at dksX9_row_1 17 rfl rfl)
theorem dX9_row_40 : decode cX9_row 40 = .ok (.putfield 50, 3) := dk_181 0 50 (dk_at dksX9_row_1 18 rfl rfl)
theorem dX9_row_43 : decode cX9_row 43 = .ok (.aload_n 0, 1) := dk_42 (dk_at dksX9_row_1 21 rfl rfl)
theorem dX9_row_44 : decode cX9_row 44 = .ok (.getfield 16, 3) := dk_180 0 16 (dk_at dksX9_row_2 0 rfl rfl)
theorem dX9_row_47 : decode cX9_row 47 = .ok (.iload_n 1, 1) := dk_27 (dk_at dksX9_row_2 3 rfl rfl)
theorem dX9_row_48 : decode cX9_row 48 = .ok (.iload_n 3, 1) := dk_29 (dk_at dksX9_row_2 4 rfl rfl)
theorem dX9_row_49 : decode cX9_row 49 = .ok (.iastore, 1) := dk_79 (dk_at dksX9_row_2 5 rfl rfl)
theorem dX9_row_50 : decode cX9_row 50 = .ok (.aload_n 0, 1) := dk_42 (dk_at dksX9_row_2 6 rfl rfl)
theorem dX9_row_51 : decode cX9_row 51 = .ok (.getfield 19, 3) := dk_180 0 19 (dk_at dksX9_row_2 7 rfl rfl)
theorem dX9_row_54 : decode cX9_row 54 = .ok (.iload_n 1, 1) := dk_27 (dk_at dksX9_row_2 10 rfl rfl)
theorem dX9_row_55 : decode cX9_row 55 = .ok (.iload_n 2, 1) := dk_28 (dk_at dksX9_row_2 11 rfl rfl)
theorem dX9_row_56 : decode cX9_row 56 = .ok (.iastore, 1) := dk_79 (dk_at dksX9_row_2 12 rfl rfl)
theorem dX9_row_57 : decode cX9_row 57 = .ok (.iconst 0, 1) := dk_3 (dk_at dksX9_row_2 13 rfl rfl)
theorem dX9_row_58 : decode cX9_row 58 = .ok (.istore 4, 2) := dk_54 4 (dk_at dksX9_row_2 14 rfl rfl)
theorem dX9_row_60 : decode cX9_row 60 = .ok (.iload 4, 2) := dk_21 4 (dk_at dksX9_row_2 16 rfl rfl)
theorem dX9_row_62 : decode cX9_row 62 = .ok (.bipush 40, 2) := dk_16 40 (dk_at dksX9_row_2 18 rfl rfl)
theorem dX9_row_64 : decode cX9_row 64 = .ok (.if_icmp .ge 22, 3) := dk_162 0 22 (dk_at dksX9_row_2 20 rfl rfl)
theorem dX9_row_67 : decode cX9_row 67 = .ok (.aload_n 0, 1) := dk_42 (dk_at dksX9_row_2 23 rfl rfl)
theorem dX9_row_68 : decode cX9_row 68 = .ok (.getfield 22, 3) := dk_180 0 22 (dk_at dksX9_row_3 0 rfl rfl)
theorem dX9_row_71 : decode cX9_row 71 = .ok (.bipush 40, 2) := dk_16 40 (dk_at dksX9_row_3 3 rfl rfl)
theorem dX9_row_73 : decode cX9_row 73 = .ok (.iload_n 1, 1) := dk_27 (dk_at dksX9_row_3 5 rfl rfl)
theorem dX9_row_74 : decode cX9_row 74 = .ok (.imul, 1) := dk_104 (dk_at dksX9_row_3 6 rfl rfl)
theorem dX9_row_75 : decode cX9_row 75 = .ok (.iload 4, 2) := dk_21 4 (dk_at dksX9_row_3 7 rfl rfl)
theorem dX9_row_77 : decode cX9_row 77 = .ok (.iadd, 1) := dk_96 (dk_at dksX9_row_3 9 rfl rfl)
theorem dX9_row_78 : decode cX9_row 78 = .ok (.iconst 0, 1) := dk_3 (dk_at dksX9_row_3 10 rfl rfl)
theorem dX9_row_79 : decode cX9_row 79 = .ok (.iastore, 1) := dk_79 (dk_at dksX9_row_3 11 rfl rfl)
theorem dX9_row_80 : decode cX9_row 80 = .ok (.iinc 4 1, 3) := dk_132 4 1 (dk_at dksX9_row_3 12 rfl rfl)
theorem dX9_row_83 : decode cX9_row 83 = .ok (.goto (-23), 3) := dk_167 255 233 (dk_at dksX9_row_3 15 rfl rfl)
theorem dX9_row_86 : decode cX9_row 86 = .ok (.iload_n 3, 1) := dk_29 (dk_at dksX9_row_3 18 rfl rfl)
theorem dX9_row_87 : decode cX9_row 87 = .ok (.ireturn, 1) := dk_172 (dk_at dksX9_row_3 19 rfl rfl)
abbrev cX9_isRow : ByteArray := prog_16_method_10_code
def yX9_isRow : MethodName := ⟨RX9, "isRow", "(I)Z"⟩
def dkwX9_isRow_0 : List UInt8 := [26, 133, 9, 20, 0, 48, 184, 0, 44, 172]
abbrev dktX9_isRow_0 : List UInt8 := dkwX9_isRow_0 ++ []
theorem dksX9_isRow_0 : cX9_isRow.data.toList.drop 0 = dktX9_isRow_0 := by decide +kernel
theorem dX9_isRow_0 : decode cX9_isRow 0 = .ok (.iload_n 0, 1) := dk_26 (dk_at dksX9_isRow_0 0 rfl rfl)
theorem dX9_isRow_1 : decode cX9_isRow 1 = .ok (.i2l, 1) := dk_133 (dk_at dksX9_isRow_0 1 rfl rfl)
theorem dX9_isRow_2 : decode cX9_isRow 2 = .ok (.lconst 0, 1) := dk_9 (dk_at dksX9_isRow_0 2 rfl rfl)
theorem dX9_isRow_3 : decode cX9_isRow 3 = .ok (.ldc2_w 48, 3) := dk_20 0 48 (dk_at dksX9_isRow_0 3 rfl rfl)
theorem dX9_isRow_6 : decode cX9_isRow 6 = .ok (.invokestatic 44, 3) := dk_184 0 44 (dk_at dksX9_isRow_0 6 rfl rfl)
theorem dX9_isRow_9 : decode cX9_isRow 9 = .ok (.ireturn, 1) := dk_172 (dk_at dksX9_isRow_0 9 rfl rfl)
abbrev cX9_in : ByteArray := prog_16_method_3_code
def yX9_in : MethodName := ⟨RX9, "in", "(JJJ)Z"⟩
def dkwX9_in_0 : List UInt8 := [30, 32, 148, 155, 0, 14, 30, 22, 4, 148, 157, 0, 7, 4, 167, 0, 4, 3, 172]
abbrev dktX9_in_0 : List UInt8 := dkwX9_in_0 ++ []
theorem dksX9_in_0 : cX9_in.data.toList.drop 0 = dktX9_in_0 := by decide +kernel
theorem dX9_in_0 : decode cX9_in 0 = .ok (.lload_n 0, 1) := dk_30 (dk_at dksX9_in_0 0 rfl rfl)
theorem dX9_in_1 : decode cX9_in 1 = .ok (.lload_n 2, 1) := dk_32 (dk_at dksX9_in_0 1 rfl rfl)
theorem dX9_in_2 : decode cX9_in 2 = .ok (.lcmp, 1) := dk_148 (dk_at dksX9_in_0 2 rfl rfl)
theorem dX9_in_3 : decode cX9_in 3 = .ok (.ifCond .lt 14, 3) := dk_155 0 14 (dk_at dksX9_in_0 3 rfl rfl)
theorem dX9_in_6 : decode cX9_in 6 = .ok (.lload_n 0, 1) := dk_30 (dk_at dksX9_in_0 6 rfl rfl)
theorem dX9_in_7 : decode cX9_in 7 = .ok (.lload 4, 2) := dk_22 4 (dk_at dksX9_in_0 7 rfl rfl)
theorem dX9_in_9 : decode cX9_in 9 = .ok (.lcmp, 1) := dk_148 (dk_at dksX9_in_0 9 rfl rfl)
theorem dX9_in_10 : decode cX9_in 10 = .ok (.ifCond .gt 7, 3) := dk_157 0 7 (dk_at dksX9_in_0 10 rfl rfl)
theorem dX9_in_13 : decode cX9_in 13 = .ok (.iconst 1, 1) := dk_4 (dk_at dksX9_in_0 13 rfl rfl)
theorem dX9_in_14 : decode cX9_in 14 = .ok (.goto 4, 3) := dk_167 0 4 (dk_at dksX9_in_0 14 rfl rfl)
theorem dX9_in_17 : decode cX9_in 17 = .ok (.iconst 0, 1) := dk_3 (dk_at dksX9_in_0 17 rfl rfl)
theorem dX9_in_18 : decode cX9_in 18 = .ok (.ireturn, 1) := dk_172 (dk_at dksX9_in_0 18 rfl rfl)
abbrev cX9_finds : ByteArray := prog_16_method_11_code
def yX9_finds : MethodName := ⟨RX9, "finds", "(I)I"⟩
def dkwX9_finds_0 : List UInt8 := [42, 27, 181, 0, 50, 18, 54, 27, 100, 172]
abbrev dktX9_finds_0 : List UInt8 := dkwX9_finds_0 ++ []
theorem dksX9_finds_0 : cX9_finds.data.toList.drop 0 = dktX9_finds_0 := by decide +kernel
theorem dX9_finds_0 : decode cX9_finds 0 = .ok (.aload_n 0, 1) := dk_42 (dk_at dksX9_finds_0 0 rfl rfl)
theorem dX9_finds_1 : decode cX9_finds 1 = .ok (.iload_n 1, 1) := dk_27 (dk_at dksX9_finds_0 1 rfl rfl)
theorem dX9_finds_2 : decode cX9_finds 2 = .ok (.putfield 50, 3) := dk_181 0 50 (dk_at dksX9_finds_0 2 rfl rfl)
theorem dX9_finds_5 : decode cX9_finds 5 = .ok (.ldc 54, 2) := dk_18 54 (dk_at dksX9_finds_0 5 rfl rfl)
theorem dX9_finds_7 : decode cX9_finds 7 = .ok (.iload_n 1, 1) := dk_27 (dk_at dksX9_finds_0 7 rfl rfl)
theorem dX9_finds_8 : decode cX9_finds 8 = .ok (.isub, 1) := dk_100 (dk_at dksX9_finds_0 8 rfl rfl)
theorem dX9_finds_9 : decode cX9_finds 9 = .ok (.ireturn, 1) := dk_172 (dk_at dksX9_finds_0 9 rfl rfl)
abbrev cX9_set : ByteArray := prog_16_method_14_code
def yX9_set : MethodName := ⟨RX9, "set", "(III)I"⟩
def dkwX9_set_3 : List UInt8 := [147, 167, 0, 4, 29, 79, 42, 180, 0, 22, 16, 40, 27, 104, 28, 96, 46, 172]
abbrev dktX9_set_3 : List UInt8 := dkwX9_set_3 ++ []
def dkwX9_set_2 : List UInt8 := [180, 0, 19, 27, 46, 154, 0, 8, 29, 145, 167, 0, 19, 42, 180, 0, 19, 27, 46, 4, 160, 0, 8, 29]
abbrev dktX9_set_2 : List UInt8 := dkwX9_set_2 ++ dktX9_set_3
def dkwX9_set_1 : List UInt8 := [42, 21, 4, 182, 0, 62, 172, 42, 3, 181, 0, 50, 42, 180, 0, 22, 16, 40, 27, 104, 28, 96, 42]
abbrev dktX9_set_1 : List UInt8 := dkwX9_set_1 ++ dktX9_set_2
def dkwX9_set_0 : List UInt8 := [27, 184, 0, 55, 154, 0, 6, 18, 61, 172, 42, 27, 28, 4, 182, 0, 66, 54, 4, 21, 4, 158, 0, 10]
abbrev dktX9_set_0 : List UInt8 := dkwX9_set_0 ++ dktX9_set_1
theorem dksX9_set_0 : cX9_set.data.toList.drop 0 = dktX9_set_0 := by decide +kernel
theorem dksX9_set_1 : cX9_set.data.toList.drop 24 = dktX9_set_1 := dk_seg dksX9_set_0 24 rfl rfl
theorem dksX9_set_2 : cX9_set.data.toList.drop 47 = dktX9_set_2 := dk_seg dksX9_set_1 23 rfl rfl
theorem dksX9_set_3 : cX9_set.data.toList.drop 71 = dktX9_set_3 := dk_seg dksX9_set_2 24 rfl rfl
theorem dX9_set_0 : decode cX9_set 0 = .ok (.iload_n 1, 1) := dk_27 (dk_at dksX9_set_0 0 rfl rfl)
theorem dX9_set_1 : decode cX9_set 1 = .ok (.invokestatic 55, 3) := dk_184 0 55 (dk_at dksX9_set_0 1 rfl rfl)
theorem dX9_set_4 : decode cX9_set 4 = .ok (.ifCond .ne 6, 3) := dk_154 0 6 (dk_at dksX9_set_0 4 rfl rfl)
theorem dX9_set_7 : decode cX9_set 7 = .ok (.ldc 61, 2) := dk_18 61 (dk_at dksX9_set_0 7 rfl rfl)
theorem dX9_set_9 : decode cX9_set 9 = .ok (.ireturn, 1) := dk_172 (dk_at dksX9_set_0 9 rfl rfl)
theorem dX9_set_10 : decode cX9_set 10 = .ok (.aload_n 0, 1) := dk_42 (dk_at dksX9_set_0 10 rfl rfl)
theorem dX9_set_11 : decode cX9_set 11 = .ok (.iload_n 1, 1) := dk_27 (dk_at dksX9_set_0 11 rfl rfl)
theorem dX9_set_12 : decode cX9_set 12 = .ok (.iload_n 2, 1) := dk_28 (dk_at dksX9_set_0 12 rfl rfl)
theorem dX9_set_13 : decode cX9_set 13 = .ok (.iconst 1, 1) := dk_4 (dk_at dksX9_set_0 13 rfl rfl)
theorem dX9_set_14 : decode cX9_set 14 = .ok (.invokevirtual 66, 3) := dk_182 0 66 (dk_at dksX9_set_0 14 rfl rfl)
theorem dX9_set_17 : decode cX9_set 17 = .ok (.istore 4, 2) := dk_54 4 (dk_at dksX9_set_0 17 rfl rfl)
theorem dX9_set_19 : decode cX9_set 19 = .ok (.iload 4, 2) := dk_21 4 (dk_at dksX9_set_0 19 rfl rfl)
theorem dX9_set_21 : decode cX9_set 21 = .ok (.ifCond .le 10, 3) := dk_158 0 10 (dk_at dksX9_set_0 21 rfl rfl)
theorem dX9_set_24 : decode cX9_set 24 = .ok (.aload_n 0, 1) := dk_42 (dk_at dksX9_set_1 0 rfl rfl)
theorem dX9_set_25 : decode cX9_set 25 = .ok (.iload 4, 2) := dk_21 4 (dk_at dksX9_set_1 1 rfl rfl)
theorem dX9_set_27 : decode cX9_set 27 = .ok (.invokevirtual 62, 3) := dk_182 0 62 (dk_at dksX9_set_1 3 rfl rfl)
theorem dX9_set_30 : decode cX9_set 30 = .ok (.ireturn, 1) := dk_172 (dk_at dksX9_set_1 6 rfl rfl)
theorem dX9_set_31 : decode cX9_set 31 = .ok (.aload_n 0, 1) := dk_42 (dk_at dksX9_set_1 7 rfl rfl)
theorem dX9_set_32 : decode cX9_set 32 = .ok (.iconst 0, 1) := dk_3 (dk_at dksX9_set_1 8 rfl rfl)
theorem dX9_set_33 : decode cX9_set 33 = .ok (.putfield 50, 3) := dk_181 0 50 (dk_at dksX9_set_1 9 rfl rfl)
theorem dX9_set_36 : decode cX9_set 36 = .ok (.aload_n 0, 1) := dk_42 (dk_at dksX9_set_1 12 rfl rfl)
theorem dX9_set_37 : decode cX9_set 37 = .ok (.getfield 22, 3) := dk_180 0 22 (dk_at dksX9_set_1 13 rfl rfl)
theorem dX9_set_40 : decode cX9_set 40 = .ok (.bipush 40, 2) := dk_16 40 (dk_at dksX9_set_1 16 rfl rfl)
theorem dX9_set_42 : decode cX9_set 42 = .ok (.iload_n 1, 1) := dk_27 (dk_at dksX9_set_1 18 rfl rfl)
theorem dX9_set_43 : decode cX9_set 43 = .ok (.imul, 1) := dk_104 (dk_at dksX9_set_1 19 rfl rfl)
theorem dX9_set_44 : decode cX9_set 44 = .ok (.iload_n 2, 1) := dk_28 (dk_at dksX9_set_1 20 rfl rfl)
theorem dX9_set_45 : decode cX9_set 45 = .ok (.iadd, 1) := dk_96 (dk_at dksX9_set_1 21 rfl rfl)
theorem dX9_set_46 : decode cX9_set 46 = .ok (.aload_n 0, 1) := dk_42 (dk_at dksX9_set_1 22 rfl rfl)
theorem dX9_set_47 : decode cX9_set 47 = .ok (.getfield 19, 3) := dk_180 0 19 (dk_at dksX9_set_2 0 rfl rfl)
theorem dX9_set_50 : decode cX9_set 50 = .ok (.iload_n 1, 1) := dk_27 (dk_at dksX9_set_2 3 rfl rfl)
theorem dX9_set_51 : decode cX9_set 51 = .ok (.iaload, 1) := dk_46 (dk_at dksX9_set_2 4 rfl rfl)
theorem dX9_set_52 : decode cX9_set 52 = .ok (.ifCond .ne 8, 3) := dk_154 0 8 (dk_at dksX9_set_2 5 rfl rfl)
theorem dX9_set_55 : decode cX9_set 55 = .ok (.iload_n 3, 1) := dk_29 (dk_at dksX9_set_2 8 rfl rfl)
theorem dX9_set_56 : decode cX9_set 56 = .ok (.i2b, 1) := dk_145 (dk_at dksX9_set_2 9 rfl rfl)
theorem dX9_set_57 : decode cX9_set 57 = .ok (.goto 19, 3) := dk_167 0 19 (dk_at dksX9_set_2 10 rfl rfl)
theorem dX9_set_60 : decode cX9_set 60 = .ok (.aload_n 0, 1) := dk_42 (dk_at dksX9_set_2 13 rfl rfl)
theorem dX9_set_61 : decode cX9_set 61 = .ok (.getfield 19, 3) := dk_180 0 19 (dk_at dksX9_set_2 14 rfl rfl)
theorem dX9_set_64 : decode cX9_set 64 = .ok (.iload_n 1, 1) := dk_27 (dk_at dksX9_set_2 17 rfl rfl)
theorem dX9_set_65 : decode cX9_set 65 = .ok (.iaload, 1) := dk_46 (dk_at dksX9_set_2 18 rfl rfl)
theorem dX9_set_66 : decode cX9_set 66 = .ok (.iconst 1, 1) := dk_4 (dk_at dksX9_set_2 19 rfl rfl)
theorem dX9_set_67 : decode cX9_set 67 = .ok (.if_icmp .ne 8, 3) := dk_160 0 8 (dk_at dksX9_set_2 20 rfl rfl)
theorem dX9_set_70 : decode cX9_set 70 = .ok (.iload_n 3, 1) := dk_29 (dk_at dksX9_set_2 23 rfl rfl)
theorem dX9_set_71 : decode cX9_set 71 = .ok (.i2s, 1) := dk_147 (dk_at dksX9_set_3 0 rfl rfl)
theorem dX9_set_72 : decode cX9_set 72 = .ok (.goto 4, 3) := dk_167 0 4 (dk_at dksX9_set_3 1 rfl rfl)
theorem dX9_set_75 : decode cX9_set 75 = .ok (.iload_n 3, 1) := dk_29 (dk_at dksX9_set_3 4 rfl rfl)
theorem dX9_set_76 : decode cX9_set 76 = .ok (.iastore, 1) := dk_79 (dk_at dksX9_set_3 5 rfl rfl)
theorem dX9_set_77 : decode cX9_set 77 = .ok (.aload_n 0, 1) := dk_42 (dk_at dksX9_set_3 6 rfl rfl)
theorem dX9_set_78 : decode cX9_set 78 = .ok (.getfield 22, 3) := dk_180 0 22 (dk_at dksX9_set_3 7 rfl rfl)
theorem dX9_set_81 : decode cX9_set 81 = .ok (.bipush 40, 2) := dk_16 40 (dk_at dksX9_set_3 10 rfl rfl)
theorem dX9_set_83 : decode cX9_set 83 = .ok (.iload_n 1, 1) := dk_27 (dk_at dksX9_set_3 12 rfl rfl)
theorem dX9_set_84 : decode cX9_set 84 = .ok (.imul, 1) := dk_104 (dk_at dksX9_set_3 13 rfl rfl)
theorem dX9_set_85 : decode cX9_set 85 = .ok (.iload_n 2, 1) := dk_28 (dk_at dksX9_set_3 14 rfl rfl)
theorem dX9_set_86 : decode cX9_set 86 = .ok (.iadd, 1) := dk_96 (dk_at dksX9_set_3 15 rfl rfl)
theorem dX9_set_87 : decode cX9_set 87 = .ok (.iaload, 1) := dk_46 (dk_at dksX9_set_3 16 rfl rfl)
theorem dX9_set_88 : decode cX9_set 88 = .ok (.ireturn, 1) := dk_172 (dk_at dksX9_set_3 17 rfl rfl)
abbrev cX9_against : ByteArray := prog_16_method_12_code
def yX9_against : MethodName := ⟨RX9, "against", "(III)I"⟩
def dkwX9_against_1 : List UInt8 := [133, 97, 42, 180, 0, 16, 27, 46, 133, 148, 158, 0, 7, 5, 167, 0, 4, 3, 172]
abbrev dktX9_against_1 : List UInt8 := dkwX9_against_1 ++ []
def dkwX9_against_0 : List UInt8 := [42, 180, 0, 16, 27, 46, 156, 0, 7, 4, 167, 0, 32, 28, 155, 0, 23, 29, 155, 0, 19, 28, 133, 29]
abbrev dktX9_against_0 : List UInt8 := dkwX9_against_0 ++ dktX9_against_1
theorem dksX9_against_0 : cX9_against.data.toList.drop 0 = dktX9_against_0 := by decide +kernel
theorem dksX9_against_1 : cX9_against.data.toList.drop 24 = dktX9_against_1 := dk_seg dksX9_against_0 24 rfl rfl
theorem dX9_against_0 : decode cX9_against 0 = .ok (.aload_n 0, 1) := dk_42 (dk_at dksX9_against_0 0 rfl rfl)
theorem dX9_against_1 : decode cX9_against 1 = .ok (.getfield 16, 3) := dk_180 0 16 (dk_at dksX9_against_0 1 rfl rfl)
theorem dX9_against_4 : decode cX9_against 4 = .ok (.iload_n 1, 1) := dk_27 (dk_at dksX9_against_0 4 rfl rfl)
theorem dX9_against_5 : decode cX9_against 5 = .ok (.iaload, 1) := dk_46 (dk_at dksX9_against_0 5 rfl rfl)
theorem dX9_against_6 : decode cX9_against 6 = .ok (.ifCond .ge 7, 3) := dk_156 0 7 (dk_at dksX9_against_0 6 rfl rfl)
theorem dX9_against_9 : decode cX9_against 9 = .ok (.iconst 1, 1) := dk_4 (dk_at dksX9_against_0 9 rfl rfl)
theorem dX9_against_10 : decode cX9_against 10 = .ok (.goto 32, 3) := dk_167 0 32 (dk_at dksX9_against_0 10 rfl rfl)
theorem dX9_against_13 : decode cX9_against 13 = .ok (.iload_n 2, 1) := dk_28 (dk_at dksX9_against_0 13 rfl rfl)
theorem dX9_against_14 : decode cX9_against 14 = .ok (.ifCond .lt 23, 3) := dk_155 0 23 (dk_at dksX9_against_0 14 rfl rfl)
theorem dX9_against_17 : decode cX9_against 17 = .ok (.iload_n 3, 1) := dk_29 (dk_at dksX9_against_0 17 rfl rfl)
theorem dX9_against_18 : decode cX9_against 18 = .ok (.ifCond .lt 19, 3) := dk_155 0 19 (dk_at dksX9_against_0 18 rfl rfl)
theorem dX9_against_21 : decode cX9_against 21 = .ok (.iload_n 2, 1) := dk_28 (dk_at dksX9_against_0 21 rfl rfl)
theorem dX9_against_22 : decode cX9_against 22 = .ok (.i2l, 1) := dk_133 (dk_at dksX9_against_0 22 rfl rfl)
theorem dX9_against_23 : decode cX9_against 23 = .ok (.iload_n 3, 1) := dk_29 (dk_at dksX9_against_0 23 rfl rfl)
theorem dX9_against_24 : decode cX9_against 24 = .ok (.i2l, 1) := dk_133 (dk_at dksX9_against_1 0 rfl rfl)
theorem dX9_against_25 : decode cX9_against 25 = .ok (.ladd, 1) := dk_97 (dk_at dksX9_against_1 1 rfl rfl)
theorem dX9_against_26 : decode cX9_against 26 = .ok (.aload_n 0, 1) := dk_42 (dk_at dksX9_against_1 2 rfl rfl)
theorem dX9_against_27 : decode cX9_against 27 = .ok (.getfield 16, 3) := dk_180 0 16 (dk_at dksX9_against_1 3 rfl rfl)
theorem dX9_against_30 : decode cX9_against 30 = .ok (.iload_n 1, 1) := dk_27 (dk_at dksX9_against_1 6 rfl rfl)
theorem dX9_against_31 : decode cX9_against 31 = .ok (.iaload, 1) := dk_46 (dk_at dksX9_against_1 7 rfl rfl)
theorem dX9_against_32 : decode cX9_against 32 = .ok (.i2l, 1) := dk_133 (dk_at dksX9_against_1 8 rfl rfl)
theorem dX9_against_33 : decode cX9_against 33 = .ok (.lcmp, 1) := dk_148 (dk_at dksX9_against_1 9 rfl rfl)
theorem dX9_against_34 : decode cX9_against 34 = .ok (.ifCond .le 7, 3) := dk_158 0 7 (dk_at dksX9_against_1 10 rfl rfl)
theorem dX9_against_37 : decode cX9_against 37 = .ok (.iconst 2, 1) := dk_5 (dk_at dksX9_against_1 13 rfl rfl)
theorem dX9_against_38 : decode cX9_against 38 = .ok (.goto 4, 3) := dk_167 0 4 (dk_at dksX9_against_1 14 rfl rfl)
theorem dX9_against_41 : decode cX9_against 41 = .ok (.iconst 0, 1) := dk_3 (dk_at dksX9_against_1 17 rfl rfl)
theorem dX9_against_42 : decode cX9_against 42 = .ok (.ireturn, 1) := dk_172 (dk_at dksX9_against_1 18 rfl rfl)
abbrev cX9_copy : ByteArray := prog_16_method_15_code
def yX9_copy : MethodName := ⟨RX9, "copy", "(IIIII)I"⟩
def dkwX9_copy_7 : List UInt8 := [79, 132, 6, 1, 167, 255, 224, 21, 5, 172]
abbrev dktX9_copy_7 : List UInt8 := dkwX9_copy_7 ++ []
def dkwX9_copy_6 : List UInt8 := [162, 0, 31, 42, 180, 0, 22, 16, 40, 29, 104, 21, 4, 96, 21, 6, 96, 42, 180, 0, 25, 21, 6, 46]
abbrev dktX9_copy_6 : List UInt8 := dkwX9_copy_6 ++ dktX9_copy_7
def dkwX9_copy_5 : List UInt8 := [16, 40, 27, 104, 28, 96, 21, 6, 96, 46, 79, 132, 6, 1, 167, 255, 225, 3, 54, 6, 21, 6, 21, 5]
abbrev dktX9_copy_5 : List UInt8 := dkwX9_copy_5 ++ dktX9_copy_6
def dkwX9_copy_4 : List UInt8 := [181, 0, 50, 3, 54, 6, 21, 6, 21, 5, 162, 0, 30, 42, 180, 0, 25, 21, 6, 42, 180, 0, 22]
abbrev dktX9_copy_4 : List UInt8 := dkwX9_copy_4 ++ dktX9_copy_5
def dkwX9_copy_3 : List UInt8 := [157, 0, 15, 42, 29, 21, 4, 21, 5, 182, 0, 66, 158, 0, 9, 42, 5, 182, 0, 62, 172, 42, 3]
abbrev dktX9_copy_3 : List UInt8 := dkwX9_copy_3 ++ dktX9_copy_4
def dkwX9_copy_2 : List UInt8 := [42, 180, 0, 19, 29, 46, 159, 0, 9, 42, 8, 182, 0, 62, 172, 42, 27, 28, 21, 5, 182, 0, 66]
abbrev dktX9_copy_2 : List UInt8 := dkwX9_copy_2 ++ dktX9_copy_3
def dkwX9_copy_1 : List UInt8 := [155, 0, 12, 42, 180, 0, 16, 29, 46, 156, 0, 9, 42, 4, 182, 0, 62, 172, 42, 180, 0, 19, 27, 46]
abbrev dktX9_copy_1 : List UInt8 := dkwX9_copy_1 ++ dktX9_copy_2
def dkwX9_copy_0 : List UInt8 := [27, 184, 0, 55, 153, 0, 10, 29, 184, 0, 55, 154, 0, 6, 18, 61, 172, 42, 180, 0, 16, 27, 46]
abbrev dktX9_copy_0 : List UInt8 := dkwX9_copy_0 ++ dktX9_copy_1
theorem dksX9_copy_0 : cX9_copy.data.toList.drop 0 = dktX9_copy_0 := by decide +kernel
theorem dksX9_copy_1 : cX9_copy.data.toList.drop 23 = dktX9_copy_1 := dk_seg dksX9_copy_0 23 rfl rfl
theorem dksX9_copy_2 : cX9_copy.data.toList.drop 47 = dktX9_copy_2 := dk_seg dksX9_copy_1 24 rfl rfl
theorem dksX9_copy_3 : cX9_copy.data.toList.drop 70 = dktX9_copy_3 := dk_seg dksX9_copy_2 23 rfl rfl
theorem dksX9_copy_4 : cX9_copy.data.toList.drop 93 = dktX9_copy_4 := dk_seg dksX9_copy_3 23 rfl rfl
theorem dksX9_copy_5 : cX9_copy.data.toList.drop 116 = dktX9_copy_5 := dk_seg dksX9_copy_4 23 rfl rfl
theorem dksX9_copy_6 : cX9_copy.data.toList.drop 140 = dktX9_copy_6 := dk_seg dksX9_copy_5 24 rfl rfl
theorem dksX9_copy_7 : cX9_copy.data.toList.drop 164 = dktX9_copy_7 := dk_seg dksX9_copy_6 24 rfl rfl
theorem dX9_copy_0 : decode cX9_copy 0 = .ok (.iload_n 1, 1) := dk_27 (dk_at dksX9_copy_0 0 rfl rfl)
theorem dX9_copy_1 : decode cX9_copy 1 = .ok (.invokestatic 55, 3) := dk_184 0 55 (dk_at dksX9_copy_0 1 rfl rfl)
theorem dX9_copy_4 : decode cX9_copy 4 = .ok (.ifCond .eq 10, 3) := dk_153 0 10 (dk_at dksX9_copy_0 4 rfl rfl)
theorem dX9_copy_7 : decode cX9_copy 7 = .ok (.iload_n 3, 1) := dk_29 (dk_at dksX9_copy_0 7 rfl rfl)
theorem dX9_copy_8 : decode cX9_copy 8 = .ok (.invokestatic 55, 3) := dk_184 0 55 (dk_at dksX9_copy_0 8 rfl rfl)
theorem dX9_copy_11 : decode cX9_copy 11 = .ok (.ifCond .ne 6, 3) := dk_154 0 6 (dk_at dksX9_copy_0 11 rfl rfl)
theorem dX9_copy_14 : decode cX9_copy 14 = .ok (.ldc 61, 2) := dk_18 61 (dk_at dksX9_copy_0 14 rfl rfl)
theorem dX9_copy_16 : decode cX9_copy 16 = .ok (.ireturn, 1) := dk_172 (dk_at dksX9_copy_0 16 rfl rfl)
theorem dX9_copy_17 : decode cX9_copy 17 = .ok (.aload_n 0, 1) := dk_42 (dk_at dksX9_copy_0 17 rfl rfl)
theorem dX9_copy_18 : decode cX9_copy 18 = .ok (.getfield 16, 3) := dk_180 0 16 (dk_at dksX9_copy_0 18 rfl rfl)
theorem dX9_copy_21 : decode cX9_copy 21 = .ok (.iload_n 1, 1) := dk_27 (dk_at dksX9_copy_0 21 rfl rfl)
theorem dX9_copy_22 : decode cX9_copy 22 = .ok (.iaload, 1) := dk_46 (dk_at dksX9_copy_0 22 rfl rfl)
theorem dX9_copy_23 : decode cX9_copy 23 = .ok (.ifCond .lt 12, 3) := dk_155 0 12 (dk_at dksX9_copy_1 0 rfl rfl)
theorem dX9_copy_26 : decode cX9_copy 26 = .ok (.aload_n 0, 1) := dk_42 (dk_at dksX9_copy_1 3 rfl rfl)
theorem dX9_copy_27 : decode cX9_copy 27 = .ok (.getfield 16, 3) := dk_180 0 16 (dk_at dksX9_copy_1 4 rfl rfl)
theorem dX9_copy_30 : decode cX9_copy 30 = .ok (.iload_n 3, 1) := dk_29 (dk_at dksX9_copy_1 7 rfl rfl)
theorem dX9_copy_31 : decode cX9_copy 31 = .ok (.iaload, 1) := dk_46 (dk_at dksX9_copy_1 8 rfl rfl)
theorem dX9_copy_32 : decode cX9_copy 32 = .ok (.ifCond .ge 9, 3) := dk_156 0 9 (dk_at dksX9_copy_1 9 rfl rfl)
theorem dX9_copy_35 : decode cX9_copy 35 = .ok (.aload_n 0, 1) := dk_42 (dk_at dksX9_copy_1 12 rfl rfl)
theorem dX9_copy_36 : decode cX9_copy 36 = .ok (.iconst 1, 1) := dk_4 (dk_at dksX9_copy_1 13 rfl rfl)
theorem dX9_copy_37 : decode cX9_copy 37 = .ok (.invokevirtual 62, 3) := dk_182 0 62 (dk_at dksX9_copy_1 14 rfl rfl)
theorem dX9_copy_40 : decode cX9_copy 40 = .ok (.ireturn, 1) := dk_172 (dk_at dksX9_copy_1 17 rfl rfl)
theorem dX9_copy_41 : decode cX9_copy 41 = .ok (.aload_n 0, 1) := dk_42 (dk_at dksX9_copy_1 18 rfl rfl)
theorem dX9_copy_42 : decode cX9_copy 42 = .ok (.getfield 19, 3) := dk_180 0 19 (dk_at dksX9_copy_1 19 rfl rfl)
theorem dX9_copy_45 : decode cX9_copy 45 = .ok (.iload_n 1, 1) := dk_27 (dk_at dksX9_copy_1 22 rfl rfl)
theorem dX9_copy_46 : decode cX9_copy 46 = .ok (.iaload, 1) := dk_46 (dk_at dksX9_copy_1 23 rfl rfl)
theorem dX9_copy_47 : decode cX9_copy 47 = .ok (.aload_n 0, 1) := dk_42 (dk_at dksX9_copy_2 0 rfl rfl)
theorem dX9_copy_48 : decode cX9_copy 48 = .ok (.getfield 19, 3) := dk_180 0 19 (dk_at dksX9_copy_2 1 rfl rfl)
theorem dX9_copy_51 : decode cX9_copy 51 = .ok (.iload_n 3, 1) := dk_29 (dk_at dksX9_copy_2 4 rfl rfl)
theorem dX9_copy_52 : decode cX9_copy 52 = .ok (.iaload, 1) := dk_46 (dk_at dksX9_copy_2 5 rfl rfl)
theorem dX9_copy_53 : decode cX9_copy 53 = .ok (.if_icmp .eq 9, 3) := dk_159 0 9 (dk_at dksX9_copy_2 6 rfl rfl)
theorem dX9_copy_56 : decode cX9_copy 56 = .ok (.aload_n 0, 1) := dk_42 (dk_at dksX9_copy_2 9 rfl rfl)
theorem dX9_copy_57 : decode cX9_copy 57 = .ok (.iconst 5, 1) := dk_8 (dk_at dksX9_copy_2 10 rfl rfl)
theorem dX9_copy_58 : decode cX9_copy 58 = .ok (.invokevirtual 62, 3) := dk_182 0 62 (dk_at dksX9_copy_2 11 rfl rfl)
theorem dX9_copy_61 : decode cX9_copy 61 = .ok (.ireturn, 1) := dk_172 (dk_at dksX9_copy_2 14 rfl rfl)
theorem dX9_copy_62 : decode cX9_copy 62 = .ok (.aload_n 0, 1) := dk_42 (dk_at dksX9_copy_2 15 rfl rfl)
theorem dX9_copy_63 : decode cX9_copy 63 = .ok (.iload_n 1, 1) := dk_27 (dk_at dksX9_copy_2 16 rfl rfl)
theorem dX9_copy_64 : decode cX9_copy 64 = .ok (.iload_n 2, 1) := dk_28 (dk_at dksX9_copy_2 17 rfl rfl)
theorem dX9_copy_65 : decode cX9_copy 65 = .ok (.iload 5, 2) := dk_21 5 (dk_at dksX9_copy_2 18 rfl rfl)
theorem dX9_copy_67 : decode cX9_copy 67 = .ok (.invokevirtual 66, 3) := dk_182 0 66 (dk_at dksX9_copy_2 20 rfl rfl)
theorem dX9_copy_70 : decode cX9_copy 70 = .ok (.ifCond .gt 15, 3) := dk_157 0 15 (dk_at dksX9_copy_3 0 rfl rfl)
theorem dX9_copy_73 : decode cX9_copy 73 = .ok (.aload_n 0, 1) := dk_42 (dk_at dksX9_copy_3 3 rfl rfl)
theorem dX9_copy_74 : decode cX9_copy 74 = .ok (.iload_n 3, 1) := dk_29 (dk_at dksX9_copy_3 4 rfl rfl)
theorem dX9_copy_75 : decode cX9_copy 75 = .ok (.iload 4, 2) := dk_21 4 (dk_at dksX9_copy_3 5 rfl rfl)
theorem dX9_copy_77 : decode cX9_copy 77 = .ok (.iload 5, 2) := dk_21 5 (dk_at dksX9_copy_3 7 rfl rfl)
theorem dX9_copy_79 : decode cX9_copy 79 = .ok (.invokevirtual 66, 3) := dk_182 0 66 (dk_at dksX9_copy_3 9 rfl rfl)
theorem dX9_copy_82 : decode cX9_copy 82 = .ok (.ifCond .le 9, 3) := dk_158 0 9 (dk_at dksX9_copy_3 12 rfl rfl)
theorem dX9_copy_85 : decode cX9_copy 85 = .ok (.aload_n 0, 1) := dk_42 (dk_at dksX9_copy_3 15 rfl rfl)
theorem dX9_copy_86 : decode cX9_copy 86 = .ok (.iconst 2, 1) := dk_5 (dk_at dksX9_copy_3 16 rfl rfl)
theorem dX9_copy_87 : decode cX9_copy 87 = .ok (.invokevirtual 62, 3) := dk_182 0 62 (dk_at dksX9_copy_3 17 rfl rfl)
theorem dX9_copy_90 : decode cX9_copy 90 = .ok (.ireturn, 1) := dk_172 (dk_at dksX9_copy_3 20 rfl rfl)
theorem dX9_copy_91 : decode cX9_copy 91 = .ok (.aload_n 0, 1) := dk_42 (dk_at dksX9_copy_3 21 rfl rfl)
theorem dX9_copy_92 : decode cX9_copy 92 = .ok (.iconst 0, 1) := dk_3 (dk_at dksX9_copy_3 22 rfl rfl)
theorem dX9_copy_93 : decode cX9_copy 93 = .ok (.putfield 50, 3) := dk_181 0 50 (dk_at dksX9_copy_4 0 rfl rfl)
theorem dX9_copy_96 : decode cX9_copy 96 = .ok (.iconst 0, 1) := dk_3 (dk_at dksX9_copy_4 3 rfl rfl)
theorem dX9_copy_97 : decode cX9_copy 97 = .ok (.istore 6, 2) := dk_54 6 (dk_at dksX9_copy_4 4 rfl rfl)
theorem dX9_copy_99 : decode cX9_copy 99 = .ok (.iload 6, 2) := dk_21 6 (dk_at dksX9_copy_4 6 rfl rfl)
theorem dX9_copy_101 : decode cX9_copy 101 = .ok (.iload 5, 2) := dk_21 5 (dk_at dksX9_copy_4 8 rfl rfl)
theorem dX9_copy_103 : decode cX9_copy 103 = .ok (.if_icmp .ge 30, 3) := dk_162 0 30 (dk_at dksX9_copy_4 10 rfl rfl)
theorem dX9_copy_106 : decode cX9_copy 106 = .ok (.aload_n 0, 1) := dk_42 (dk_at dksX9_copy_4 13 rfl rfl)
theorem dX9_copy_107 : decode cX9_copy 107 = .ok (.getfield 25, 3) := dk_180 0 25 (dk_at dksX9_copy_4 14 rfl rfl)
theorem dX9_copy_110 : decode cX9_copy 110 = .ok (.iload 6, 2) := dk_21 6 (dk_at dksX9_copy_4 17 rfl rfl)
theorem dX9_copy_112 : decode cX9_copy 112 = .ok (.aload_n 0, 1) := dk_42 (dk_at dksX9_copy_4 19 rfl rfl)
theorem dX9_copy_113 : decode cX9_copy 113 = .ok (.getfield 22, 3) := dk_180 0 22 (dk_at dksX9_copy_4 20 rfl rfl)
theorem dX9_copy_116 : decode cX9_copy 116 = .ok (.bipush 40, 2) := dk_16 40 (dk_at dksX9_copy_5 0 rfl rfl)
theorem dX9_copy_118 : decode cX9_copy 118 = .ok (.iload_n 1, 1) := dk_27 (dk_at dksX9_copy_5 2 rfl rfl)
theorem dX9_copy_119 : decode cX9_copy 119 = .ok (.imul, 1) := dk_104 (dk_at dksX9_copy_5 3 rfl rfl)
theorem dX9_copy_120 : decode cX9_copy 120 = .ok (.iload_n 2, 1) := dk_28 (dk_at dksX9_copy_5 4 rfl rfl)
theorem dX9_copy_121 : decode cX9_copy 121 = .ok (.iadd, 1) := dk_96 (dk_at dksX9_copy_5 5 rfl rfl)
theorem dX9_copy_122 : decode cX9_copy 122 = .ok (.iload 6, 2) := dk_21 6 (dk_at dksX9_copy_5 6 rfl rfl)
theorem dX9_copy_124 : decode cX9_copy 124 = .ok (.iadd, 1) := dk_96 (dk_at dksX9_copy_5 8 rfl rfl)
theorem dX9_copy_125 : decode cX9_copy 125 = .ok (.iaload, 1) := dk_46 (dk_at dksX9_copy_5 9 rfl rfl)
theorem dX9_copy_126 : decode cX9_copy 126 = .ok (.iastore, 1) := dk_79 (dk_at dksX9_copy_5 10 rfl rfl)
theorem dX9_copy_127 : decode cX9_copy 127 = .ok (.iinc 6 1, 3) := dk_132 6 1 (dk_at dksX9_copy_5 11 rfl rfl)
theorem dX9_copy_130 : decode cX9_copy 130 = .ok (.goto (-31), 3) := dk_167 255 225 (dk_at dksX9_copy_5 14 rfl rfl)
theorem dX9_copy_133 : decode cX9_copy 133 = .ok (.iconst 0, 1) := dk_3 (dk_at dksX9_copy_5 17 rfl rfl)
theorem dX9_copy_134 : decode cX9_copy 134 = .ok (.istore 6, 2) := dk_54 6 (dk_at dksX9_copy_5 18 rfl rfl)
theorem dX9_copy_136 : decode cX9_copy 136 = .ok (.iload 6, 2) := dk_21 6 (dk_at dksX9_copy_5 20 rfl rfl)
theorem dX9_copy_138 : decode cX9_copy 138 = .ok (.iload 5, 2) := dk_21 5 (dk_at dksX9_copy_5 22 rfl rfl)
theorem dX9_copy_140 : decode cX9_copy 140 = .ok (.if_icmp .ge 31, 3) := dk_162 0 31 (dk_at dksX9_copy_6 0 rfl rfl)
theorem dX9_copy_143 : decode cX9_copy 143 = .ok (.aload_n 0, 1) := dk_42 (dk_at dksX9_copy_6 3 rfl rfl)
theorem dX9_copy_144 : decode cX9_copy 144 = .ok (.getfield 22, 3) := dk_180 0 22 (dk_at dksX9_copy_6 4 rfl rfl)
theorem dX9_copy_147 : decode cX9_copy 147 = .ok (.bipush 40, 2) := dk_16 40 (dk_at dksX9_copy_6 7 rfl rfl)
theorem dX9_copy_149 : decode cX9_copy 149 = .ok (.iload_n 3, 1) := dk_29 (dk_at dksX9_copy_6 9 rfl rfl)
theorem dX9_copy_150 : decode cX9_copy 150 = .ok (.imul, 1) := dk_104 (dk_at dksX9_copy_6 10 rfl rfl)
theorem dX9_copy_151 : decode cX9_copy 151 = .ok (.iload 4, 2) := dk_21 4 (dk_at dksX9_copy_6 11 rfl rfl)
theorem dX9_copy_153 : decode cX9_copy 153 = .ok (.iadd, 1) := dk_96 (dk_at dksX9_copy_6 13 rfl rfl)
theorem dX9_copy_154 : decode cX9_copy 154 = .ok (.iload 6, 2) := dk_21 6 (dk_at dksX9_copy_6 14 rfl rfl)
theorem dX9_copy_156 : decode cX9_copy 156 = .ok (.iadd, 1) := dk_96 (dk_at dksX9_copy_6 16 rfl rfl)
theorem dX9_copy_157 : decode cX9_copy 157 = .ok (.aload_n 0, 1) := dk_42 (dk_at dksX9_copy_6 17 rfl rfl)
theorem dX9_copy_158 : decode cX9_copy 158 = .ok (.getfield 25, 3) := dk_180 0 25 (dk_at dksX9_copy_6 18 rfl rfl)
theorem dX9_copy_161 : decode cX9_copy 161 = .ok (.iload 6, 2) := dk_21 6 (dk_at dksX9_copy_6 21 rfl rfl)
theorem dX9_copy_163 : decode cX9_copy 163 = .ok (.iaload, 1) := dk_46 (dk_at dksX9_copy_6 23 rfl rfl)
theorem dX9_copy_164 : decode cX9_copy 164 = .ok (.iastore, 1) := dk_79 (dk_at dksX9_copy_7 0 rfl rfl)
theorem dX9_copy_165 : decode cX9_copy 165 = .ok (.iinc 6 1, 3) := dk_132 6 1 (dk_at dksX9_copy_7 1 rfl rfl)
theorem dX9_copy_168 : decode cX9_copy 168 = .ok (.goto (-32), 3) := dk_167 255 224 (dk_at dksX9_copy_7 4 rfl rfl)
theorem dX9_copy_171 : decode cX9_copy 171 = .ok (.iload 5, 2) := dk_21 5 (dk_at dksX9_copy_7 7 rfl rfl)
theorem dX9_copy_173 : decode cX9_copy 173 = .ok (.ireturn, 1) := dk_172 (dk_at dksX9_copy_7 9 rfl rfl)
abbrev cX9_drop : ByteArray := prog_16_method_16_code
def yX9_drop : MethodName := ⟨RX9, "drop", "(I)I"⟩
def dkwX9_drop_1 : List UInt8 := [172, 42, 3, 181, 0, 50, 42, 180, 0, 16, 27, 46, 61, 42, 180, 0, 16, 27, 2, 79, 28, 172]
abbrev dktX9_drop_1 : List UInt8 := dkwX9_drop_1 ++ []
def dkwX9_drop_0 : List UInt8 := [27, 184, 0, 55, 154, 0, 6, 18, 61, 172, 42, 180, 0, 16, 27, 46, 156, 0, 9, 42, 4, 182, 0, 62]
abbrev dktX9_drop_0 : List UInt8 := dkwX9_drop_0 ++ dktX9_drop_1
theorem dksX9_drop_0 : cX9_drop.data.toList.drop 0 = dktX9_drop_0 := by decide +kernel
theorem dksX9_drop_1 : cX9_drop.data.toList.drop 24 = dktX9_drop_1 := dk_seg dksX9_drop_0 24 rfl rfl
theorem dX9_drop_0 : decode cX9_drop 0 = .ok (.iload_n 1, 1) := dk_27 (dk_at dksX9_drop_0 0 rfl rfl)
theorem dX9_drop_1 : decode cX9_drop 1 = .ok (.invokestatic 55, 3) := dk_184 0 55 (dk_at dksX9_drop_0 1 rfl rfl)
theorem dX9_drop_4 : decode cX9_drop 4 = .ok (.ifCond .ne 6, 3) := dk_154 0 6 (dk_at dksX9_drop_0 4 rfl rfl)
theorem dX9_drop_7 : decode cX9_drop 7 = .ok (.ldc 61, 2) := dk_18 61 (dk_at dksX9_drop_0 7 rfl rfl)
theorem dX9_drop_9 : decode cX9_drop 9 = .ok (.ireturn, 1) := dk_172 (dk_at dksX9_drop_0 9 rfl rfl)
theorem dX9_drop_10 : decode cX9_drop 10 = .ok (.aload_n 0, 1) := dk_42 (dk_at dksX9_drop_0 10 rfl rfl)
theorem dX9_drop_11 : decode cX9_drop 11 = .ok (.getfield 16, 3) := dk_180 0 16 (dk_at dksX9_drop_0 11 rfl rfl)
theorem dX9_drop_14 : decode cX9_drop 14 = .ok (.iload_n 1, 1) := dk_27 (dk_at dksX9_drop_0 14 rfl rfl)
theorem dX9_drop_15 : decode cX9_drop 15 = .ok (.iaload, 1) := dk_46 (dk_at dksX9_drop_0 15 rfl rfl)
theorem dX9_drop_16 : decode cX9_drop 16 = .ok (.ifCond .ge 9, 3) := dk_156 0 9 (dk_at dksX9_drop_0 16 rfl rfl)
theorem dX9_drop_19 : decode cX9_drop 19 = .ok (.aload_n 0, 1) := dk_42 (dk_at dksX9_drop_0 19 rfl rfl)
theorem dX9_drop_20 : decode cX9_drop 20 = .ok (.iconst 1, 1) := dk_4 (dk_at dksX9_drop_0 20 rfl rfl)
theorem dX9_drop_21 : decode cX9_drop 21 = .ok (.invokevirtual 62, 3) := dk_182 0 62 (dk_at dksX9_drop_0 21 rfl rfl)
theorem dX9_drop_24 : decode cX9_drop 24 = .ok (.ireturn, 1) := dk_172 (dk_at dksX9_drop_1 0 rfl rfl)
theorem dX9_drop_25 : decode cX9_drop 25 = .ok (.aload_n 0, 1) := dk_42 (dk_at dksX9_drop_1 1 rfl rfl)
theorem dX9_drop_26 : decode cX9_drop 26 = .ok (.iconst 0, 1) := dk_3 (dk_at dksX9_drop_1 2 rfl rfl)
theorem dX9_drop_27 : decode cX9_drop 27 = .ok (.putfield 50, 3) := dk_181 0 50 (dk_at dksX9_drop_1 3 rfl rfl)
theorem dX9_drop_30 : decode cX9_drop 30 = .ok (.aload_n 0, 1) := dk_42 (dk_at dksX9_drop_1 6 rfl rfl)
theorem dX9_drop_31 : decode cX9_drop 31 = .ok (.getfield 16, 3) := dk_180 0 16 (dk_at dksX9_drop_1 7 rfl rfl)
theorem dX9_drop_34 : decode cX9_drop 34 = .ok (.iload_n 1, 1) := dk_27 (dk_at dksX9_drop_1 10 rfl rfl)
theorem dX9_drop_35 : decode cX9_drop 35 = .ok (.iaload, 1) := dk_46 (dk_at dksX9_drop_1 11 rfl rfl)
theorem dX9_drop_36 : decode cX9_drop 36 = .ok (.istore_n 2, 1) := dk_61 (dk_at dksX9_drop_1 12 rfl rfl)
theorem dX9_drop_37 : decode cX9_drop 37 = .ok (.aload_n 0, 1) := dk_42 (dk_at dksX9_drop_1 13 rfl rfl)
theorem dX9_drop_38 : decode cX9_drop 38 = .ok (.getfield 16, 3) := dk_180 0 16 (dk_at dksX9_drop_1 14 rfl rfl)
theorem dX9_drop_41 : decode cX9_drop 41 = .ok (.iload_n 1, 1) := dk_27 (dk_at dksX9_drop_1 17 rfl rfl)
theorem dX9_drop_42 : decode cX9_drop 42 = .ok (.iconst (-1), 1) := dk_2 (dk_at dksX9_drop_1 18 rfl rfl)
theorem dX9_drop_43 : decode cX9_drop 43 = .ok (.iastore, 1) := dk_79 (dk_at dksX9_drop_1 19 rfl rfl)
theorem dX9_drop_44 : decode cX9_drop 44 = .ok (.iload_n 2, 1) := dk_28 (dk_at dksX9_drop_1 20 rfl rfl)
theorem dX9_drop_45 : decode cX9_drop 45 = .ok (.ireturn, 1) := dk_172 (dk_at dksX9_drop_1 21 rfl rfl)
abbrev cX9_feed : ByteArray := prog_16_method_17_code
def yX9_feed : MethodName := ⟨RX9, "feed", "(I)I"⟩
def dkwX9_feed_2 : List UInt8 := [180, 0, 72, 172]
abbrev dktX9_feed_2 : List UInt8 := dkwX9_feed_2 ++ []
def dkwX9_feed_1 : List UInt8 := [18, 75, 172, 42, 180, 0, 13, 42, 180, 0, 72, 27, 79, 42, 89, 180, 0, 72, 4, 96, 181, 0, 72, 42]
abbrev dktX9_feed_1 : List UInt8 := dkwX9_feed_1 ++ dktX9_feed_2
def dkwX9_feed_0 : List UInt8 := [27, 133, 9, 20, 0, 70, 184, 0, 44, 154, 0, 6, 18, 61, 172, 42, 180, 0, 72, 16, 110, 160, 0, 6]
abbrev dktX9_feed_0 : List UInt8 := dkwX9_feed_0 ++ dktX9_feed_1
theorem dksX9_feed_0 : cX9_feed.data.toList.drop 0 = dktX9_feed_0 := by decide +kernel
theorem dksX9_feed_1 : cX9_feed.data.toList.drop 24 = dktX9_feed_1 := dk_seg dksX9_feed_0 24 rfl rfl
theorem dksX9_feed_2 : cX9_feed.data.toList.drop 48 = dktX9_feed_2 := dk_seg dksX9_feed_1 24 rfl rfl
theorem dX9_feed_0 : decode cX9_feed 0 = .ok (.iload_n 1, 1) := dk_27 (dk_at dksX9_feed_0 0 rfl rfl)
theorem dX9_feed_1 : decode cX9_feed 1 = .ok (.i2l, 1) := dk_133 (dk_at dksX9_feed_0 1 rfl rfl)
theorem dX9_feed_2 : decode cX9_feed 2 = .ok (.lconst 0, 1) := dk_9 (dk_at dksX9_feed_0 2 rfl rfl)
theorem dX9_feed_3 : decode cX9_feed 3 = .ok (.ldc2_w 70, 3) := dk_20 0 70 (dk_at dksX9_feed_0 3 rfl rfl)
theorem dX9_feed_6 : decode cX9_feed 6 = .ok (.invokestatic 44, 3) := dk_184 0 44 (dk_at dksX9_feed_0 6 rfl rfl)
theorem dX9_feed_9 : decode cX9_feed 9 = .ok (.ifCond .ne 6, 3) := dk_154 0 6 (dk_at dksX9_feed_0 9 rfl rfl)
theorem dX9_feed_12 : decode cX9_feed 12 = .ok (.ldc 61, 2) := dk_18 61 (dk_at dksX9_feed_0 12 rfl rfl)
theorem dX9_feed_14 : decode cX9_feed 14 = .ok (.ireturn, 1) := dk_172 (dk_at dksX9_feed_0 14 rfl rfl)
theorem dX9_feed_15 : decode cX9_feed 15 = .ok (.aload_n 0, 1) := dk_42 (dk_at dksX9_feed_0 15 rfl rfl)
theorem dX9_feed_16 : decode cX9_feed 16 = .ok (.getfield 72, 3) := dk_180 0 72 (dk_at dksX9_feed_0 16 rfl rfl)
theorem dX9_feed_19 : decode cX9_feed 19 = .ok (.bipush 110, 2) := dk_16 110 (dk_at dksX9_feed_0 19 rfl rfl)
theorem dX9_feed_21 : decode cX9_feed 21 = .ok (.if_icmp .ne 6, 3) := dk_160 0 6 (dk_at dksX9_feed_0 21 rfl rfl)
theorem dX9_feed_24 : decode cX9_feed 24 = .ok (.ldc 75, 2) := dk_18 75 (dk_at dksX9_feed_1 0 rfl rfl)
theorem dX9_feed_26 : decode cX9_feed 26 = .ok (.ireturn, 1) := dk_172 (dk_at dksX9_feed_1 2 rfl rfl)
theorem dX9_feed_27 : decode cX9_feed 27 = .ok (.aload_n 0, 1) := dk_42 (dk_at dksX9_feed_1 3 rfl rfl)
theorem dX9_feed_28 : decode cX9_feed 28 = .ok (.getfield 13, 3) := dk_180 0 13 (dk_at dksX9_feed_1 4 rfl rfl)
theorem dX9_feed_31 : decode cX9_feed 31 = .ok (.aload_n 0, 1) := dk_42 (dk_at dksX9_feed_1 7 rfl rfl)
theorem dX9_feed_32 : decode cX9_feed 32 = .ok (.getfield 72, 3) := dk_180 0 72 (dk_at dksX9_feed_1 8 rfl rfl)
theorem dX9_feed_35 : decode cX9_feed 35 = .ok (.iload_n 1, 1) := dk_27 (dk_at dksX9_feed_1 11 rfl rfl)
theorem dX9_feed_36 : decode cX9_feed 36 = .ok (.iastore, 1) := dk_79 (dk_at dksX9_feed_1 12 rfl rfl)
theorem dX9_feed_37 : decode cX9_feed 37 = .ok (.aload_n 0, 1) := dk_42 (dk_at dksX9_feed_1 13 rfl rfl)
theorem dX9_feed_38 : decode cX9_feed 38 = .ok (.dup, 1) := dk_89 (dk_at dksX9_feed_1 14 rfl rfl)
theorem dX9_feed_39 : decode cX9_feed 39 = .ok (.getfield 72, 3) := dk_180 0 72 (dk_at dksX9_feed_1 15 rfl rfl)
theorem dX9_feed_42 : decode cX9_feed 42 = .ok (.iconst 1, 1) := dk_4 (dk_at dksX9_feed_1 18 rfl rfl)
theorem dX9_feed_43 : decode cX9_feed 43 = .ok (.iadd, 1) := dk_96 (dk_at dksX9_feed_1 19 rfl rfl)
theorem dX9_feed_44 : decode cX9_feed 44 = .ok (.putfield 72, 3) := dk_181 0 72 (dk_at dksX9_feed_1 20 rfl rfl)
theorem dX9_feed_47 : decode cX9_feed 47 = .ok (.aload_n 0, 1) := dk_42 (dk_at dksX9_feed_1 23 rfl rfl)
theorem dX9_feed_48 : decode cX9_feed 48 = .ok (.getfield 72, 3) := dk_180 0 72 (dk_at dksX9_feed_2 0 rfl rfl)
theorem dX9_feed_51 : decode cX9_feed 51 = .ok (.ireturn, 1) := dk_172 (dk_at dksX9_feed_2 3 rfl rfl)
abbrev cX9_house : ByteArray := prog_16_method_26_code
def yX9_house : MethodName := ⟨RX9, "house", "()I"⟩
def dkwX9_house_3 : List UInt8 := [3, 181, 0, 124, 42, 180, 0, 7, 3, 46, 172]
abbrev dktX9_house_3 : List UInt8 := dkwX9_house_3 ++ []
def dkwX9_house_2 : List UInt8 := [181, 0, 72, 27, 154, 0, 11, 18, 119, 42, 180, 0, 82, 100, 172, 42, 17, 0, 172, 3, 182, 0, 120, 42]
abbrev dktX9_house_2 : List UInt8 := dkwX9_house_2 ++ dktX9_house_3
def dkwX9_house_1 : List UInt8 := [167, 255, 236, 42, 180, 0, 7, 17, 0, 177, 4, 79, 42, 3, 181, 0, 76, 42, 182, 0, 116, 60, 42, 3]
abbrev dktX9_house_1 : List UInt8 := dkwX9_house_1 ++ dktX9_house_2
def dkwX9_house_0 : List UInt8 := [3, 60, 27, 16, 43, 162, 0, 20, 42, 180, 0, 7, 17, 0, 172, 27, 96, 3, 79, 132, 1, 1]
abbrev dktX9_house_0 : List UInt8 := dkwX9_house_0 ++ dktX9_house_1
theorem dksX9_house_0 : cX9_house.data.toList.drop 0 = dktX9_house_0 := by decide +kernel
theorem dksX9_house_1 : cX9_house.data.toList.drop 22 = dktX9_house_1 := dk_seg dksX9_house_0 22 rfl rfl
theorem dksX9_house_2 : cX9_house.data.toList.drop 46 = dktX9_house_2 := dk_seg dksX9_house_1 24 rfl rfl
theorem dksX9_house_3 : cX9_house.data.toList.drop 70 = dktX9_house_3 := dk_seg dksX9_house_2 24 rfl rfl
theorem dX9_house_0 : decode cX9_house 0 = .ok (.iconst 0, 1) := dk_3 (dk_at dksX9_house_0 0 rfl rfl)
theorem dX9_house_1 : decode cX9_house 1 = .ok (.istore_n 1, 1) := dk_60 (dk_at dksX9_house_0 1 rfl rfl)
theorem dX9_house_2 : decode cX9_house 2 = .ok (.iload_n 1, 1) := dk_27 (dk_at dksX9_house_0 2 rfl rfl)
theorem dX9_house_3 : decode cX9_house 3 = .ok (.bipush 43, 2) := dk_16 43 (dk_at dksX9_house_0 3 rfl rfl)
theorem dX9_house_5 : decode cX9_house 5 = .ok (.if_icmp .ge 20, 3) := dk_162 0 20 (dk_at dksX9_house_0 5 rfl rfl)
theorem dX9_house_8 : decode cX9_house 8 = .ok (.aload_n 0, 1) := dk_42 (dk_at dksX9_house_0 8 rfl rfl)
theorem dX9_house_9 : decode cX9_house 9 = .ok (.getfield 7, 3) := dk_180 0 7 (dk_at dksX9_house_0 9 rfl rfl)
theorem dX9_house_12 : decode cX9_house 12 = .ok (.sipush 172, 3) := dk_17 0 172 (dk_at dksX9_house_0 12 rfl rfl)
theorem dX9_house_15 : decode cX9_house 15 = .ok (.iload_n 1, 1) := dk_27 (dk_at dksX9_house_0 15 rfl rfl)
theorem dX9_house_16 : decode cX9_house 16 = .ok (.iadd, 1) := dk_96 (dk_at dksX9_house_0 16 rfl rfl)
theorem dX9_house_17 : decode cX9_house 17 = .ok (.iconst 0, 1) := dk_3 (dk_at dksX9_house_0 17 rfl rfl)
theorem dX9_house_18 : decode cX9_house 18 = .ok (.iastore, 1) := dk_79 (dk_at dksX9_house_0 18 rfl rfl)
theorem dX9_house_19 : decode cX9_house 19 = .ok (.iinc 1 1, 3) := dk_132 1 1 (dk_at dksX9_house_0 19 rfl rfl)
theorem dX9_house_22 : decode cX9_house 22 = .ok (.goto (-20), 3) := dk_167 255 236 (dk_at dksX9_house_1 0 rfl rfl)
theorem dX9_house_25 : decode cX9_house 25 = .ok (.aload_n 0, 1) := dk_42 (dk_at dksX9_house_1 3 rfl rfl)
theorem dX9_house_26 : decode cX9_house 26 = .ok (.getfield 7, 3) := dk_180 0 7 (dk_at dksX9_house_1 4 rfl rfl)
theorem dX9_house_29 : decode cX9_house 29 = .ok (.sipush 177, 3) := dk_17 0 177 (dk_at dksX9_house_1 7 rfl rfl)
theorem dX9_house_32 : decode cX9_house 32 = .ok (.iconst 1, 1) := dk_4 (dk_at dksX9_house_1 10 rfl rfl)
theorem dX9_house_33 : decode cX9_house 33 = .ok (.iastore, 1) := dk_79 (dk_at dksX9_house_1 11 rfl rfl)
theorem dX9_house_34 : decode cX9_house 34 = .ok (.aload_n 0, 1) := dk_42 (dk_at dksX9_house_1 12 rfl rfl)
theorem dX9_house_35 : decode cX9_house 35 = .ok (.iconst 0, 1) := dk_3 (dk_at dksX9_house_1 13 rfl rfl)
theorem dX9_house_36 : decode cX9_house 36 = .ok (.putfield 76, 3) := dk_181 0 76 (dk_at dksX9_house_1 14 rfl rfl)
theorem dX9_house_39 : decode cX9_house 39 = .ok (.aload_n 0, 1) := dk_42 (dk_at dksX9_house_1 17 rfl rfl)
theorem dX9_house_40 : decode cX9_house 40 = .ok (.invokevirtual 116, 3) := dk_182 0 116 (dk_at dksX9_house_1 18 rfl rfl)
theorem dX9_house_43 : decode cX9_house 43 = .ok (.istore_n 1, 1) := dk_60 (dk_at dksX9_house_1 21 rfl rfl)
theorem dX9_house_44 : decode cX9_house 44 = .ok (.aload_n 0, 1) := dk_42 (dk_at dksX9_house_1 22 rfl rfl)
theorem dX9_house_45 : decode cX9_house 45 = .ok (.iconst 0, 1) := dk_3 (dk_at dksX9_house_1 23 rfl rfl)
theorem dX9_house_46 : decode cX9_house 46 = .ok (.putfield 72, 3) := dk_181 0 72 (dk_at dksX9_house_2 0 rfl rfl)
theorem dX9_house_49 : decode cX9_house 49 = .ok (.iload_n 1, 1) := dk_27 (dk_at dksX9_house_2 3 rfl rfl)
theorem dX9_house_50 : decode cX9_house 50 = .ok (.ifCond .ne 11, 3) := dk_154 0 11 (dk_at dksX9_house_2 4 rfl rfl)
theorem dX9_house_53 : decode cX9_house 53 = .ok (.ldc 119, 2) := dk_18 119 (dk_at dksX9_house_2 7 rfl rfl)
theorem dX9_house_55 : decode cX9_house 55 = .ok (.aload_n 0, 1) := dk_42 (dk_at dksX9_house_2 9 rfl rfl)
theorem dX9_house_56 : decode cX9_house 56 = .ok (.getfield 82, 3) := dk_180 0 82 (dk_at dksX9_house_2 10 rfl rfl)
theorem dX9_house_59 : decode cX9_house 59 = .ok (.isub, 1) := dk_100 (dk_at dksX9_house_2 13 rfl rfl)
theorem dX9_house_60 : decode cX9_house 60 = .ok (.ireturn, 1) := dk_172 (dk_at dksX9_house_2 14 rfl rfl)
theorem dX9_house_61 : decode cX9_house 61 = .ok (.aload_n 0, 1) := dk_42 (dk_at dksX9_house_2 15 rfl rfl)
theorem dX9_house_62 : decode cX9_house 62 = .ok (.sipush 172, 3) := dk_17 0 172 (dk_at dksX9_house_2 16 rfl rfl)
theorem dX9_house_65 : decode cX9_house 65 = .ok (.iconst 0, 1) := dk_3 (dk_at dksX9_house_2 19 rfl rfl)
theorem dX9_house_66 : decode cX9_house 66 = .ok (.invokevirtual 120, 3) := dk_182 0 120 (dk_at dksX9_house_2 20 rfl rfl)
theorem dX9_house_69 : decode cX9_house 69 = .ok (.aload_n 0, 1) := dk_42 (dk_at dksX9_house_2 23 rfl rfl)
theorem dX9_house_70 : decode cX9_house 70 = .ok (.iconst 0, 1) := dk_3 (dk_at dksX9_house_3 0 rfl rfl)
theorem dX9_house_71 : decode cX9_house 71 = .ok (.putfield 124, 3) := dk_181 0 124 (dk_at dksX9_house_3 1 rfl rfl)
theorem dX9_house_74 : decode cX9_house 74 = .ok (.aload_n 0, 1) := dk_42 (dk_at dksX9_house_3 4 rfl rfl)
theorem dX9_house_75 : decode cX9_house 75 = .ok (.getfield 7, 3) := dk_180 0 7 (dk_at dksX9_house_3 5 rfl rfl)
theorem dX9_house_78 : decode cX9_house 78 = .ok (.iconst 0, 1) := dk_3 (dk_at dksX9_house_3 8 rfl rfl)
theorem dX9_house_79 : decode cX9_house 79 = .ok (.iaload, 1) := dk_46 (dk_at dksX9_house_3 9 rfl rfl)
theorem dX9_house_80 : decode cX9_house 80 = .ok (.ireturn, 1) := dk_172 (dk_at dksX9_house_3 10 rfl rfl)
abbrev cX9_takesAll : ByteArray := prog_16_method_25_code
def yX9_takesAll : MethodName := ⟨RX9, "takesAll", "()Z"⟩
def dkwX9_takesAll_1 : List UInt8 := [42, 180, 0, 72, 162, 0, 12, 42, 182, 0, 113, 154, 255, 230, 3, 172, 4, 172]
abbrev dktX9_takesAll_1 : List UInt8 := dkwX9_takesAll_1 ++ []
def dkwX9_takesAll_0 : List UInt8 := [42, 182, 0, 109, 154, 0, 5, 3, 172, 42, 180, 0, 7, 17, 0, 172, 46, 153, 0, 14, 42, 180, 0, 76]
abbrev dktX9_takesAll_0 : List UInt8 := dkwX9_takesAll_0 ++ dktX9_takesAll_1
theorem dksX9_takesAll_0 : cX9_takesAll.data.toList.drop 0 = dktX9_takesAll_0 := by decide +kernel
theorem dksX9_takesAll_1 : cX9_takesAll.data.toList.drop 24 = dktX9_takesAll_1 := dk_seg dksX9_takesAll_0 24 rfl rfl
theorem dX9_takesAll_0 : decode cX9_takesAll 0 = .ok (.aload_n 0, 1) := dk_42 (dk_at dksX9_takesAll_0 0 rfl rfl)
theorem dX9_takesAll_1 : decode cX9_takesAll 1 = .ok (.invokevirtual 109, 3) := dk_182 0 109 (dk_at dksX9_takesAll_0 1 rfl rfl)
theorem dX9_takesAll_4 : decode cX9_takesAll 4 = .ok (.ifCond .ne 5, 3) := dk_154 0 5 (dk_at dksX9_takesAll_0 4 rfl rfl)
theorem dX9_takesAll_7 : decode cX9_takesAll 7 = .ok (.iconst 0, 1) := dk_3 (dk_at dksX9_takesAll_0 7 rfl rfl)
theorem dX9_takesAll_8 : decode cX9_takesAll 8 = .ok (.ireturn, 1) := dk_172 (dk_at dksX9_takesAll_0 8 rfl rfl)
theorem dX9_takesAll_9 : decode cX9_takesAll 9 = .ok (.aload_n 0, 1) := dk_42 (dk_at dksX9_takesAll_0 9 rfl rfl)
theorem dX9_takesAll_10 : decode cX9_takesAll 10 = .ok (.getfield 7, 3) := dk_180 0 7 (dk_at dksX9_takesAll_0 10 rfl rfl)
theorem dX9_takesAll_13 : decode cX9_takesAll 13 = .ok (.sipush 172, 3) := dk_17 0 172 (dk_at dksX9_takesAll_0 13 rfl rfl)
theorem dX9_takesAll_16 : decode cX9_takesAll 16 = .ok (.iaload, 1) := dk_46 (dk_at dksX9_takesAll_0 16 rfl rfl)
theorem dX9_takesAll_17 : decode cX9_takesAll 17 = .ok (.ifCond .eq 14, 3) := dk_153 0 14 (dk_at dksX9_takesAll_0 17 rfl rfl)
theorem dX9_takesAll_20 : decode cX9_takesAll 20 = .ok (.aload_n 0, 1) := dk_42 (dk_at dksX9_takesAll_0 20 rfl rfl)
theorem dX9_takesAll_21 : decode cX9_takesAll 21 = .ok (.getfield 76, 3) := dk_180 0 76 (dk_at dksX9_takesAll_0 21 rfl rfl)
theorem dX9_takesAll_24 : decode cX9_takesAll 24 = .ok (.aload_n 0, 1) := dk_42 (dk_at dksX9_takesAll_1 0 rfl rfl)
theorem dX9_takesAll_25 : decode cX9_takesAll 25 = .ok (.getfield 72, 3) := dk_180 0 72 (dk_at dksX9_takesAll_1 1 rfl rfl)
theorem dX9_takesAll_28 : decode cX9_takesAll 28 = .ok (.if_icmp .ge 12, 3) := dk_162 0 12 (dk_at dksX9_takesAll_1 4 rfl rfl)
theorem dX9_takesAll_31 : decode cX9_takesAll 31 = .ok (.aload_n 0, 1) := dk_42 (dk_at dksX9_takesAll_1 7 rfl rfl)
theorem dX9_takesAll_32 : decode cX9_takesAll 32 = .ok (.invokevirtual 113, 3) := dk_182 0 113 (dk_at dksX9_takesAll_1 8 rfl rfl)
theorem dX9_takesAll_35 : decode cX9_takesAll 35 = .ok (.ifCond .ne (-26), 3) := dk_154 255 230 (dk_at dksX9_takesAll_1 11 rfl rfl)
theorem dX9_takesAll_38 : decode cX9_takesAll 38 = .ok (.iconst 0, 1) := dk_3 (dk_at dksX9_takesAll_1 14 rfl rfl)
theorem dX9_takesAll_39 : decode cX9_takesAll 39 = .ok (.ireturn, 1) := dk_172 (dk_at dksX9_takesAll_1 15 rfl rfl)
theorem dX9_takesAll_40 : decode cX9_takesAll 40 = .ok (.iconst 1, 1) := dk_4 (dk_at dksX9_takesAll_1 16 rfl rfl)
theorem dX9_takesAll_41 : decode cX9_takesAll 41 = .ok (.ireturn, 1) := dk_172 (dk_at dksX9_takesAll_1 17 rfl rfl)
abbrev cX9_takesLaw : ByteArray := prog_16_method_23_code
def yX9_takesLaw : MethodName := ⟨RX9, "takesLaw", "()Z"⟩
def dkwX9_takesLaw_4 : List UInt8 := [17, 0, 175, 42, 180, 0, 93, 79, 42, 16, 59, 182, 0, 100, 172]
abbrev dktX9_takesLaw_4 : List UInt8 := dkwX9_takesLaw_4 ++ []
def dkwX9_takesLaw_3 : List UInt8 := [182, 0, 100, 153, 0, 13, 42, 4, 16, 40, 182, 0, 103, 154, 0, 5, 3, 172, 42, 180, 0, 7]
abbrev dktX9_takesLaw_3 : List UInt8 := dkwX9_takesLaw_3 ++ dktX9_takesLaw_4
def dkwX9_takesLaw_2 : List UInt8 := [182, 0, 103, 154, 0, 5, 3, 172, 42, 180, 0, 7, 17, 0, 174, 42, 180, 0, 93, 79, 42, 16, 44]
abbrev dktX9_takesLaw_2 : List UInt8 := dkwX9_takesLaw_2 ++ dktX9_takesLaw_3
def dkwX9_takesLaw_1 : List UInt8 := [180, 0, 7, 17, 0, 173, 42, 180, 0, 93, 79, 42, 16, 44, 182, 0, 100, 153, 0, 12, 42, 4, 7]
abbrev dktX9_takesLaw_1 : List UInt8 := dkwX9_takesLaw_1 ++ dktX9_takesLaw_2
def dkwX9_takesLaw_0 : List UInt8 := [42, 16, 100, 182, 0, 100, 153, 0, 13, 42, 5, 16, 9, 182, 0, 103, 154, 0, 5, 3, 172, 42]
abbrev dktX9_takesLaw_0 : List UInt8 := dkwX9_takesLaw_0 ++ dktX9_takesLaw_1
theorem dksX9_takesLaw_0 : cX9_takesLaw.data.toList.drop 0 = dktX9_takesLaw_0 := by decide +kernel
theorem dksX9_takesLaw_1 : cX9_takesLaw.data.toList.drop 22 = dktX9_takesLaw_1 := dk_seg dksX9_takesLaw_0 22 rfl rfl
theorem dksX9_takesLaw_2 : cX9_takesLaw.data.toList.drop 45 = dktX9_takesLaw_2 := dk_seg dksX9_takesLaw_1 23 rfl rfl
theorem dksX9_takesLaw_3 : cX9_takesLaw.data.toList.drop 68 = dktX9_takesLaw_3 := dk_seg dksX9_takesLaw_2 23 rfl rfl
theorem dksX9_takesLaw_4 : cX9_takesLaw.data.toList.drop 90 = dktX9_takesLaw_4 := dk_seg dksX9_takesLaw_3 22 rfl rfl
theorem dX9_takesLaw_0 : decode cX9_takesLaw 0 = .ok (.aload_n 0, 1) := dk_42 (dk_at dksX9_takesLaw_0 0 rfl rfl)
theorem dX9_takesLaw_1 : decode cX9_takesLaw 1 = .ok (.bipush 100, 2) := dk_16 100 (dk_at dksX9_takesLaw_0 1 rfl rfl)
theorem dX9_takesLaw_3 : decode cX9_takesLaw 3 = .ok (.invokevirtual 100, 3) := dk_182 0 100 (dk_at dksX9_takesLaw_0 3 rfl rfl)
theorem dX9_takesLaw_6 : decode cX9_takesLaw 6 = .ok (.ifCond .eq 13, 3) := dk_153 0 13 (dk_at dksX9_takesLaw_0 6 rfl rfl)
theorem dX9_takesLaw_9 : decode cX9_takesLaw 9 = .ok (.aload_n 0, 1) := dk_42 (dk_at dksX9_takesLaw_0 9 rfl rfl)
theorem dX9_takesLaw_10 : decode cX9_takesLaw 10 = .ok (.iconst 2, 1) := dk_5 (dk_at dksX9_takesLaw_0 10 rfl rfl)
theorem dX9_takesLaw_11 : decode cX9_takesLaw 11 = .ok (.bipush 9, 2) := dk_16 9 (dk_at dksX9_takesLaw_0 11 rfl rfl)
theorem dX9_takesLaw_13 : decode cX9_takesLaw 13 = .ok (.invokevirtual 103, 3) := dk_182 0 103 (dk_at dksX9_takesLaw_0 13 rfl rfl)
theorem dX9_takesLaw_16 : decode cX9_takesLaw 16 = .ok (.ifCond .ne 5, 3) := dk_154 0 5 (dk_at dksX9_takesLaw_0 16 rfl rfl)
theorem dX9_takesLaw_19 : decode cX9_takesLaw 19 = .ok (.iconst 0, 1) := dk_3 (dk_at dksX9_takesLaw_0 19 rfl rfl)
theorem dX9_takesLaw_20 : decode cX9_takesLaw 20 = .ok (.ireturn, 1) := dk_172 (dk_at dksX9_takesLaw_0 20 rfl rfl)
theorem dX9_takesLaw_21 : decode cX9_takesLaw 21 = .ok (.aload_n 0, 1) := dk_42 (dk_at dksX9_takesLaw_0 21 rfl rfl)
theorem dX9_takesLaw_22 : decode cX9_takesLaw 22 = .ok (.getfield 7, 3) := dk_180 0 7 (dk_at dksX9_takesLaw_1 0 rfl rfl)
theorem dX9_takesLaw_25 : decode cX9_takesLaw 25 = .ok (.sipush 173, 3) := dk_17 0 173 (dk_at dksX9_takesLaw_1 3 rfl rfl)
theorem dX9_takesLaw_28 : decode cX9_takesLaw 28 = .ok (.aload_n 0, 1) := dk_42 (dk_at dksX9_takesLaw_1 6 rfl rfl)
theorem dX9_takesLaw_29 : decode cX9_takesLaw 29 = .ok (.getfield 93, 3) := dk_180 0 93 (dk_at dksX9_takesLaw_1 7 rfl rfl)
theorem dX9_takesLaw_32 : decode cX9_takesLaw 32 = .ok (.iastore, 1) := dk_79 (dk_at dksX9_takesLaw_1 10 rfl rfl)
theorem dX9_takesLaw_33 : decode cX9_takesLaw 33 = .ok (.aload_n 0, 1) := dk_42 (dk_at dksX9_takesLaw_1 11 rfl rfl)
theorem dX9_takesLaw_34 : decode cX9_takesLaw 34 = .ok (.bipush 44, 2) := dk_16 44 (dk_at dksX9_takesLaw_1 12 rfl rfl)
theorem dX9_takesLaw_36 : decode cX9_takesLaw 36 = .ok (.invokevirtual 100, 3) := dk_182 0 100 (dk_at dksX9_takesLaw_1 14 rfl rfl)
theorem dX9_takesLaw_39 : decode cX9_takesLaw 39 = .ok (.ifCond .eq 12, 3) := dk_153 0 12 (dk_at dksX9_takesLaw_1 17 rfl rfl)
theorem dX9_takesLaw_42 : decode cX9_takesLaw 42 = .ok (.aload_n 0, 1) := dk_42 (dk_at dksX9_takesLaw_1 20 rfl rfl)
theorem dX9_takesLaw_43 : decode cX9_takesLaw 43 = .ok (.iconst 1, 1) := dk_4 (dk_at dksX9_takesLaw_1 21 rfl rfl)
theorem dX9_takesLaw_44 : decode cX9_takesLaw 44 = .ok (.iconst 4, 1) := dk_7 (dk_at dksX9_takesLaw_1 22 rfl rfl)
theorem dX9_takesLaw_45 : decode cX9_takesLaw 45 = .ok (.invokevirtual 103, 3) := dk_182 0 103 (dk_at dksX9_takesLaw_2 0 rfl rfl)
theorem dX9_takesLaw_48 : decode cX9_takesLaw 48 = .ok (.ifCond .ne 5, 3) := dk_154 0 5 (dk_at dksX9_takesLaw_2 3 rfl rfl)
theorem dX9_takesLaw_51 : decode cX9_takesLaw 51 = .ok (.iconst 0, 1) := dk_3 (dk_at dksX9_takesLaw_2 6 rfl rfl)
theorem dX9_takesLaw_52 : decode cX9_takesLaw 52 = .ok (.ireturn, 1) := dk_172 (dk_at dksX9_takesLaw_2 7 rfl rfl)
theorem dX9_takesLaw_53 : decode cX9_takesLaw 53 = .ok (.aload_n 0, 1) := dk_42 (dk_at dksX9_takesLaw_2 8 rfl rfl)
theorem dX9_takesLaw_54 : decode cX9_takesLaw 54 = .ok (.getfield 7, 3) := dk_180 0 7 (dk_at dksX9_takesLaw_2 9 rfl rfl)
theorem dX9_takesLaw_57 : decode cX9_takesLaw 57 = .ok (.sipush 174, 3) := dk_17 0 174 (dk_at dksX9_takesLaw_2 12 rfl rfl)
theorem dX9_takesLaw_60 : decode cX9_takesLaw 60 = .ok (.aload_n 0, 1) := dk_42 (dk_at dksX9_takesLaw_2 15 rfl rfl)
theorem dX9_takesLaw_61 : decode cX9_takesLaw 61 = .ok (.getfield 93, 3) := dk_180 0 93 (dk_at dksX9_takesLaw_2 16 rfl rfl)
theorem dX9_takesLaw_64 : decode cX9_takesLaw 64 = .ok (.iastore, 1) := dk_79 (dk_at dksX9_takesLaw_2 19 rfl rfl)
theorem dX9_takesLaw_65 : decode cX9_takesLaw 65 = .ok (.aload_n 0, 1) := dk_42 (dk_at dksX9_takesLaw_2 20 rfl rfl)
theorem dX9_takesLaw_66 : decode cX9_takesLaw 66 = .ok (.bipush 44, 2) := dk_16 44 (dk_at dksX9_takesLaw_2 21 rfl rfl)
theorem dX9_takesLaw_68 : decode cX9_takesLaw 68 = .ok (.invokevirtual 100, 3) := dk_182 0 100 (dk_at dksX9_takesLaw_3 0 rfl rfl)
theorem dX9_takesLaw_71 : decode cX9_takesLaw 71 = .ok (.ifCond .eq 13, 3) := dk_153 0 13 (dk_at dksX9_takesLaw_3 3 rfl rfl)
theorem dX9_takesLaw_74 : decode cX9_takesLaw 74 = .ok (.aload_n 0, 1) := dk_42 (dk_at dksX9_takesLaw_3 6 rfl rfl)
theorem dX9_takesLaw_75 : decode cX9_takesLaw 75 = .ok (.iconst 1, 1) := dk_4 (dk_at dksX9_takesLaw_3 7 rfl rfl)
theorem dX9_takesLaw_76 : decode cX9_takesLaw 76 = .ok (.bipush 40, 2) := dk_16 40 (dk_at dksX9_takesLaw_3 8 rfl rfl)
theorem dX9_takesLaw_78 : decode cX9_takesLaw 78 = .ok (.invokevirtual 103, 3) := dk_182 0 103 (dk_at dksX9_takesLaw_3 10 rfl rfl)
theorem dX9_takesLaw_81 : decode cX9_takesLaw 81 = .ok (.ifCond .ne 5, 3) := dk_154 0 5 (dk_at dksX9_takesLaw_3 13 rfl rfl)
theorem dX9_takesLaw_84 : decode cX9_takesLaw 84 = .ok (.iconst 0, 1) := dk_3 (dk_at dksX9_takesLaw_3 16 rfl rfl)
theorem dX9_takesLaw_85 : decode cX9_takesLaw 85 = .ok (.ireturn, 1) := dk_172 (dk_at dksX9_takesLaw_3 17 rfl rfl)
theorem dX9_takesLaw_86 : decode cX9_takesLaw 86 = .ok (.aload_n 0, 1) := dk_42 (dk_at dksX9_takesLaw_3 18 rfl rfl)
theorem dX9_takesLaw_87 : decode cX9_takesLaw 87 = .ok (.getfield 7, 3) := dk_180 0 7 (dk_at dksX9_takesLaw_3 19 rfl rfl)
theorem dX9_takesLaw_90 : decode cX9_takesLaw 90 = .ok (.sipush 175, 3) := dk_17 0 175 (dk_at dksX9_takesLaw_4 0 rfl rfl)
theorem dX9_takesLaw_93 : decode cX9_takesLaw 93 = .ok (.aload_n 0, 1) := dk_42 (dk_at dksX9_takesLaw_4 3 rfl rfl)
theorem dX9_takesLaw_94 : decode cX9_takesLaw 94 = .ok (.getfield 93, 3) := dk_180 0 93 (dk_at dksX9_takesLaw_4 4 rfl rfl)
theorem dX9_takesLaw_97 : decode cX9_takesLaw 97 = .ok (.iastore, 1) := dk_79 (dk_at dksX9_takesLaw_4 7 rfl rfl)
theorem dX9_takesLaw_98 : decode cX9_takesLaw 98 = .ok (.aload_n 0, 1) := dk_42 (dk_at dksX9_takesLaw_4 8 rfl rfl)
theorem dX9_takesLaw_99 : decode cX9_takesLaw 99 = .ok (.bipush 59, 2) := dk_16 59 (dk_at dksX9_takesLaw_4 9 rfl rfl)
theorem dX9_takesLaw_101 : decode cX9_takesLaw 101 = .ok (.invokevirtual 100, 3) := dk_182 0 100 (dk_at dksX9_takesLaw_4 11 rfl rfl)
theorem dX9_takesLaw_104 : decode cX9_takesLaw 104 = .ok (.ireturn, 1) := dk_172 (dk_at dksX9_takesLaw_4 14 rfl rfl)
abbrev cX9_takes : ByteArray := prog_16_method_20_code
def yX9_takes : MethodName := ⟨RX9, "takes", "(I)Z"⟩
def dkwX9_takes_1 : List UInt8 := [96, 181, 0, 76, 4, 172]
abbrev dktX9_takes_1 : List UInt8 := dkwX9_takes_1 ++ []
def dkwX9_takes_0 : List UInt8 := [42, 182, 0, 85, 27, 159, 0, 13, 42, 4, 42, 180, 0, 76, 182, 0, 89, 172, 42, 89, 180, 0, 76, 4]
abbrev dktX9_takes_0 : List UInt8 := dkwX9_takes_0 ++ dktX9_takes_1
theorem dksX9_takes_0 : cX9_takes.data.toList.drop 0 = dktX9_takes_0 := by decide +kernel
theorem dksX9_takes_1 : cX9_takes.data.toList.drop 24 = dktX9_takes_1 := dk_seg dksX9_takes_0 24 rfl rfl
theorem dX9_takes_0 : decode cX9_takes 0 = .ok (.aload_n 0, 1) := dk_42 (dk_at dksX9_takes_0 0 rfl rfl)
theorem dX9_takes_1 : decode cX9_takes 1 = .ok (.invokevirtual 85, 3) := dk_182 0 85 (dk_at dksX9_takes_0 1 rfl rfl)
theorem dX9_takes_4 : decode cX9_takes 4 = .ok (.iload_n 1, 1) := dk_27 (dk_at dksX9_takes_0 4 rfl rfl)
theorem dX9_takes_5 : decode cX9_takes 5 = .ok (.if_icmp .eq 13, 3) := dk_159 0 13 (dk_at dksX9_takes_0 5 rfl rfl)
theorem dX9_takes_8 : decode cX9_takes 8 = .ok (.aload_n 0, 1) := dk_42 (dk_at dksX9_takes_0 8 rfl rfl)
theorem dX9_takes_9 : decode cX9_takes 9 = .ok (.iconst 1, 1) := dk_4 (dk_at dksX9_takes_0 9 rfl rfl)
theorem dX9_takes_10 : decode cX9_takes 10 = .ok (.aload_n 0, 1) := dk_42 (dk_at dksX9_takes_0 10 rfl rfl)
theorem dX9_takes_11 : decode cX9_takes 11 = .ok (.getfield 76, 3) := dk_180 0 76 (dk_at dksX9_takes_0 11 rfl rfl)
theorem dX9_takes_14 : decode cX9_takes 14 = .ok (.invokevirtual 89, 3) := dk_182 0 89 (dk_at dksX9_takes_0 14 rfl rfl)
theorem dX9_takes_17 : decode cX9_takes 17 = .ok (.ireturn, 1) := dk_172 (dk_at dksX9_takes_0 17 rfl rfl)
theorem dX9_takes_18 : decode cX9_takes 18 = .ok (.aload_n 0, 1) := dk_42 (dk_at dksX9_takes_0 18 rfl rfl)
theorem dX9_takes_19 : decode cX9_takes 19 = .ok (.dup, 1) := dk_89 (dk_at dksX9_takes_0 19 rfl rfl)
theorem dX9_takes_20 : decode cX9_takes 20 = .ok (.getfield 76, 3) := dk_180 0 76 (dk_at dksX9_takes_0 20 rfl rfl)
theorem dX9_takes_23 : decode cX9_takes 23 = .ok (.iconst 1, 1) := dk_4 (dk_at dksX9_takes_0 23 rfl rfl)
theorem dX9_takes_24 : decode cX9_takes 24 = .ok (.iadd, 1) := dk_96 (dk_at dksX9_takes_1 0 rfl rfl)
theorem dX9_takes_25 : decode cX9_takes 25 = .ok (.putfield 76, 3) := dk_181 0 76 (dk_at dksX9_takes_1 1 rfl rfl)
theorem dX9_takes_28 : decode cX9_takes 28 = .ok (.iconst 1, 1) := dk_4 (dk_at dksX9_takes_1 4 rfl rfl)
theorem dX9_takes_29 : decode cX9_takes 29 = .ok (.ireturn, 1) := dk_172 (dk_at dksX9_takes_1 5 rfl rfl)
abbrev cX9_here : ByteArray := prog_16_method_18_code
def yX9_here : MethodName := ⟨RX9, "here", "()I"⟩
def dkwX9_here_1 : List UInt8 := [172]
abbrev dktX9_here_1 : List UInt8 := dkwX9_here_1 ++ []
def dkwX9_here_0 : List UInt8 := [42, 180, 0, 76, 42, 180, 0, 72, 162, 0, 15, 42, 180, 0, 13, 42, 180, 0, 76, 46, 167, 0, 4, 2]
abbrev dktX9_here_0 : List UInt8 := dkwX9_here_0 ++ dktX9_here_1
theorem dksX9_here_0 : cX9_here.data.toList.drop 0 = dktX9_here_0 := by decide +kernel
theorem dksX9_here_1 : cX9_here.data.toList.drop 24 = dktX9_here_1 := dk_seg dksX9_here_0 24 rfl rfl
theorem dX9_here_0 : decode cX9_here 0 = .ok (.aload_n 0, 1) := dk_42 (dk_at dksX9_here_0 0 rfl rfl)
theorem dX9_here_1 : decode cX9_here 1 = .ok (.getfield 76, 3) := dk_180 0 76 (dk_at dksX9_here_0 1 rfl rfl)
theorem dX9_here_4 : decode cX9_here 4 = .ok (.aload_n 0, 1) := dk_42 (dk_at dksX9_here_0 4 rfl rfl)
theorem dX9_here_5 : decode cX9_here 5 = .ok (.getfield 72, 3) := dk_180 0 72 (dk_at dksX9_here_0 5 rfl rfl)
theorem dX9_here_8 : decode cX9_here 8 = .ok (.if_icmp .ge 15, 3) := dk_162 0 15 (dk_at dksX9_here_0 8 rfl rfl)
theorem dX9_here_11 : decode cX9_here 11 = .ok (.aload_n 0, 1) := dk_42 (dk_at dksX9_here_0 11 rfl rfl)
theorem dX9_here_12 : decode cX9_here 12 = .ok (.getfield 13, 3) := dk_180 0 13 (dk_at dksX9_here_0 12 rfl rfl)
theorem dX9_here_15 : decode cX9_here 15 = .ok (.aload_n 0, 1) := dk_42 (dk_at dksX9_here_0 15 rfl rfl)
theorem dX9_here_16 : decode cX9_here 16 = .ok (.getfield 76, 3) := dk_180 0 76 (dk_at dksX9_here_0 16 rfl rfl)
theorem dX9_here_19 : decode cX9_here 19 = .ok (.iaload, 1) := dk_46 (dk_at dksX9_here_0 19 rfl rfl)
theorem dX9_here_20 : decode cX9_here 20 = .ok (.goto 4, 3) := dk_167 0 4 (dk_at dksX9_here_0 20 rfl rfl)
theorem dX9_here_23 : decode cX9_here 23 = .ok (.iconst (-1), 1) := dk_2 (dk_at dksX9_here_0 23 rfl rfl)
theorem dX9_here_24 : decode cX9_here 24 = .ok (.ireturn, 1) := dk_172 (dk_at dksX9_here_1 0 rfl rfl)
abbrev cX9_fails : ByteArray := prog_16_method_19_code
def yX9_fails : MethodName := ⟨RX9, "fails", "(II)Z"⟩
def dkwX9_fails_0 : List UInt8 := [42, 27, 181, 0, 79, 42, 28, 181, 0, 82, 3, 172]
abbrev dktX9_fails_0 : List UInt8 := dkwX9_fails_0 ++ []
theorem dksX9_fails_0 : cX9_fails.data.toList.drop 0 = dktX9_fails_0 := by decide +kernel
theorem dX9_fails_0 : decode cX9_fails 0 = .ok (.aload_n 0, 1) := dk_42 (dk_at dksX9_fails_0 0 rfl rfl)
theorem dX9_fails_1 : decode cX9_fails 1 = .ok (.iload_n 1, 1) := dk_27 (dk_at dksX9_fails_0 1 rfl rfl)
theorem dX9_fails_2 : decode cX9_fails 2 = .ok (.putfield 79, 3) := dk_181 0 79 (dk_at dksX9_fails_0 2 rfl rfl)
theorem dX9_fails_5 : decode cX9_fails 5 = .ok (.aload_n 0, 1) := dk_42 (dk_at dksX9_fails_0 5 rfl rfl)
theorem dX9_fails_6 : decode cX9_fails 6 = .ok (.iload_n 2, 1) := dk_28 (dk_at dksX9_fails_0 6 rfl rfl)
theorem dX9_fails_7 : decode cX9_fails 7 = .ok (.putfield 82, 3) := dk_181 0 82 (dk_at dksX9_fails_0 7 rfl rfl)
theorem dX9_fails_10 : decode cX9_fails 10 = .ok (.iconst 0, 1) := dk_3 (dk_at dksX9_fails_0 10 rfl rfl)
theorem dX9_fails_11 : decode cX9_fails 11 = .ok (.ireturn, 1) := dk_172 (dk_at dksX9_fails_0 11 rfl rfl)
abbrev cX9_takesNumber : ByteArray := prog_16_method_21_code
def yX9_takesNumber : MethodName := ⟨RX9, "takesNumber", "(II)Z"⟩
def dkwX9_takesNumber_5 : List UInt8 := [182, 0, 89, 172, 4, 172]
abbrev dktX9_takesNumber_5 : List UInt8 := dkwX9_takesNumber_5 ++ []
def dkwX9_takesNumber_4 : List UInt8 := [4, 29, 182, 0, 89, 172, 42, 180, 0, 93, 133, 27, 133, 28, 133, 184, 0, 44, 154, 0, 10, 42, 5, 29]
abbrev dktX9_takesNumber_4 : List UInt8 := dkwX9_takesNumber_4 ++ dktX9_takesNumber_5
def dkwX9_takesNumber_3 : List UInt8 := [181, 0, 76, 167, 255, 193, 42, 180, 0, 76, 29, 100, 133, 10, 20, 0, 59, 184, 0, 44, 154, 0, 10, 42]
abbrev dktX9_takesNumber_3 : List UInt8 := dkwX9_takesNumber_3 ++ dktX9_takesNumber_4
def dkwX9_takesNumber_2 : List UInt8 := [182, 0, 85, 96, 16, 48, 100, 167, 0, 7, 42, 180, 0, 93, 181, 0, 93, 42, 89, 180, 0, 76, 4, 96]
abbrev dktX9_takesNumber_2 : List UInt8 := dkwX9_takesNumber_2 ++ dktX9_takesNumber_3
def dkwX9_takesNumber_1 : List UInt8 := [153, 0, 52, 42, 42, 180, 0, 76, 29, 100, 5, 162, 0, 21, 16, 10, 42, 180, 0, 93, 104, 42]
abbrev dktX9_takesNumber_1 : List UInt8 := dkwX9_takesNumber_1 ++ dktX9_takesNumber_2
def dkwX9_takesNumber_0 : List UInt8 := [42, 180, 0, 76, 62, 42, 3, 181, 0, 93, 42, 182, 0, 85, 133, 20, 0, 96, 20, 0, 98, 184, 0, 44]
abbrev dktX9_takesNumber_0 : List UInt8 := dkwX9_takesNumber_0 ++ dktX9_takesNumber_1
theorem dksX9_takesNumber_0 : cX9_takesNumber.data.toList.drop 0 = dktX9_takesNumber_0 := by decide +kernel
theorem dksX9_takesNumber_1 : cX9_takesNumber.data.toList.drop 24 = dktX9_takesNumber_1 := dk_seg dksX9_takesNumber_0 24 rfl rfl
theorem dksX9_takesNumber_2 : cX9_takesNumber.data.toList.drop 46 = dktX9_takesNumber_2 := dk_seg dksX9_takesNumber_1 22 rfl rfl
theorem dksX9_takesNumber_3 : cX9_takesNumber.data.toList.drop 70 = dktX9_takesNumber_3 := dk_seg dksX9_takesNumber_2 24 rfl rfl
theorem dksX9_takesNumber_4 : cX9_takesNumber.data.toList.drop 94 = dktX9_takesNumber_4 := dk_seg dksX9_takesNumber_3 24 rfl rfl
theorem dksX9_takesNumber_5 : cX9_takesNumber.data.toList.drop 118 = dktX9_takesNumber_5 := dk_seg dksX9_takesNumber_4 24 rfl rfl
theorem dX9_takesNumber_0 : decode cX9_takesNumber 0 = .ok (.aload_n 0, 1) := dk_42 (dk_at dksX9_takesNumber_0 0 rfl rfl)
theorem dX9_takesNumber_1 : decode cX9_takesNumber 1 = .ok (.getfield 76, 3) := dk_180 0 76 (dk_at dksX9_takesNumber_0 1 rfl rfl)
theorem dX9_takesNumber_4 : decode cX9_takesNumber 4 = .ok (.istore_n 3, 1) := dk_62 (dk_at dksX9_takesNumber_0 4 rfl rfl)
theorem dX9_takesNumber_5 : decode cX9_takesNumber 5 = .ok (.aload_n 0, 1) := dk_42 (dk_at dksX9_takesNumber_0 5 rfl rfl)
theorem dX9_takesNumber_6 : decode cX9_takesNumber 6 = .ok (.iconst 0, 1) := dk_3 (dk_at dksX9_takesNumber_0 6 rfl rfl)
theorem dX9_takesNumber_7 : decode cX9_takesNumber 7 = .ok (.putfield 93, 3) := dk_181 0 93 (dk_at dksX9_takesNumber_0 7 rfl rfl)
theorem dX9_takesNumber_10 : decode cX9_takesNumber 10 = .ok (.aload_n 0, 1) := dk_42 (dk_at dksX9_takesNumber_0 10 rfl rfl)
theorem dX9_takesNumber_11 : decode cX9_takesNumber 11 = .ok (.invokevirtual 85, 3) := dk_182 0 85 (dk_at dksX9_takesNumber_0 11 rfl rfl)
theorem dX9_takesNumber_14 : decode cX9_takesNumber 14 = .ok (.i2l, 1) := dk_133 (dk_at dksX9_takesNumber_0 14 rfl rfl)
theorem dX9_takesNumber_15 : decode cX9_takesNumber 15 = .ok (.ldc2_w 96, 3) := dk_20 0 96 (dk_at dksX9_takesNumber_0 15 rfl rfl)
theorem dX9_takesNumber_18 : decode cX9_takesNumber 18 = .ok (.ldc2_w 98, 3) := dk_20 0 98 (dk_at dksX9_takesNumber_0 18 rfl rfl)
theorem dX9_takesNumber_21 : decode cX9_takesNumber 21 = .ok (.invokestatic 44, 3) := dk_184 0 44 (dk_at dksX9_takesNumber_0 21 rfl rfl)
theorem dX9_takesNumber_24 : decode cX9_takesNumber 24 = .ok (.ifCond .eq 52, 3) := dk_153 0 52 (dk_at dksX9_takesNumber_1 0 rfl rfl)
theorem dX9_takesNumber_27 : decode cX9_takesNumber 27 = .ok (.aload_n 0, 1) := dk_42 (dk_at dksX9_takesNumber_1 3 rfl rfl)
theorem dX9_takesNumber_28 : decode cX9_takesNumber 28 = .ok (.aload_n 0, 1) := dk_42 (dk_at dksX9_takesNumber_1 4 rfl rfl)
theorem dX9_takesNumber_29 : decode cX9_takesNumber 29 = .ok (.getfield 76, 3) := dk_180 0 76 (dk_at dksX9_takesNumber_1 5 rfl rfl)
theorem dX9_takesNumber_32 : decode cX9_takesNumber 32 = .ok (.iload_n 3, 1) := dk_29 (dk_at dksX9_takesNumber_1 8 rfl rfl)
theorem dX9_takesNumber_33 : decode cX9_takesNumber 33 = .ok (.isub, 1) := dk_100 (dk_at dksX9_takesNumber_1 9 rfl rfl)
theorem dX9_takesNumber_34 : decode cX9_takesNumber 34 = .ok (.iconst 2, 1) := dk_5 (dk_at dksX9_takesNumber_1 10 rfl rfl)
theorem dX9_takesNumber_35 : decode cX9_takesNumber 35 = .ok (.if_icmp .ge 21, 3) := dk_162 0 21 (dk_at dksX9_takesNumber_1 11 rfl rfl)
theorem dX9_takesNumber_38 : decode cX9_takesNumber 38 = .ok (.bipush 10, 2) := dk_16 10 (dk_at dksX9_takesNumber_1 14 rfl rfl)
theorem dX9_takesNumber_40 : decode cX9_takesNumber 40 = .ok (.aload_n 0, 1) := dk_42 (dk_at dksX9_takesNumber_1 16 rfl rfl)
theorem dX9_takesNumber_41 : decode cX9_takesNumber 41 = .ok (.getfield 93, 3) := dk_180 0 93 (dk_at dksX9_takesNumber_1 17 rfl rfl)
theorem dX9_takesNumber_44 : decode cX9_takesNumber 44 = .ok (.imul, 1) := dk_104 (dk_at dksX9_takesNumber_1 20 rfl rfl)
theorem dX9_takesNumber_45 : decode cX9_takesNumber 45 = .ok (.aload_n 0, 1) := dk_42 (dk_at dksX9_takesNumber_1 21 rfl rfl)
theorem dX9_takesNumber_46 : decode cX9_takesNumber 46 = .ok (.invokevirtual 85, 3) := dk_182 0 85 (dk_at dksX9_takesNumber_2 0 rfl rfl)
theorem dX9_takesNumber_49 : decode cX9_takesNumber 49 = .ok (.iadd, 1) := dk_96 (dk_at dksX9_takesNumber_2 3 rfl rfl)
theorem dX9_takesNumber_50 : decode cX9_takesNumber 50 = .ok (.bipush 48, 2) := dk_16 48 (dk_at dksX9_takesNumber_2 4 rfl rfl)
theorem dX9_takesNumber_52 : decode cX9_takesNumber 52 = .ok (.isub, 1) := dk_100 (dk_at dksX9_takesNumber_2 6 rfl rfl)
theorem dX9_takesNumber_53 : decode cX9_takesNumber 53 = .ok (.goto 7, 3) := dk_167 0 7 (dk_at dksX9_takesNumber_2 7 rfl rfl)
theorem dX9_takesNumber_56 : decode cX9_takesNumber 56 = .ok (.aload_n 0, 1) := dk_42 (dk_at dksX9_takesNumber_2 10 rfl rfl)
theorem dX9_takesNumber_57 : decode cX9_takesNumber 57 = .ok (.getfield 93, 3) := dk_180 0 93 (dk_at dksX9_takesNumber_2 11 rfl rfl)
theorem dX9_takesNumber_60 : decode cX9_takesNumber 60 = .ok (.putfield 93, 3) := dk_181 0 93 (dk_at dksX9_takesNumber_2 14 rfl rfl)
theorem dX9_takesNumber_63 : decode cX9_takesNumber 63 = .ok (.aload_n 0, 1) := dk_42 (dk_at dksX9_takesNumber_2 17 rfl rfl)
theorem dX9_takesNumber_64 : decode cX9_takesNumber 64 = .ok (.dup, 1) := dk_89 (dk_at dksX9_takesNumber_2 18 rfl rfl)
theorem dX9_takesNumber_65 : decode cX9_takesNumber 65 = .ok (.getfield 76, 3) := dk_180 0 76 (dk_at dksX9_takesNumber_2 19 rfl rfl)
theorem dX9_takesNumber_68 : decode cX9_takesNumber 68 = .ok (.iconst 1, 1) := dk_4 (dk_at dksX9_takesNumber_2 22 rfl rfl)
theorem dX9_takesNumber_69 : decode cX9_takesNumber 69 = .ok (.iadd, 1) := dk_96 (dk_at dksX9_takesNumber_2 23 rfl rfl)
theorem dX9_takesNumber_70 : decode cX9_takesNumber 70 = .ok (.putfield 76, 3) := dk_181 0 76 (dk_at dksX9_takesNumber_3 0 rfl rfl)
theorem dX9_takesNumber_73 : decode cX9_takesNumber 73 = .ok (.goto (-63), 3) := dk_167 255 193 (dk_at dksX9_takesNumber_3 3 rfl rfl)
theorem dX9_takesNumber_76 : decode cX9_takesNumber 76 = .ok (.aload_n 0, 1) := dk_42 (dk_at dksX9_takesNumber_3 6 rfl rfl)
theorem dX9_takesNumber_77 : decode cX9_takesNumber 77 = .ok (.getfield 76, 3) := dk_180 0 76 (dk_at dksX9_takesNumber_3 7 rfl rfl)
theorem dX9_takesNumber_80 : decode cX9_takesNumber 80 = .ok (.iload_n 3, 1) := dk_29 (dk_at dksX9_takesNumber_3 10 rfl rfl)
theorem dX9_takesNumber_81 : decode cX9_takesNumber 81 = .ok (.isub, 1) := dk_100 (dk_at dksX9_takesNumber_3 11 rfl rfl)
theorem dX9_takesNumber_82 : decode cX9_takesNumber 82 = .ok (.i2l, 1) := dk_133 (dk_at dksX9_takesNumber_3 12 rfl rfl)
theorem dX9_takesNumber_83 : decode cX9_takesNumber 83 = .ok (.lconst 1, 1) := dk_10 (dk_at dksX9_takesNumber_3 13 rfl rfl)
theorem dX9_takesNumber_84 : decode cX9_takesNumber 84 = .ok (.ldc2_w 59, 3) := dk_20 0 59 (dk_at dksX9_takesNumber_3 14 rfl rfl)
theorem dX9_takesNumber_87 : decode cX9_takesNumber 87 = .ok (.invokestatic 44, 3) := dk_184 0 44 (dk_at dksX9_takesNumber_3 17 rfl rfl)
theorem dX9_takesNumber_90 : decode cX9_takesNumber 90 = .ok (.ifCond .ne 10, 3) := dk_154 0 10 (dk_at dksX9_takesNumber_3 20 rfl rfl)
theorem dX9_takesNumber_93 : decode cX9_takesNumber 93 = .ok (.aload_n 0, 1) := dk_42 (dk_at dksX9_takesNumber_3 23 rfl rfl)
theorem dX9_takesNumber_94 : decode cX9_takesNumber 94 = .ok (.iconst 1, 1) := dk_4 (dk_at dksX9_takesNumber_4 0 rfl rfl)
theorem dX9_takesNumber_95 : decode cX9_takesNumber 95 = .ok (.iload_n 3, 1) := dk_29 (dk_at dksX9_takesNumber_4 1 rfl rfl)
theorem dX9_takesNumber_96 : decode cX9_takesNumber 96 = .ok (.invokevirtual 89, 3) := dk_182 0 89 (dk_at dksX9_takesNumber_4 2 rfl rfl)
theorem dX9_takesNumber_99 : decode cX9_takesNumber 99 = .ok (.ireturn, 1) := dk_172 (dk_at dksX9_takesNumber_4 5 rfl rfl)
theorem dX9_takesNumber_100 : decode cX9_takesNumber 100 = .ok (.aload_n 0, 1) := dk_42 (dk_at dksX9_takesNumber_4 6 rfl rfl)
theorem dX9_takesNumber_101 : decode cX9_takesNumber 101 = .ok (.getfield 93, 3) := dk_180 0 93 (dk_at dksX9_takesNumber_4 7 rfl rfl)
theorem dX9_takesNumber_104 : decode cX9_takesNumber 104 = .ok (.i2l, 1) := dk_133 (dk_at dksX9_takesNumber_4 10 rfl rfl)
theorem dX9_takesNumber_105 : decode cX9_takesNumber 105 = .ok (.iload_n 1, 1) := dk_27 (dk_at dksX9_takesNumber_4 11 rfl rfl)
theorem dX9_takesNumber_106 : decode cX9_takesNumber 106 = .ok (.i2l, 1) := dk_133 (dk_at dksX9_takesNumber_4 12 rfl rfl)
theorem dX9_takesNumber_107 : decode cX9_takesNumber 107 = .ok (.iload_n 2, 1) := dk_28 (dk_at dksX9_takesNumber_4 13 rfl rfl)
theorem dX9_takesNumber_108 : decode cX9_takesNumber 108 = .ok (.i2l, 1) := dk_133 (dk_at dksX9_takesNumber_4 14 rfl rfl)
theorem dX9_takesNumber_109 : decode cX9_takesNumber 109 = .ok (.invokestatic 44, 3) := dk_184 0 44 (dk_at dksX9_takesNumber_4 15 rfl rfl)
theorem dX9_takesNumber_112 : decode cX9_takesNumber 112 = .ok (.ifCond .ne 10, 3) := dk_154 0 10 (dk_at dksX9_takesNumber_4 18 rfl rfl)
theorem dX9_takesNumber_115 : decode cX9_takesNumber 115 = .ok (.aload_n 0, 1) := dk_42 (dk_at dksX9_takesNumber_4 21 rfl rfl)
theorem dX9_takesNumber_116 : decode cX9_takesNumber 116 = .ok (.iconst 2, 1) := dk_5 (dk_at dksX9_takesNumber_4 22 rfl rfl)
theorem dX9_takesNumber_117 : decode cX9_takesNumber 117 = .ok (.iload_n 3, 1) := dk_29 (dk_at dksX9_takesNumber_4 23 rfl rfl)
theorem dX9_takesNumber_118 : decode cX9_takesNumber 118 = .ok (.invokevirtual 89, 3) := dk_182 0 89 (dk_at dksX9_takesNumber_5 0 rfl rfl)
theorem dX9_takesNumber_121 : decode cX9_takesNumber 121 = .ok (.ireturn, 1) := dk_172 (dk_at dksX9_takesNumber_5 3 rfl rfl)
theorem dX9_takesNumber_122 : decode cX9_takesNumber 122 = .ok (.iconst 1, 1) := dk_4 (dk_at dksX9_takesNumber_5 4 rfl rfl)
theorem dX9_takesNumber_123 : decode cX9_takesNumber 123 = .ok (.ireturn, 1) := dk_172 (dk_at dksX9_takesNumber_5 5 rfl rfl)
abbrev cX9_takesDish : ByteArray := prog_16_method_24_code
def yX9_takesDish : MethodName := ⟨RX9, "takesDish", "()Z"⟩
def dkwX9_takesDish_10 : List UInt8 := [4, 96, 79, 42, 16, 59, 182, 0, 100, 172]
abbrev dktX9_takesDish_10 : List UInt8 := dkwX9_takesDish_10 ++ []
def dkwX9_takesDish_9 : List UInt8 := [180, 0, 93, 79, 42, 180, 0, 7, 17, 0, 209, 27, 96, 27, 79, 42, 180, 0, 7, 17, 0, 172, 92, 46]
abbrev dktX9_takesDish_9 : List UInt8 := dkwX9_takesDish_9 ++ dktX9_takesDish_10
def dkwX9_takesDish_8 : List UInt8 := [42, 3, 16, 60, 182, 0, 103, 154, 0, 5, 3, 172, 42, 180, 0, 7, 17, 0, 203, 27, 96, 42]
abbrev dktX9_takesDish_8 : List UInt8 := dkwX9_takesDish_8 ++ dktX9_takesDish_9
def dkwX9_takesDish_7 : List UInt8 := [172, 42, 180, 0, 7, 17, 0, 197, 27, 96, 42, 180, 0, 93, 79, 42, 16, 44, 182, 0, 100, 153, 0, 13]
abbrev dktX9_takesDish_7 : List UInt8 := dkwX9_takesDish_7 ++ dktX9_takesDish_8
def dkwX9_takesDish_6 : List UInt8 := [180, 0, 93, 79, 42, 16, 44, 182, 0, 100, 153, 0, 13, 42, 4, 16, 9, 182, 0, 103, 154, 0, 5, 3]
abbrev dktX9_takesDish_6 : List UInt8 := dkwX9_takesDish_6 ++ dktX9_takesDish_7
def dkwX9_takesDish_5 : List UInt8 := [17, 0, 173, 46, 4, 100, 182, 0, 103, 154, 0, 5, 3, 172, 42, 180, 0, 7, 17, 0, 191, 27, 96, 42]
abbrev dktX9_takesDish_5 : List UInt8 := dkwX9_takesDish_5 ++ dktX9_takesDish_6
def dkwX9_takesDish_4 : List UInt8 := [27, 96, 42, 180, 0, 93, 79, 42, 16, 44, 182, 0, 100, 153, 0, 21, 42, 3, 42, 180, 0, 7]
abbrev dktX9_takesDish_4 : List UInt8 := dkwX9_takesDish_4 ++ dktX9_takesDish_5
def dkwX9_takesDish_3 : List UInt8 := [180, 0, 7, 17, 0, 173, 46, 4, 100, 182, 0, 103, 154, 0, 5, 3, 172, 42, 180, 0, 7, 17, 0, 185]
abbrev dktX9_takesDish_3 : List UInt8 := dkwX9_takesDish_3 ++ dktX9_takesDish_4
def dkwX9_takesDish_2 : List UInt8 := [89, 180, 0, 76, 4, 96, 181, 0, 76, 42, 180, 0, 7, 17, 0, 179, 27, 96, 28, 79, 42, 3, 42]
abbrev dktX9_takesDish_2 : List UInt8 := dkwX9_takesDish_2 ++ dktX9_takesDish_3
def dkwX9_takesDish_1 : List UInt8 := [180, 0, 76, 182, 0, 89, 172, 27, 16, 6, 160, 0, 13, 42, 6, 42, 180, 0, 76, 182, 0, 89, 172, 42]
abbrev dktX9_takesDish_1 : List UInt8 := dkwX9_takesDish_1 ++ dktX9_takesDish_2
def dkwX9_takesDish_0 : List UInt8 := [42, 180, 0, 7, 17, 0, 172, 46, 60, 42, 182, 0, 85, 184, 0, 106, 61, 28, 154, 0, 13, 42, 4, 42]
abbrev dktX9_takesDish_0 : List UInt8 := dkwX9_takesDish_0 ++ dktX9_takesDish_1
theorem dksX9_takesDish_0 : cX9_takesDish.data.toList.drop 0 = dktX9_takesDish_0 := by decide +kernel
theorem dksX9_takesDish_1 : cX9_takesDish.data.toList.drop 24 = dktX9_takesDish_1 := dk_seg dksX9_takesDish_0 24 rfl rfl
theorem dksX9_takesDish_2 : cX9_takesDish.data.toList.drop 48 = dktX9_takesDish_2 := dk_seg dksX9_takesDish_1 24 rfl rfl
theorem dksX9_takesDish_3 : cX9_takesDish.data.toList.drop 71 = dktX9_takesDish_3 := dk_seg dksX9_takesDish_2 23 rfl rfl
theorem dksX9_takesDish_4 : cX9_takesDish.data.toList.drop 95 = dktX9_takesDish_4 := dk_seg dksX9_takesDish_3 24 rfl rfl
theorem dksX9_takesDish_5 : cX9_takesDish.data.toList.drop 117 = dktX9_takesDish_5 := dk_seg dksX9_takesDish_4 22 rfl rfl
theorem dksX9_takesDish_6 : cX9_takesDish.data.toList.drop 141 = dktX9_takesDish_6 := dk_seg dksX9_takesDish_5 24 rfl rfl
theorem dksX9_takesDish_7 : cX9_takesDish.data.toList.drop 165 = dktX9_takesDish_7 := dk_seg dksX9_takesDish_6 24 rfl rfl
theorem dksX9_takesDish_8 : cX9_takesDish.data.toList.drop 189 = dktX9_takesDish_8 := dk_seg dksX9_takesDish_7 24 rfl rfl
theorem dksX9_takesDish_9 : cX9_takesDish.data.toList.drop 211 = dktX9_takesDish_9 := dk_seg dksX9_takesDish_8 22 rfl rfl
theorem dksX9_takesDish_10 : cX9_takesDish.data.toList.drop 235 = dktX9_takesDish_10 := dk_seg dksX9_takesDish_9 24 rfl rfl
theorem dX9_takesDish_0 : decode cX9_takesDish 0 = .ok (.aload_n 0, 1) := dk_42 (dk_at dksX9_takesDish_0 0 rfl rfl)
theorem dX9_takesDish_1 : decode cX9_takesDish 1 = .ok (.getfield 7, 3) := dk_180 0 7 (dk_at dksX9_takesDish_0 1 rfl rfl)
theorem dX9_takesDish_4 : decode cX9_takesDish 4 = .ok (.sipush 172, 3) := dk_17 0 172 (dk_at dksX9_takesDish_0 4 rfl rfl)
theorem dX9_takesDish_7 : decode cX9_takesDish 7 = .ok (.iaload, 1) := dk_46 (dk_at dksX9_takesDish_0 7 rfl rfl)
theorem dX9_takesDish_8 : decode cX9_takesDish 8 = .ok (.istore_n 1, 1) := dk_60 (dk_at dksX9_takesDish_0 8 rfl rfl)
theorem dX9_takesDish_9 : decode cX9_takesDish 9 = .ok (.aload_n 0, 1) := dk_42 (dk_at dksX9_takesDish_0 9 rfl rfl)
theorem dX9_takesDish_10 : decode cX9_takesDish 10 = .ok (.invokevirtual 85, 3) := dk_182 0 85 (dk_at dksX9_takesDish_0 10 rfl rfl)
theorem dX9_takesDish_13 : decode cX9_takesDish 13 = .ok (.invokestatic 106, 3) := dk_184 0 106 (dk_at dksX9_takesDish_0 13 rfl rfl)
theorem dX9_takesDish_16 : decode cX9_takesDish 16 = .ok (.istore_n 2, 1) := dk_61 (dk_at dksX9_takesDish_0 16 rfl rfl)
theorem dX9_takesDish_17 : decode cX9_takesDish 17 = .ok (.iload_n 2, 1) := dk_28 (dk_at dksX9_takesDish_0 17 rfl rfl)
theorem dX9_takesDish_18 : decode cX9_takesDish 18 = .ok (.ifCond .ne 13, 3) := dk_154 0 13 (dk_at dksX9_takesDish_0 18 rfl rfl)
theorem dX9_takesDish_21 : decode cX9_takesDish 21 = .ok (.aload_n 0, 1) := dk_42 (dk_at dksX9_takesDish_0 21 rfl rfl)
theorem dX9_takesDish_22 : decode cX9_takesDish 22 = .ok (.iconst 1, 1) := dk_4 (dk_at dksX9_takesDish_0 22 rfl rfl)
theorem dX9_takesDish_23 : decode cX9_takesDish 23 = .ok (.aload_n 0, 1) := dk_42 (dk_at dksX9_takesDish_0 23 rfl rfl)
theorem dX9_takesDish_24 : decode cX9_takesDish 24 = .ok (.getfield 76, 3) := dk_180 0 76 (dk_at dksX9_takesDish_1 0 rfl rfl)
theorem dX9_takesDish_27 : decode cX9_takesDish 27 = .ok (.invokevirtual 89, 3) := dk_182 0 89 (dk_at dksX9_takesDish_1 3 rfl rfl)
theorem dX9_takesDish_30 : decode cX9_takesDish 30 = .ok (.ireturn, 1) := dk_172 (dk_at dksX9_takesDish_1 6 rfl rfl)
theorem dX9_takesDish_31 : decode cX9_takesDish 31 = .ok (.iload_n 1, 1) := dk_27 (dk_at dksX9_takesDish_1 7 rfl rfl)
theorem dX9_takesDish_32 : decode cX9_takesDish 32 = .ok (.bipush 6, 2) := dk_16 6 (dk_at dksX9_takesDish_1 8 rfl rfl)
theorem dX9_takesDish_34 : decode cX9_takesDish 34 = .ok (.if_icmp .ne 13, 3) := dk_160 0 13 (dk_at dksX9_takesDish_1 10 rfl rfl)
theorem dX9_takesDish_37 : decode cX9_takesDish 37 = .ok (.aload_n 0, 1) := dk_42 (dk_at dksX9_takesDish_1 13 rfl rfl)
theorem dX9_takesDish_38 : decode cX9_takesDish 38 = .ok (.iconst 3, 1) := dk_6 (dk_at dksX9_takesDish_1 14 rfl rfl)
theorem dX9_takesDish_39 : decode cX9_takesDish 39 = .ok (.aload_n 0, 1) := dk_42 (dk_at dksX9_takesDish_1 15 rfl rfl)
theorem dX9_takesDish_40 : decode cX9_takesDish 40 = .ok (.getfield 76, 3) := dk_180 0 76 (dk_at dksX9_takesDish_1 16 rfl rfl)
theorem dX9_takesDish_43 : decode cX9_takesDish 43 = .ok (.invokevirtual 89, 3) := dk_182 0 89 (dk_at dksX9_takesDish_1 19 rfl rfl)
theorem dX9_takesDish_46 : decode cX9_takesDish 46 = .ok (.ireturn, 1) := dk_172 (dk_at dksX9_takesDish_1 22 rfl rfl)
theorem dX9_takesDish_47 : decode cX9_takesDish 47 = .ok (.aload_n 0, 1) := dk_42 (dk_at dksX9_takesDish_1 23 rfl rfl)
theorem dX9_takesDish_48 : decode cX9_takesDish 48 = .ok (.dup, 1) := dk_89 (dk_at dksX9_takesDish_2 0 rfl rfl)
theorem dX9_takesDish_49 : decode cX9_takesDish 49 = .ok (.getfield 76, 3) := dk_180 0 76 (dk_at dksX9_takesDish_2 1 rfl rfl)
theorem dX9_takesDish_52 : decode cX9_takesDish 52 = .ok (.iconst 1, 1) := dk_4 (dk_at dksX9_takesDish_2 4 rfl rfl)
theorem dX9_takesDish_53 : decode cX9_takesDish 53 = .ok (.iadd, 1) := dk_96 (dk_at dksX9_takesDish_2 5 rfl rfl)
theorem dX9_takesDish_54 : decode cX9_takesDish 54 = .ok (.putfield 76, 3) := dk_181 0 76 (dk_at dksX9_takesDish_2 6 rfl rfl)
theorem dX9_takesDish_57 : decode cX9_takesDish 57 = .ok (.aload_n 0, 1) := dk_42 (dk_at dksX9_takesDish_2 9 rfl rfl)
theorem dX9_takesDish_58 : decode cX9_takesDish 58 = .ok (.getfield 7, 3) := dk_180 0 7 (dk_at dksX9_takesDish_2 10 rfl rfl)
theorem dX9_takesDish_61 : decode cX9_takesDish 61 = .ok (.sipush 179, 3) := dk_17 0 179 (dk_at dksX9_takesDish_2 13 rfl rfl)
theorem dX9_takesDish_64 : decode cX9_takesDish 64 = .ok (.iload_n 1, 1) := dk_27 (dk_at dksX9_takesDish_2 16 rfl rfl)
theorem dX9_takesDish_65 : decode cX9_takesDish 65 = .ok (.iadd, 1) := dk_96 (dk_at dksX9_takesDish_2 17 rfl rfl)
theorem dX9_takesDish_66 : decode cX9_takesDish 66 = .ok (.iload_n 2, 1) := dk_28 (dk_at dksX9_takesDish_2 18 rfl rfl)
theorem dX9_takesDish_67 : decode cX9_takesDish 67 = .ok (.iastore, 1) := dk_79 (dk_at dksX9_takesDish_2 19 rfl rfl)
theorem dX9_takesDish_68 : decode cX9_takesDish 68 = .ok (.aload_n 0, 1) := dk_42 (dk_at dksX9_takesDish_2 20 rfl rfl)
theorem dX9_takesDish_69 : decode cX9_takesDish 69 = .ok (.iconst 0, 1) := dk_3 (dk_at dksX9_takesDish_2 21 rfl rfl)
theorem dX9_takesDish_70 : decode cX9_takesDish 70 = .ok (.aload_n 0, 1) := dk_42 (dk_at dksX9_takesDish_2 22 rfl rfl)
theorem dX9_takesDish_71 : decode cX9_takesDish 71 = .ok (.getfield 7, 3) := dk_180 0 7 (dk_at dksX9_takesDish_3 0 rfl rfl)
theorem dX9_takesDish_74 : decode cX9_takesDish 74 = .ok (.sipush 173, 3) := dk_17 0 173 (dk_at dksX9_takesDish_3 3 rfl rfl)
theorem dX9_takesDish_77 : decode cX9_takesDish 77 = .ok (.iaload, 1) := dk_46 (dk_at dksX9_takesDish_3 6 rfl rfl)
theorem dX9_takesDish_78 : decode cX9_takesDish 78 = .ok (.iconst 1, 1) := dk_4 (dk_at dksX9_takesDish_3 7 rfl rfl)
theorem dX9_takesDish_79 : decode cX9_takesDish 79 = .ok (.isub, 1) := dk_100 (dk_at dksX9_takesDish_3 8 rfl rfl)
theorem dX9_takesDish_80 : decode cX9_takesDish 80 = .ok (.invokevirtual 103, 3) := dk_182 0 103 (dk_at dksX9_takesDish_3 9 rfl rfl)
theorem dX9_takesDish_83 : decode cX9_takesDish 83 = .ok (.ifCond .ne 5, 3) := dk_154 0 5 (dk_at dksX9_takesDish_3 12 rfl rfl)
theorem dX9_takesDish_86 : decode cX9_takesDish 86 = .ok (.iconst 0, 1) := dk_3 (dk_at dksX9_takesDish_3 15 rfl rfl)
theorem dX9_takesDish_87 : decode cX9_takesDish 87 = .ok (.ireturn, 1) := dk_172 (dk_at dksX9_takesDish_3 16 rfl rfl)
theorem dX9_takesDish_88 : decode cX9_takesDish 88 = .ok (.aload_n 0, 1) := dk_42 (dk_at dksX9_takesDish_3 17 rfl rfl)
theorem dX9_takesDish_89 : decode cX9_takesDish 89 = .ok (.getfield 7, 3) := dk_180 0 7 (dk_at dksX9_takesDish_3 18 rfl rfl)
theorem dX9_takesDish_92 : decode cX9_takesDish 92 = .ok (.sipush 185, 3) := dk_17 0 185 (dk_at dksX9_takesDish_3 21 rfl rfl)
theorem dX9_takesDish_95 : decode cX9_takesDish 95 = .ok (.iload_n 1, 1) := dk_27 (dk_at dksX9_takesDish_4 0 rfl rfl)
theorem dX9_takesDish_96 : decode cX9_takesDish 96 = .ok (.iadd, 1) := dk_96 (dk_at dksX9_takesDish_4 1 rfl rfl)
theorem dX9_takesDish_97 : decode cX9_takesDish 97 = .ok (.aload_n 0, 1) := dk_42 (dk_at dksX9_takesDish_4 2 rfl rfl)
theorem dX9_takesDish_98 : decode cX9_takesDish 98 = .ok (.getfield 93, 3) := dk_180 0 93 (dk_at dksX9_takesDish_4 3 rfl rfl)
theorem dX9_takesDish_101 : decode cX9_takesDish 101 = .ok (.iastore, 1) := dk_79 (dk_at dksX9_takesDish_4 6 rfl rfl)
theorem dX9_takesDish_102 : decode cX9_takesDish 102 = .ok (.aload_n 0, 1) := dk_42 (dk_at dksX9_takesDish_4 7 rfl rfl)
theorem dX9_takesDish_103 : decode cX9_takesDish 103 = .ok (.bipush 44, 2) := dk_16 44 (dk_at dksX9_takesDish_4 8 rfl rfl)
theorem dX9_takesDish_105 : decode cX9_takesDish 105 = .ok (.invokevirtual 100, 3) := dk_182 0 100 (dk_at dksX9_takesDish_4 10 rfl rfl)
theorem dX9_takesDish_108 : decode cX9_takesDish 108 = .ok (.ifCond .eq 21, 3) := dk_153 0 21 (dk_at dksX9_takesDish_4 13 rfl rfl)
theorem dX9_takesDish_111 : decode cX9_takesDish 111 = .ok (.aload_n 0, 1) := dk_42 (dk_at dksX9_takesDish_4 16 rfl rfl)
theorem dX9_takesDish_112 : decode cX9_takesDish 112 = .ok (.iconst 0, 1) := dk_3 (dk_at dksX9_takesDish_4 17 rfl rfl)
theorem dX9_takesDish_113 : decode cX9_takesDish 113 = .ok (.aload_n 0, 1) := dk_42 (dk_at dksX9_takesDish_4 18 rfl rfl)
theorem dX9_takesDish_114 : decode cX9_takesDish 114 = .ok (.getfield 7, 3) := dk_180 0 7 (dk_at dksX9_takesDish_4 19 rfl rfl)
theorem dX9_takesDish_117 : decode cX9_takesDish 117 = .ok (.sipush 173, 3) := dk_17 0 173 (dk_at dksX9_takesDish_5 0 rfl rfl)
theorem dX9_takesDish_120 : decode cX9_takesDish 120 = .ok (.iaload, 1) := dk_46 (dk_at dksX9_takesDish_5 3 rfl rfl)
theorem dX9_takesDish_121 : decode cX9_takesDish 121 = .ok (.iconst 1, 1) := dk_4 (dk_at dksX9_takesDish_5 4 rfl rfl)
theorem dX9_takesDish_122 : decode cX9_takesDish 122 = .ok (.isub, 1) := dk_100 (dk_at dksX9_takesDish_5 5 rfl rfl)
theorem dX9_takesDish_123 : decode cX9_takesDish 123 = .ok (.invokevirtual 103, 3) := dk_182 0 103 (dk_at dksX9_takesDish_5 6 rfl rfl)
theorem dX9_takesDish_126 : decode cX9_takesDish 126 = .ok (.ifCond .ne 5, 3) := dk_154 0 5 (dk_at dksX9_takesDish_5 9 rfl rfl)
theorem dX9_takesDish_129 : decode cX9_takesDish 129 = .ok (.iconst 0, 1) := dk_3 (dk_at dksX9_takesDish_5 12 rfl rfl)
theorem dX9_takesDish_130 : decode cX9_takesDish 130 = .ok (.ireturn, 1) := dk_172 (dk_at dksX9_takesDish_5 13 rfl rfl)
theorem dX9_takesDish_131 : decode cX9_takesDish 131 = .ok (.aload_n 0, 1) := dk_42 (dk_at dksX9_takesDish_5 14 rfl rfl)
theorem dX9_takesDish_132 : decode cX9_takesDish 132 = .ok (.getfield 7, 3) := dk_180 0 7 (dk_at dksX9_takesDish_5 15 rfl rfl)
theorem dX9_takesDish_135 : decode cX9_takesDish 135 = .ok (.sipush 191, 3) := dk_17 0 191 (dk_at dksX9_takesDish_5 18 rfl rfl)
theorem dX9_takesDish_138 : decode cX9_takesDish 138 = .ok (.iload_n 1, 1) := dk_27 (dk_at dksX9_takesDish_5 21 rfl rfl)
theorem dX9_takesDish_139 : decode cX9_takesDish 139 = .ok (.iadd, 1) := dk_96 (dk_at dksX9_takesDish_5 22 rfl rfl)
theorem dX9_takesDish_140 : decode cX9_takesDish 140 = .ok (.aload_n 0, 1) := dk_42 (dk_at dksX9_takesDish_5 23 rfl rfl)
theorem dX9_takesDish_141 : decode cX9_takesDish 141 = .ok (.getfield 93, 3) := dk_180 0 93 (dk_at dksX9_takesDish_6 0 rfl rfl)
theorem dX9_takesDish_144 : decode cX9_takesDish 144 = .ok (.iastore, 1) := dk_79 (dk_at dksX9_takesDish_6 3 rfl rfl)
theorem dX9_takesDish_145 : decode cX9_takesDish 145 = .ok (.aload_n 0, 1) := dk_42 (dk_at dksX9_takesDish_6 4 rfl rfl)
theorem dX9_takesDish_146 : decode cX9_takesDish 146 = .ok (.bipush 44, 2) := dk_16 44 (dk_at dksX9_takesDish_6 5 rfl rfl)
theorem dX9_takesDish_148 : decode cX9_takesDish 148 = .ok (.invokevirtual 100, 3) := dk_182 0 100 (dk_at dksX9_takesDish_6 7 rfl rfl)
theorem dX9_takesDish_151 : decode cX9_takesDish 151 = .ok (.ifCond .eq 13, 3) := dk_153 0 13 (dk_at dksX9_takesDish_6 10 rfl rfl)
theorem dX9_takesDish_154 : decode cX9_takesDish 154 = .ok (.aload_n 0, 1) := dk_42 (dk_at dksX9_takesDish_6 13 rfl rfl)
theorem dX9_takesDish_155 : decode cX9_takesDish 155 = .ok (.iconst 1, 1) := dk_4 (dk_at dksX9_takesDish_6 14 rfl rfl)
theorem dX9_takesDish_156 : decode cX9_takesDish 156 = .ok (.bipush 9, 2) := dk_16 9 (dk_at dksX9_takesDish_6 15 rfl rfl)
theorem dX9_takesDish_158 : decode cX9_takesDish 158 = .ok (.invokevirtual 103, 3) := dk_182 0 103 (dk_at dksX9_takesDish_6 17 rfl rfl)
theorem dX9_takesDish_161 : decode cX9_takesDish 161 = .ok (.ifCond .ne 5, 3) := dk_154 0 5 (dk_at dksX9_takesDish_6 20 rfl rfl)
theorem dX9_takesDish_164 : decode cX9_takesDish 164 = .ok (.iconst 0, 1) := dk_3 (dk_at dksX9_takesDish_6 23 rfl rfl)
theorem dX9_takesDish_165 : decode cX9_takesDish 165 = .ok (.ireturn, 1) := dk_172 (dk_at dksX9_takesDish_7 0 rfl rfl)
theorem dX9_takesDish_166 : decode cX9_takesDish 166 = .ok (.aload_n 0, 1) := dk_42 (dk_at dksX9_takesDish_7 1 rfl rfl)
theorem dX9_takesDish_167 : decode cX9_takesDish 167 = .ok (.getfield 7, 3) := dk_180 0 7 (dk_at dksX9_takesDish_7 2 rfl rfl)
theorem dX9_takesDish_170 : decode cX9_takesDish 170 = .ok (.sipush 197, 3) := dk_17 0 197 (dk_at dksX9_takesDish_7 5 rfl rfl)
theorem dX9_takesDish_173 : decode cX9_takesDish 173 = .ok (.iload_n 1, 1) := dk_27 (dk_at dksX9_takesDish_7 8 rfl rfl)
theorem dX9_takesDish_174 : decode cX9_takesDish 174 = .ok (.iadd, 1) := dk_96 (dk_at dksX9_takesDish_7 9 rfl rfl)
theorem dX9_takesDish_175 : decode cX9_takesDish 175 = .ok (.aload_n 0, 1) := dk_42 (dk_at dksX9_takesDish_7 10 rfl rfl)
theorem dX9_takesDish_176 : decode cX9_takesDish 176 = .ok (.getfield 93, 3) := dk_180 0 93 (dk_at dksX9_takesDish_7 11 rfl rfl)
theorem dX9_takesDish_179 : decode cX9_takesDish 179 = .ok (.iastore, 1) := dk_79 (dk_at dksX9_takesDish_7 14 rfl rfl)
theorem dX9_takesDish_180 : decode cX9_takesDish 180 = .ok (.aload_n 0, 1) := dk_42 (dk_at dksX9_takesDish_7 15 rfl rfl)
theorem dX9_takesDish_181 : decode cX9_takesDish 181 = .ok (.bipush 44, 2) := dk_16 44 (dk_at dksX9_takesDish_7 16 rfl rfl)
theorem dX9_takesDish_183 : decode cX9_takesDish 183 = .ok (.invokevirtual 100, 3) := dk_182 0 100 (dk_at dksX9_takesDish_7 18 rfl rfl)
theorem dX9_takesDish_186 : decode cX9_takesDish 186 = .ok (.ifCond .eq 13, 3) := dk_153 0 13 (dk_at dksX9_takesDish_7 21 rfl rfl)
theorem dX9_takesDish_189 : decode cX9_takesDish 189 = .ok (.aload_n 0, 1) := dk_42 (dk_at dksX9_takesDish_8 0 rfl rfl)
theorem dX9_takesDish_190 : decode cX9_takesDish 190 = .ok (.iconst 0, 1) := dk_3 (dk_at dksX9_takesDish_8 1 rfl rfl)
theorem dX9_takesDish_191 : decode cX9_takesDish 191 = .ok (.bipush 60, 2) := dk_16 60 (dk_at dksX9_takesDish_8 2 rfl rfl)
theorem dX9_takesDish_193 : decode cX9_takesDish 193 = .ok (.invokevirtual 103, 3) := dk_182 0 103 (dk_at dksX9_takesDish_8 4 rfl rfl)
theorem dX9_takesDish_196 : decode cX9_takesDish 196 = .ok (.ifCond .ne 5, 3) := dk_154 0 5 (dk_at dksX9_takesDish_8 7 rfl rfl)
theorem dX9_takesDish_199 : decode cX9_takesDish 199 = .ok (.iconst 0, 1) := dk_3 (dk_at dksX9_takesDish_8 10 rfl rfl)
theorem dX9_takesDish_200 : decode cX9_takesDish 200 = .ok (.ireturn, 1) := dk_172 (dk_at dksX9_takesDish_8 11 rfl rfl)
theorem dX9_takesDish_201 : decode cX9_takesDish 201 = .ok (.aload_n 0, 1) := dk_42 (dk_at dksX9_takesDish_8 12 rfl rfl)
theorem dX9_takesDish_202 : decode cX9_takesDish 202 = .ok (.getfield 7, 3) := dk_180 0 7 (dk_at dksX9_takesDish_8 13 rfl rfl)
theorem dX9_takesDish_205 : decode cX9_takesDish 205 = .ok (.sipush 203, 3) := dk_17 0 203 (dk_at dksX9_takesDish_8 16 rfl rfl)
theorem dX9_takesDish_208 : decode cX9_takesDish 208 = .ok (.iload_n 1, 1) := dk_27 (dk_at dksX9_takesDish_8 19 rfl rfl)
theorem dX9_takesDish_209 : decode cX9_takesDish 209 = .ok (.iadd, 1) := dk_96 (dk_at dksX9_takesDish_8 20 rfl rfl)
theorem dX9_takesDish_210 : decode cX9_takesDish 210 = .ok (.aload_n 0, 1) := dk_42 (dk_at dksX9_takesDish_8 21 rfl rfl)
theorem dX9_takesDish_211 : decode cX9_takesDish 211 = .ok (.getfield 93, 3) := dk_180 0 93 (dk_at dksX9_takesDish_9 0 rfl rfl)
theorem dX9_takesDish_214 : decode cX9_takesDish 214 = .ok (.iastore, 1) := dk_79 (dk_at dksX9_takesDish_9 3 rfl rfl)
theorem dX9_takesDish_215 : decode cX9_takesDish 215 = .ok (.aload_n 0, 1) := dk_42 (dk_at dksX9_takesDish_9 4 rfl rfl)
theorem dX9_takesDish_216 : decode cX9_takesDish 216 = .ok (.getfield 7, 3) := dk_180 0 7 (dk_at dksX9_takesDish_9 5 rfl rfl)
theorem dX9_takesDish_219 : decode cX9_takesDish 219 = .ok (.sipush 209, 3) := dk_17 0 209 (dk_at dksX9_takesDish_9 8 rfl rfl)
theorem dX9_takesDish_222 : decode cX9_takesDish 222 = .ok (.iload_n 1, 1) := dk_27 (dk_at dksX9_takesDish_9 11 rfl rfl)
theorem dX9_takesDish_223 : decode cX9_takesDish 223 = .ok (.iadd, 1) := dk_96 (dk_at dksX9_takesDish_9 12 rfl rfl)
theorem dX9_takesDish_224 : decode cX9_takesDish 224 = .ok (.iload_n 1, 1) := dk_27 (dk_at dksX9_takesDish_9 13 rfl rfl)
theorem dX9_takesDish_225 : decode cX9_takesDish 225 = .ok (.iastore, 1) := dk_79 (dk_at dksX9_takesDish_9 14 rfl rfl)
theorem dX9_takesDish_226 : decode cX9_takesDish 226 = .ok (.aload_n 0, 1) := dk_42 (dk_at dksX9_takesDish_9 15 rfl rfl)
theorem dX9_takesDish_227 : decode cX9_takesDish 227 = .ok (.getfield 7, 3) := dk_180 0 7 (dk_at dksX9_takesDish_9 16 rfl rfl)
theorem dX9_takesDish_230 : decode cX9_takesDish 230 = .ok (.sipush 172, 3) := dk_17 0 172 (dk_at dksX9_takesDish_9 19 rfl rfl)
theorem dX9_takesDish_233 : decode cX9_takesDish 233 = .ok (.dup2, 1) := dk_92 (dk_at dksX9_takesDish_9 22 rfl rfl)
theorem dX9_takesDish_234 : decode cX9_takesDish 234 = .ok (.iaload, 1) := dk_46 (dk_at dksX9_takesDish_9 23 rfl rfl)
theorem dX9_takesDish_235 : decode cX9_takesDish 235 = .ok (.iconst 1, 1) := dk_4 (dk_at dksX9_takesDish_10 0 rfl rfl)
theorem dX9_takesDish_236 : decode cX9_takesDish 236 = .ok (.iadd, 1) := dk_96 (dk_at dksX9_takesDish_10 1 rfl rfl)
theorem dX9_takesDish_237 : decode cX9_takesDish 237 = .ok (.iastore, 1) := dk_79 (dk_at dksX9_takesDish_10 2 rfl rfl)
theorem dX9_takesDish_238 : decode cX9_takesDish 238 = .ok (.aload_n 0, 1) := dk_42 (dk_at dksX9_takesDish_10 3 rfl rfl)
theorem dX9_takesDish_239 : decode cX9_takesDish 239 = .ok (.bipush 59, 2) := dk_16 59 (dk_at dksX9_takesDish_10 4 rfl rfl)
theorem dX9_takesDish_241 : decode cX9_takesDish 241 = .ok (.invokevirtual 100, 3) := dk_182 0 100 (dk_at dksX9_takesDish_10 6 rfl rfl)
theorem dX9_takesDish_244 : decode cX9_takesDish 244 = .ok (.ireturn, 1) := dk_172 (dk_at dksX9_takesDish_10 9 rfl rfl)
abbrev cX9_kindOf : ByteArray := prog_16_method_22_code
def yX9_kindOf : MethodName := ⟨RX9, "kindOf", "(I)I"⟩
def dkwX9_kindOf_2 : List UInt8 := [167, 0, 4, 3, 172]
abbrev dktX9_kindOf_2 : List UInt8 := dkwX9_kindOf_2 ++ []
def dkwX9_kindOf_1 : List UInt8 := [160, 0, 7, 6, 167, 0, 24, 26, 16, 99, 160, 0, 7, 7, 167, 0, 14, 26, 16, 105, 160, 0, 7, 8]
abbrev dktX9_kindOf_1 : List UInt8 := dkwX9_kindOf_1 ++ dktX9_kindOf_2
def dkwX9_kindOf_0 : List UInt8 := [26, 16, 104, 160, 0, 7, 4, 167, 0, 44, 26, 16, 115, 160, 0, 7, 5, 167, 0, 34, 26, 16, 114]
abbrev dktX9_kindOf_0 : List UInt8 := dkwX9_kindOf_0 ++ dktX9_kindOf_1
theorem dksX9_kindOf_0 : cX9_kindOf.data.toList.drop 0 = dktX9_kindOf_0 := by decide +kernel
theorem dksX9_kindOf_1 : cX9_kindOf.data.toList.drop 23 = dktX9_kindOf_1 := dk_seg dksX9_kindOf_0 23 rfl rfl
theorem dksX9_kindOf_2 : cX9_kindOf.data.toList.drop 47 = dktX9_kindOf_2 := dk_seg dksX9_kindOf_1 24 rfl rfl
theorem dX9_kindOf_0 : decode cX9_kindOf 0 = .ok (.iload_n 0, 1) := dk_26 (dk_at dksX9_kindOf_0 0 rfl rfl)
theorem dX9_kindOf_1 : decode cX9_kindOf 1 = .ok (.bipush 104, 2) := dk_16 104 (dk_at dksX9_kindOf_0 1 rfl rfl)
theorem dX9_kindOf_3 : decode cX9_kindOf 3 = .ok (.if_icmp .ne 7, 3) := dk_160 0 7 (dk_at dksX9_kindOf_0 3 rfl rfl)
theorem dX9_kindOf_6 : decode cX9_kindOf 6 = .ok (.iconst 1, 1) := dk_4 (dk_at dksX9_kindOf_0 6 rfl rfl)
theorem dX9_kindOf_7 : decode cX9_kindOf 7 = .ok (.goto 44, 3) := dk_167 0 44 (dk_at dksX9_kindOf_0 7 rfl rfl)
theorem dX9_kindOf_10 : decode cX9_kindOf 10 = .ok (.iload_n 0, 1) := dk_26 (dk_at dksX9_kindOf_0 10 rfl rfl)
theorem dX9_kindOf_11 : decode cX9_kindOf 11 = .ok (.bipush 115, 2) := dk_16 115 (dk_at dksX9_kindOf_0 11 rfl rfl)
theorem dX9_kindOf_13 : decode cX9_kindOf 13 = .ok (.if_icmp .ne 7, 3) := dk_160 0 7 (dk_at dksX9_kindOf_0 13 rfl rfl)
theorem dX9_kindOf_16 : decode cX9_kindOf 16 = .ok (.iconst 2, 1) := dk_5 (dk_at dksX9_kindOf_0 16 rfl rfl)
theorem dX9_kindOf_17 : decode cX9_kindOf 17 = .ok (.goto 34, 3) := dk_167 0 34 (dk_at dksX9_kindOf_0 17 rfl rfl)
theorem dX9_kindOf_20 : decode cX9_kindOf 20 = .ok (.iload_n 0, 1) := dk_26 (dk_at dksX9_kindOf_0 20 rfl rfl)
theorem dX9_kindOf_21 : decode cX9_kindOf 21 = .ok (.bipush 114, 2) := dk_16 114 (dk_at dksX9_kindOf_0 21 rfl rfl)
theorem dX9_kindOf_23 : decode cX9_kindOf 23 = .ok (.if_icmp .ne 7, 3) := dk_160 0 7 (dk_at dksX9_kindOf_1 0 rfl rfl)
theorem dX9_kindOf_26 : decode cX9_kindOf 26 = .ok (.iconst 3, 1) := dk_6 (dk_at dksX9_kindOf_1 3 rfl rfl)
theorem dX9_kindOf_27 : decode cX9_kindOf 27 = .ok (.goto 24, 3) := dk_167 0 24 (dk_at dksX9_kindOf_1 4 rfl rfl)
theorem dX9_kindOf_30 : decode cX9_kindOf 30 = .ok (.iload_n 0, 1) := dk_26 (dk_at dksX9_kindOf_1 7 rfl rfl)
theorem dX9_kindOf_31 : decode cX9_kindOf 31 = .ok (.bipush 99, 2) := dk_16 99 (dk_at dksX9_kindOf_1 8 rfl rfl)
theorem dX9_kindOf_33 : decode cX9_kindOf 33 = .ok (.if_icmp .ne 7, 3) := dk_160 0 7 (dk_at dksX9_kindOf_1 10 rfl rfl)
theorem dX9_kindOf_36 : decode cX9_kindOf 36 = .ok (.iconst 4, 1) := dk_7 (dk_at dksX9_kindOf_1 13 rfl rfl)
theorem dX9_kindOf_37 : decode cX9_kindOf 37 = .ok (.goto 14, 3) := dk_167 0 14 (dk_at dksX9_kindOf_1 14 rfl rfl)
theorem dX9_kindOf_40 : decode cX9_kindOf 40 = .ok (.iload_n 0, 1) := dk_26 (dk_at dksX9_kindOf_1 17 rfl rfl)
theorem dX9_kindOf_41 : decode cX9_kindOf 41 = .ok (.bipush 105, 2) := dk_16 105 (dk_at dksX9_kindOf_1 18 rfl rfl)
theorem dX9_kindOf_43 : decode cX9_kindOf 43 = .ok (.if_icmp .ne 7, 3) := dk_160 0 7 (dk_at dksX9_kindOf_1 20 rfl rfl)
theorem dX9_kindOf_46 : decode cX9_kindOf 46 = .ok (.iconst 5, 1) := dk_8 (dk_at dksX9_kindOf_1 23 rfl rfl)
theorem dX9_kindOf_47 : decode cX9_kindOf 47 = .ok (.goto 4, 3) := dk_167 0 4 (dk_at dksX9_kindOf_2 0 rfl rfl)
theorem dX9_kindOf_50 : decode cX9_kindOf 50 = .ok (.iconst 0, 1) := dk_3 (dk_at dksX9_kindOf_2 3 rfl rfl)
theorem dX9_kindOf_51 : decode cX9_kindOf 51 = .ok (.ireturn, 1) := dk_172 (dk_at dksX9_kindOf_2 4 rfl rfl)
abbrev cX9_copyOf : ByteArray := prog_16_method_6_code
def yX9_copyOf : MethodName := ⟨RX9, "copyOf", "(II)V"⟩
def dkwX9_copyOf_1 : List UInt8 := [132, 3, 1, 167, 255, 231, 177]
abbrev dktX9_copyOf_1 : List UInt8 := dkwX9_copyOf_1 ++ []
def dkwX9_copyOf_0 : List UInt8 := [3, 62, 29, 16, 43, 162, 0, 25, 42, 180, 0, 7, 28, 29, 96, 42, 180, 0, 7, 27, 29, 96, 46, 79]
abbrev dktX9_copyOf_0 : List UInt8 := dkwX9_copyOf_0 ++ dktX9_copyOf_1
theorem dksX9_copyOf_0 : cX9_copyOf.data.toList.drop 0 = dktX9_copyOf_0 := by decide +kernel
theorem dksX9_copyOf_1 : cX9_copyOf.data.toList.drop 24 = dktX9_copyOf_1 := dk_seg dksX9_copyOf_0 24 rfl rfl
theorem dX9_copyOf_0 : decode cX9_copyOf 0 = .ok (.iconst 0, 1) := dk_3 (dk_at dksX9_copyOf_0 0 rfl rfl)
theorem dX9_copyOf_1 : decode cX9_copyOf 1 = .ok (.istore_n 3, 1) := dk_62 (dk_at dksX9_copyOf_0 1 rfl rfl)
theorem dX9_copyOf_2 : decode cX9_copyOf 2 = .ok (.iload_n 3, 1) := dk_29 (dk_at dksX9_copyOf_0 2 rfl rfl)
theorem dX9_copyOf_3 : decode cX9_copyOf 3 = .ok (.bipush 43, 2) := dk_16 43 (dk_at dksX9_copyOf_0 3 rfl rfl)
theorem dX9_copyOf_5 : decode cX9_copyOf 5 = .ok (.if_icmp .ge 25, 3) := dk_162 0 25 (dk_at dksX9_copyOf_0 5 rfl rfl)
theorem dX9_copyOf_8 : decode cX9_copyOf 8 = .ok (.aload_n 0, 1) := dk_42 (dk_at dksX9_copyOf_0 8 rfl rfl)
theorem dX9_copyOf_9 : decode cX9_copyOf 9 = .ok (.getfield 7, 3) := dk_180 0 7 (dk_at dksX9_copyOf_0 9 rfl rfl)
theorem dX9_copyOf_12 : decode cX9_copyOf 12 = .ok (.iload_n 2, 1) := dk_28 (dk_at dksX9_copyOf_0 12 rfl rfl)
theorem dX9_copyOf_13 : decode cX9_copyOf 13 = .ok (.iload_n 3, 1) := dk_29 (dk_at dksX9_copyOf_0 13 rfl rfl)
theorem dX9_copyOf_14 : decode cX9_copyOf 14 = .ok (.iadd, 1) := dk_96 (dk_at dksX9_copyOf_0 14 rfl rfl)
theorem dX9_copyOf_15 : decode cX9_copyOf 15 = .ok (.aload_n 0, 1) := dk_42 (dk_at dksX9_copyOf_0 15 rfl rfl)
theorem dX9_copyOf_16 : decode cX9_copyOf 16 = .ok (.getfield 7, 3) := dk_180 0 7 (dk_at dksX9_copyOf_0 16 rfl rfl)
theorem dX9_copyOf_19 : decode cX9_copyOf 19 = .ok (.iload_n 1, 1) := dk_27 (dk_at dksX9_copyOf_0 19 rfl rfl)
theorem dX9_copyOf_20 : decode cX9_copyOf 20 = .ok (.iload_n 3, 1) := dk_29 (dk_at dksX9_copyOf_0 20 rfl rfl)
theorem dX9_copyOf_21 : decode cX9_copyOf 21 = .ok (.iadd, 1) := dk_96 (dk_at dksX9_copyOf_0 21 rfl rfl)
theorem dX9_copyOf_22 : decode cX9_copyOf 22 = .ok (.iaload, 1) := dk_46 (dk_at dksX9_copyOf_0 22 rfl rfl)
theorem dX9_copyOf_23 : decode cX9_copyOf 23 = .ok (.iastore, 1) := dk_79 (dk_at dksX9_copyOf_0 23 rfl rfl)
theorem dX9_copyOf_24 : decode cX9_copyOf 24 = .ok (.iinc 3 1, 3) := dk_132 3 1 (dk_at dksX9_copyOf_1 0 rfl rfl)
theorem dX9_copyOf_27 : decode cX9_copyOf 27 = .ok (.goto (-25), 3) := dk_167 255 231 (dk_at dksX9_copyOf_1 3 rfl rfl)
theorem dX9_copyOf_30 : decode cX9_copyOf 30 = .ok (.return_, 1) := dk_177 (dk_at dksX9_copyOf_1 6 rfl rfl)
abbrev cX9_fault : ByteArray := prog_16_method_27_code
def yX9_fault : MethodName := ⟨RX9, "fault", "()I"⟩
theorem dX9_fault_0 : decode cX9_fault 0 = .ok (.aload_n 0, 1) := by decide +kernel
theorem dX9_fault_1 : decode cX9_fault 1 = .ok (.getfield 79, 3) := by decide +kernel
theorem dX9_fault_4 : decode cX9_fault 4 = .ok (.ireturn, 1) := by decide +kernel
abbrev cX9_undo : ByteArray := prog_16_method_42_code
def yX9_undo : MethodName := ⟨RX9, "undo", "()I"⟩
def dkwX9_undo_1 : List UInt8 := [16, 43, 42, 180, 0, 124, 104, 96, 3, 182, 0, 120, 42, 180, 0, 124, 172]
abbrev dktX9_undo_1 : List UInt8 := dkwX9_undo_1 ++ []
def dkwX9_undo_0 : List UInt8 := [42, 180, 0, 124, 154, 0, 6, 18, 161, 172, 42, 89, 180, 0, 124, 4, 100, 181, 0, 124, 42, 17, 0, 215]
abbrev dktX9_undo_0 : List UInt8 := dkwX9_undo_0 ++ dktX9_undo_1
theorem dksX9_undo_0 : cX9_undo.data.toList.drop 0 = dktX9_undo_0 := by decide +kernel
theorem dksX9_undo_1 : cX9_undo.data.toList.drop 24 = dktX9_undo_1 := dk_seg dksX9_undo_0 24 rfl rfl
theorem dX9_undo_0 : decode cX9_undo 0 = .ok (.aload_n 0, 1) := dk_42 (dk_at dksX9_undo_0 0 rfl rfl)
theorem dX9_undo_1 : decode cX9_undo 1 = .ok (.getfield 124, 3) := dk_180 0 124 (dk_at dksX9_undo_0 1 rfl rfl)
theorem dX9_undo_4 : decode cX9_undo 4 = .ok (.ifCond .ne 6, 3) := dk_154 0 6 (dk_at dksX9_undo_0 4 rfl rfl)
theorem dX9_undo_7 : decode cX9_undo 7 = .ok (.ldc 161, 2) := dk_18 161 (dk_at dksX9_undo_0 7 rfl rfl)
theorem dX9_undo_9 : decode cX9_undo 9 = .ok (.ireturn, 1) := dk_172 (dk_at dksX9_undo_0 9 rfl rfl)
theorem dX9_undo_10 : decode cX9_undo 10 = .ok (.aload_n 0, 1) := dk_42 (dk_at dksX9_undo_0 10 rfl rfl)
theorem dX9_undo_11 : decode cX9_undo 11 = .ok (.dup, 1) := dk_89 (dk_at dksX9_undo_0 11 rfl rfl)
theorem dX9_undo_12 : decode cX9_undo 12 = .ok (.getfield 124, 3) := dk_180 0 124 (dk_at dksX9_undo_0 12 rfl rfl)
theorem dX9_undo_15 : decode cX9_undo 15 = .ok (.iconst 1, 1) := dk_4 (dk_at dksX9_undo_0 15 rfl rfl)
theorem dX9_undo_16 : decode cX9_undo 16 = .ok (.isub, 1) := dk_100 (dk_at dksX9_undo_0 16 rfl rfl)
theorem dX9_undo_17 : decode cX9_undo 17 = .ok (.putfield 124, 3) := dk_181 0 124 (dk_at dksX9_undo_0 17 rfl rfl)
theorem dX9_undo_20 : decode cX9_undo 20 = .ok (.aload_n 0, 1) := dk_42 (dk_at dksX9_undo_0 20 rfl rfl)
theorem dX9_undo_21 : decode cX9_undo 21 = .ok (.sipush 215, 3) := dk_17 0 215 (dk_at dksX9_undo_0 21 rfl rfl)
theorem dX9_undo_24 : decode cX9_undo 24 = .ok (.bipush 43, 2) := dk_16 43 (dk_at dksX9_undo_1 0 rfl rfl)
theorem dX9_undo_26 : decode cX9_undo 26 = .ok (.aload_n 0, 1) := dk_42 (dk_at dksX9_undo_1 2 rfl rfl)
theorem dX9_undo_27 : decode cX9_undo 27 = .ok (.getfield 124, 3) := dk_180 0 124 (dk_at dksX9_undo_1 3 rfl rfl)
theorem dX9_undo_30 : decode cX9_undo 30 = .ok (.imul, 1) := dk_104 (dk_at dksX9_undo_1 6 rfl rfl)
theorem dX9_undo_31 : decode cX9_undo 31 = .ok (.iadd, 1) := dk_96 (dk_at dksX9_undo_1 7 rfl rfl)
theorem dX9_undo_32 : decode cX9_undo 32 = .ok (.iconst 0, 1) := dk_3 (dk_at dksX9_undo_1 8 rfl rfl)
theorem dX9_undo_33 : decode cX9_undo 33 = .ok (.invokevirtual 120, 3) := dk_182 0 120 (dk_at dksX9_undo_1 9 rfl rfl)
theorem dX9_undo_36 : decode cX9_undo 36 = .ok (.aload_n 0, 1) := dk_42 (dk_at dksX9_undo_1 12 rfl rfl)
theorem dX9_undo_37 : decode cX9_undo 37 = .ok (.getfield 124, 3) := dk_180 0 124 (dk_at dksX9_undo_1 13 rfl rfl)
theorem dX9_undo_40 : decode cX9_undo 40 = .ok (.ireturn, 1) := dk_172 (dk_at dksX9_undo_1 16 rfl rfl)
abbrev cX9_minutes : ByteArray := prog_16_method_43_code
def yX9_minutes : MethodName := ⟨RX9, "minutes", "(I)I"⟩
def dkwX9_minutes_2 : List UInt8 := [162, 0, 18, 42, 182, 0, 167, 42, 3, 182, 0, 170, 132, 2, 1, 167, 255, 239, 42, 3, 182, 0, 173, 172]
abbrev dktX9_minutes_2 : List UInt8 := dkwX9_minutes_2 ++ []
def dkwX9_minutes_1 : List UInt8 := [172, 42, 180, 0, 7, 16, 6, 46, 27, 96, 17, 3, 231, 164, 0, 6, 18, 75, 172, 3, 61, 28, 27]
abbrev dktX9_minutes_1 : List UInt8 := dkwX9_minutes_1 ++ dktX9_minutes_2
def dkwX9_minutes_0 : List UInt8 := [42, 182, 0, 162, 154, 0, 6, 18, 161, 172, 27, 133, 10, 20, 0, 165, 184, 0, 44, 154, 0, 6, 18, 61]
abbrev dktX9_minutes_0 : List UInt8 := dkwX9_minutes_0 ++ dktX9_minutes_1
theorem dksX9_minutes_0 : cX9_minutes.data.toList.drop 0 = dktX9_minutes_0 := by decide +kernel
theorem dksX9_minutes_1 : cX9_minutes.data.toList.drop 24 = dktX9_minutes_1 := dk_seg dksX9_minutes_0 24 rfl rfl
theorem dksX9_minutes_2 : cX9_minutes.data.toList.drop 47 = dktX9_minutes_2 := dk_seg dksX9_minutes_1 23 rfl rfl
theorem dX9_minutes_0 : decode cX9_minutes 0 = .ok (.aload_n 0, 1) := dk_42 (dk_at dksX9_minutes_0 0 rfl rfl)
theorem dX9_minutes_1 : decode cX9_minutes 1 = .ok (.invokevirtual 162, 3) := dk_182 0 162 (dk_at dksX9_minutes_0 1 rfl rfl)
theorem dX9_minutes_4 : decode cX9_minutes 4 = .ok (.ifCond .ne 6, 3) := dk_154 0 6 (dk_at dksX9_minutes_0 4 rfl rfl)
theorem dX9_minutes_7 : decode cX9_minutes 7 = .ok (.ldc 161, 2) := dk_18 161 (dk_at dksX9_minutes_0 7 rfl rfl)
theorem dX9_minutes_9 : decode cX9_minutes 9 = .ok (.ireturn, 1) := dk_172 (dk_at dksX9_minutes_0 9 rfl rfl)
theorem dX9_minutes_10 : decode cX9_minutes 10 = .ok (.iload_n 1, 1) := dk_27 (dk_at dksX9_minutes_0 10 rfl rfl)
theorem dX9_minutes_11 : decode cX9_minutes 11 = .ok (.i2l, 1) := dk_133 (dk_at dksX9_minutes_0 11 rfl rfl)
theorem dX9_minutes_12 : decode cX9_minutes 12 = .ok (.lconst 1, 1) := dk_10 (dk_at dksX9_minutes_0 12 rfl rfl)
theorem dX9_minutes_13 : decode cX9_minutes 13 = .ok (.ldc2_w 165, 3) := dk_20 0 165 (dk_at dksX9_minutes_0 13 rfl rfl)
theorem dX9_minutes_16 : decode cX9_minutes 16 = .ok (.invokestatic 44, 3) := dk_184 0 44 (dk_at dksX9_minutes_0 16 rfl rfl)
theorem dX9_minutes_19 : decode cX9_minutes 19 = .ok (.ifCond .ne 6, 3) := dk_154 0 6 (dk_at dksX9_minutes_0 19 rfl rfl)
theorem dX9_minutes_22 : decode cX9_minutes 22 = .ok (.ldc 61, 2) := dk_18 61 (dk_at dksX9_minutes_0 22 rfl rfl)
theorem dX9_minutes_24 : decode cX9_minutes 24 = .ok (.ireturn, 1) := dk_172 (dk_at dksX9_minutes_1 0 rfl rfl)
theorem dX9_minutes_25 : decode cX9_minutes 25 = .ok (.aload_n 0, 1) := dk_42 (dk_at dksX9_minutes_1 1 rfl rfl)
theorem dX9_minutes_26 : decode cX9_minutes 26 = .ok (.getfield 7, 3) := dk_180 0 7 (dk_at dksX9_minutes_1 2 rfl rfl)
theorem dX9_minutes_29 : decode cX9_minutes 29 = .ok (.bipush 6, 2) := dk_16 6 (dk_at dksX9_minutes_1 5 rfl rfl)
theorem dX9_minutes_31 : decode cX9_minutes 31 = .ok (.iaload, 1) := dk_46 (dk_at dksX9_minutes_1 7 rfl rfl)
theorem dX9_minutes_32 : decode cX9_minutes 32 = .ok (.iload_n 1, 1) := dk_27 (dk_at dksX9_minutes_1 8 rfl rfl)
theorem dX9_minutes_33 : decode cX9_minutes 33 = .ok (.iadd, 1) := dk_96 (dk_at dksX9_minutes_1 9 rfl rfl)
theorem dX9_minutes_34 : decode cX9_minutes 34 = .ok (.sipush 999, 3) := dk_17 3 231 (dk_at dksX9_minutes_1 10 rfl rfl)
theorem dX9_minutes_37 : decode cX9_minutes 37 = .ok (.if_icmp .le 6, 3) := dk_164 0 6 (dk_at dksX9_minutes_1 13 rfl rfl)
theorem dX9_minutes_40 : decode cX9_minutes 40 = .ok (.ldc 75, 2) := dk_18 75 (dk_at dksX9_minutes_1 16 rfl rfl)
theorem dX9_minutes_42 : decode cX9_minutes 42 = .ok (.ireturn, 1) := dk_172 (dk_at dksX9_minutes_1 18 rfl rfl)
theorem dX9_minutes_43 : decode cX9_minutes 43 = .ok (.iconst 0, 1) := dk_3 (dk_at dksX9_minutes_1 19 rfl rfl)
theorem dX9_minutes_44 : decode cX9_minutes 44 = .ok (.istore_n 2, 1) := dk_61 (dk_at dksX9_minutes_1 20 rfl rfl)
theorem dX9_minutes_45 : decode cX9_minutes 45 = .ok (.iload_n 2, 1) := dk_28 (dk_at dksX9_minutes_1 21 rfl rfl)
theorem dX9_minutes_46 : decode cX9_minutes 46 = .ok (.iload_n 1, 1) := dk_27 (dk_at dksX9_minutes_1 22 rfl rfl)
theorem dX9_minutes_47 : decode cX9_minutes 47 = .ok (.if_icmp .ge 18, 3) := dk_162 0 18 (dk_at dksX9_minutes_2 0 rfl rfl)
theorem dX9_minutes_50 : decode cX9_minutes 50 = .ok (.aload_n 0, 1) := dk_42 (dk_at dksX9_minutes_2 3 rfl rfl)
theorem dX9_minutes_51 : decode cX9_minutes 51 = .ok (.invokevirtual 167, 3) := dk_182 0 167 (dk_at dksX9_minutes_2 4 rfl rfl)
theorem dX9_minutes_54 : decode cX9_minutes 54 = .ok (.aload_n 0, 1) := dk_42 (dk_at dksX9_minutes_2 7 rfl rfl)
theorem dX9_minutes_55 : decode cX9_minutes 55 = .ok (.iconst 0, 1) := dk_3 (dk_at dksX9_minutes_2 8 rfl rfl)
theorem dX9_minutes_56 : decode cX9_minutes 56 = .ok (.invokevirtual 170, 3) := dk_182 0 170 (dk_at dksX9_minutes_2 9 rfl rfl)
theorem dX9_minutes_59 : decode cX9_minutes 59 = .ok (.iinc 2 1, 3) := dk_132 2 1 (dk_at dksX9_minutes_2 12 rfl rfl)
theorem dX9_minutes_62 : decode cX9_minutes 62 = .ok (.goto (-17), 3) := dk_167 255 239 (dk_at dksX9_minutes_2 15 rfl rfl)
theorem dX9_minutes_65 : decode cX9_minutes 65 = .ok (.aload_n 0, 1) := dk_42 (dk_at dksX9_minutes_2 18 rfl rfl)
theorem dX9_minutes_66 : decode cX9_minutes 66 = .ok (.iconst 0, 1) := dk_3 (dk_at dksX9_minutes_2 19 rfl rfl)
theorem dX9_minutes_67 : decode cX9_minutes 67 = .ok (.invokevirtual 173, 3) := dk_182 0 173 (dk_at dksX9_minutes_2 20 rfl rfl)
theorem dX9_minutes_70 : decode cX9_minutes 70 = .ok (.ireturn, 1) := dk_172 (dk_at dksX9_minutes_2 23 rfl rfl)
abbrev cX9_isHouse : ByteArray := prog_16_method_9_code
def yX9_isHouse : MethodName := ⟨RX9, "isHouse", "()Z"⟩
def dkwX9_isHouse_0 : List UInt8 := [42, 180, 0, 7, 3, 46, 158, 0, 7, 4, 167, 0, 4, 3, 172]
abbrev dktX9_isHouse_0 : List UInt8 := dkwX9_isHouse_0 ++ []
theorem dksX9_isHouse_0 : cX9_isHouse.data.toList.drop 0 = dktX9_isHouse_0 := by decide +kernel
theorem dX9_isHouse_0 : decode cX9_isHouse 0 = .ok (.aload_n 0, 1) := dk_42 (dk_at dksX9_isHouse_0 0 rfl rfl)
theorem dX9_isHouse_1 : decode cX9_isHouse 1 = .ok (.getfield 7, 3) := dk_180 0 7 (dk_at dksX9_isHouse_0 1 rfl rfl)
theorem dX9_isHouse_4 : decode cX9_isHouse 4 = .ok (.iconst 0, 1) := dk_3 (dk_at dksX9_isHouse_0 4 rfl rfl)
theorem dX9_isHouse_5 : decode cX9_isHouse 5 = .ok (.iaload, 1) := dk_46 (dk_at dksX9_isHouse_0 5 rfl rfl)
theorem dX9_isHouse_6 : decode cX9_isHouse 6 = .ok (.ifCond .le 7, 3) := dk_158 0 7 (dk_at dksX9_isHouse_0 6 rfl rfl)
theorem dX9_isHouse_9 : decode cX9_isHouse 9 = .ok (.iconst 1, 1) := dk_4 (dk_at dksX9_isHouse_0 9 rfl rfl)
theorem dX9_isHouse_10 : decode cX9_isHouse 10 = .ok (.goto 4, 3) := dk_167 0 4 (dk_at dksX9_isHouse_0 10 rfl rfl)
theorem dX9_isHouse_13 : decode cX9_isHouse 13 = .ok (.iconst 0, 1) := dk_3 (dk_at dksX9_isHouse_0 13 rfl rfl)
theorem dX9_isHouse_14 : decode cX9_isHouse 14 = .ok (.ireturn, 1) := dk_172 (dk_at dksX9_isHouse_0 14 rfl rfl)
abbrev cX9_minds : ByteArray := prog_16_method_41_code
def yX9_minds : MethodName := ⟨RX9, "minds", "()V"⟩
def dkwX9_minds_3 : List UInt8 := [104, 96, 182, 0, 120, 42, 89, 180, 0, 124, 4, 96, 181, 0, 124, 177]
abbrev dktX9_minds_3 : List UInt8 := dkwX9_minds_3 ++ []
def dkwX9_minds_2 : List UInt8 := [167, 255, 223, 42, 89, 180, 0, 124, 4, 100, 181, 0, 124, 42, 3, 17, 0, 215, 16, 43, 42, 180, 0, 124]
abbrev dktX9_minds_2 : List UInt8 := dkwX9_minds_2 ++ dktX9_minds_3
def dkwX9_minds_1 : List UInt8 := [17, 0, 215, 27, 96, 42, 180, 0, 7, 17, 0, 215, 27, 96, 16, 43, 96, 46, 79, 132, 1, 1]
abbrev dktX9_minds_1 : List UInt8 := dkwX9_minds_1 ++ dktX9_minds_2
def dkwX9_minds_0 : List UInt8 := [42, 180, 0, 124, 16, 24, 160, 0, 51, 3, 60, 27, 17, 3, 221, 162, 0, 32, 42, 180, 0, 7]
abbrev dktX9_minds_0 : List UInt8 := dkwX9_minds_0 ++ dktX9_minds_1
theorem dksX9_minds_0 : cX9_minds.data.toList.drop 0 = dktX9_minds_0 := by decide +kernel
theorem dksX9_minds_1 : cX9_minds.data.toList.drop 22 = dktX9_minds_1 := dk_seg dksX9_minds_0 22 rfl rfl
theorem dksX9_minds_2 : cX9_minds.data.toList.drop 44 = dktX9_minds_2 := dk_seg dksX9_minds_1 22 rfl rfl
theorem dksX9_minds_3 : cX9_minds.data.toList.drop 68 = dktX9_minds_3 := dk_seg dksX9_minds_2 24 rfl rfl
theorem dX9_minds_0 : decode cX9_minds 0 = .ok (.aload_n 0, 1) := dk_42 (dk_at dksX9_minds_0 0 rfl rfl)
theorem dX9_minds_1 : decode cX9_minds 1 = .ok (.getfield 124, 3) := dk_180 0 124 (dk_at dksX9_minds_0 1 rfl rfl)
theorem dX9_minds_4 : decode cX9_minds 4 = .ok (.bipush 24, 2) := dk_16 24 (dk_at dksX9_minds_0 4 rfl rfl)
theorem dX9_minds_6 : decode cX9_minds 6 = .ok (.if_icmp .ne 51, 3) := dk_160 0 51 (dk_at dksX9_minds_0 6 rfl rfl)
theorem dX9_minds_9 : decode cX9_minds 9 = .ok (.iconst 0, 1) := dk_3 (dk_at dksX9_minds_0 9 rfl rfl)
theorem dX9_minds_10 : decode cX9_minds 10 = .ok (.istore_n 1, 1) := dk_60 (dk_at dksX9_minds_0 10 rfl rfl)
theorem dX9_minds_11 : decode cX9_minds 11 = .ok (.iload_n 1, 1) := dk_27 (dk_at dksX9_minds_0 11 rfl rfl)
theorem dX9_minds_12 : decode cX9_minds 12 = .ok (.sipush 989, 3) := dk_17 3 221 (dk_at dksX9_minds_0 12 rfl rfl)
theorem dX9_minds_15 : decode cX9_minds 15 = .ok (.if_icmp .ge 32, 3) := dk_162 0 32 (dk_at dksX9_minds_0 15 rfl rfl)
theorem dX9_minds_18 : decode cX9_minds 18 = .ok (.aload_n 0, 1) := dk_42 (dk_at dksX9_minds_0 18 rfl rfl)
theorem dX9_minds_19 : decode cX9_minds 19 = .ok (.getfield 7, 3) := dk_180 0 7 (dk_at dksX9_minds_0 19 rfl rfl)
theorem dX9_minds_22 : decode cX9_minds 22 = .ok (.sipush 215, 3) := dk_17 0 215 (dk_at dksX9_minds_1 0 rfl rfl)
theorem dX9_minds_25 : decode cX9_minds 25 = .ok (.iload_n 1, 1) := dk_27 (dk_at dksX9_minds_1 3 rfl rfl)
theorem dX9_minds_26 : decode cX9_minds 26 = .ok (.iadd, 1) := dk_96 (dk_at dksX9_minds_1 4 rfl rfl)
theorem dX9_minds_27 : decode cX9_minds 27 = .ok (.aload_n 0, 1) := dk_42 (dk_at dksX9_minds_1 5 rfl rfl)
theorem dX9_minds_28 : decode cX9_minds 28 = .ok (.getfield 7, 3) := dk_180 0 7 (dk_at dksX9_minds_1 6 rfl rfl)
theorem dX9_minds_31 : decode cX9_minds 31 = .ok (.sipush 215, 3) := dk_17 0 215 (dk_at dksX9_minds_1 9 rfl rfl)
theorem dX9_minds_34 : decode cX9_minds 34 = .ok (.iload_n 1, 1) := dk_27 (dk_at dksX9_minds_1 12 rfl rfl)
theorem dX9_minds_35 : decode cX9_minds 35 = .ok (.iadd, 1) := dk_96 (dk_at dksX9_minds_1 13 rfl rfl)
theorem dX9_minds_36 : decode cX9_minds 36 = .ok (.bipush 43, 2) := dk_16 43 (dk_at dksX9_minds_1 14 rfl rfl)
theorem dX9_minds_38 : decode cX9_minds 38 = .ok (.iadd, 1) := dk_96 (dk_at dksX9_minds_1 16 rfl rfl)
theorem dX9_minds_39 : decode cX9_minds 39 = .ok (.iaload, 1) := dk_46 (dk_at dksX9_minds_1 17 rfl rfl)
theorem dX9_minds_40 : decode cX9_minds 40 = .ok (.iastore, 1) := dk_79 (dk_at dksX9_minds_1 18 rfl rfl)
theorem dX9_minds_41 : decode cX9_minds 41 = .ok (.iinc 1 1, 3) := dk_132 1 1 (dk_at dksX9_minds_1 19 rfl rfl)
theorem dX9_minds_44 : decode cX9_minds 44 = .ok (.goto (-33), 3) := dk_167 255 223 (dk_at dksX9_minds_2 0 rfl rfl)
theorem dX9_minds_47 : decode cX9_minds 47 = .ok (.aload_n 0, 1) := dk_42 (dk_at dksX9_minds_2 3 rfl rfl)
theorem dX9_minds_48 : decode cX9_minds 48 = .ok (.dup, 1) := dk_89 (dk_at dksX9_minds_2 4 rfl rfl)
theorem dX9_minds_49 : decode cX9_minds 49 = .ok (.getfield 124, 3) := dk_180 0 124 (dk_at dksX9_minds_2 5 rfl rfl)
theorem dX9_minds_52 : decode cX9_minds 52 = .ok (.iconst 1, 1) := dk_4 (dk_at dksX9_minds_2 8 rfl rfl)
theorem dX9_minds_53 : decode cX9_minds 53 = .ok (.isub, 1) := dk_100 (dk_at dksX9_minds_2 9 rfl rfl)
theorem dX9_minds_54 : decode cX9_minds 54 = .ok (.putfield 124, 3) := dk_181 0 124 (dk_at dksX9_minds_2 10 rfl rfl)
theorem dX9_minds_57 : decode cX9_minds 57 = .ok (.aload_n 0, 1) := dk_42 (dk_at dksX9_minds_2 13 rfl rfl)
theorem dX9_minds_58 : decode cX9_minds 58 = .ok (.iconst 0, 1) := dk_3 (dk_at dksX9_minds_2 14 rfl rfl)
theorem dX9_minds_59 : decode cX9_minds 59 = .ok (.sipush 215, 3) := dk_17 0 215 (dk_at dksX9_minds_2 15 rfl rfl)
theorem dX9_minds_62 : decode cX9_minds 62 = .ok (.bipush 43, 2) := dk_16 43 (dk_at dksX9_minds_2 18 rfl rfl)
theorem dX9_minds_64 : decode cX9_minds 64 = .ok (.aload_n 0, 1) := dk_42 (dk_at dksX9_minds_2 20 rfl rfl)
theorem dX9_minds_65 : decode cX9_minds 65 = .ok (.getfield 124, 3) := dk_180 0 124 (dk_at dksX9_minds_2 21 rfl rfl)
theorem dX9_minds_68 : decode cX9_minds 68 = .ok (.imul, 1) := dk_104 (dk_at dksX9_minds_3 0 rfl rfl)
theorem dX9_minds_69 : decode cX9_minds 69 = .ok (.iadd, 1) := dk_96 (dk_at dksX9_minds_3 1 rfl rfl)
theorem dX9_minds_70 : decode cX9_minds 70 = .ok (.invokevirtual 120, 3) := dk_182 0 120 (dk_at dksX9_minds_3 2 rfl rfl)
theorem dX9_minds_73 : decode cX9_minds 73 = .ok (.aload_n 0, 1) := dk_42 (dk_at dksX9_minds_3 5 rfl rfl)
theorem dX9_minds_74 : decode cX9_minds 74 = .ok (.dup, 1) := dk_89 (dk_at dksX9_minds_3 6 rfl rfl)
theorem dX9_minds_75 : decode cX9_minds 75 = .ok (.getfield 124, 3) := dk_180 0 124 (dk_at dksX9_minds_3 7 rfl rfl)
theorem dX9_minds_78 : decode cX9_minds 78 = .ok (.iconst 1, 1) := dk_4 (dk_at dksX9_minds_3 10 rfl rfl)
theorem dX9_minds_79 : decode cX9_minds 79 = .ok (.iadd, 1) := dk_96 (dk_at dksX9_minds_3 11 rfl rfl)
theorem dX9_minds_80 : decode cX9_minds 80 = .ok (.putfield 124, 3) := dk_181 0 124 (dk_at dksX9_minds_3 12 rfl rfl)
theorem dX9_minds_83 : decode cX9_minds 83 = .ok (.return_, 1) := dk_177 (dk_at dksX9_minds_3 15 rfl rfl)
abbrev cX9_passes : ByteArray := prog_16_method_36_code
def yX9_passes : MethodName := ⟨RX9, "passes", "(I)V"⟩
def dkwX9_passes_0 : List UInt8 := [42, 27, 182, 0, 147, 42, 27, 42, 27, 182, 0, 151, 182, 0, 154, 177]
abbrev dktX9_passes_0 : List UInt8 := dkwX9_passes_0 ++ []
theorem dksX9_passes_0 : cX9_passes.data.toList.drop 0 = dktX9_passes_0 := by decide +kernel
theorem dX9_passes_0 : decode cX9_passes 0 = .ok (.aload_n 0, 1) := dk_42 (dk_at dksX9_passes_0 0 rfl rfl)
theorem dX9_passes_1 : decode cX9_passes 1 = .ok (.iload_n 1, 1) := dk_27 (dk_at dksX9_passes_0 1 rfl rfl)
theorem dX9_passes_2 : decode cX9_passes 2 = .ok (.invokevirtual 147, 3) := dk_182 0 147 (dk_at dksX9_passes_0 2 rfl rfl)
theorem dX9_passes_5 : decode cX9_passes 5 = .ok (.aload_n 0, 1) := dk_42 (dk_at dksX9_passes_0 5 rfl rfl)
theorem dX9_passes_6 : decode cX9_passes 6 = .ok (.iload_n 1, 1) := dk_27 (dk_at dksX9_passes_0 6 rfl rfl)
theorem dX9_passes_7 : decode cX9_passes 7 = .ok (.aload_n 0, 1) := dk_42 (dk_at dksX9_passes_0 7 rfl rfl)
theorem dX9_passes_8 : decode cX9_passes 8 = .ok (.iload_n 1, 1) := dk_27 (dk_at dksX9_passes_0 8 rfl rfl)
theorem dX9_passes_9 : decode cX9_passes 9 = .ok (.invokevirtual 151, 3) := dk_182 0 151 (dk_at dksX9_passes_0 9 rfl rfl)
theorem dX9_passes_12 : decode cX9_passes 12 = .ok (.invokevirtual 154, 3) := dk_182 0 154 (dk_at dksX9_passes_0 12 rfl rfl)
theorem dX9_passes_15 : decode cX9_passes 15 = .ok (.return_, 1) := dk_177 (dk_at dksX9_passes_0 15 rfl rfl)
abbrev cX9_serves : ByteArray := prog_16_method_31_code
def yX9_serves : MethodName := ⟨RX9, "serves", "(I)V"⟩
def dkwX9_serves_11 : List UInt8 := [167, 255, 115, 177]
abbrev dktX9_serves_11 : List UInt8 := dkwX9_serves_11 ++ []
def dkwX9_serves_10 : List UInt8 := [153, 0, 8, 16, 10, 167, 0, 14, 42, 180, 0, 7, 27, 16, 13, 96, 29, 96, 46, 79, 132, 2, 1]
abbrev dktX9_serves_10 : List UInt8 := dkwX9_serves_10 ++ dktX9_serves_11
def dkwX9_serves_9 : List UInt8 := [180, 0, 7, 27, 16, 13, 96, 29, 96, 46, 42, 180, 0, 7, 27, 7, 96, 46, 160, 0, 13, 21, 5]
abbrev dktX9_serves_9 : List UInt8 := dkwX9_serves_9 ++ dktX9_serves_10
def dkwX9_serves_8 : List UInt8 := [46, 163, 0, 7, 4, 167, 0, 4, 3, 54, 5, 42, 180, 0, 7, 27, 16, 13, 96, 29, 96, 42]
abbrev dktX9_serves_8 : List UInt8 := dkwX9_serves_8 ++ dktX9_serves_9
def dkwX9_serves_7 : List UInt8 := [21, 4, 182, 0, 136, 42, 180, 0, 7, 27, 16, 25, 96, 29, 96, 46, 96, 42, 180, 0, 7, 27, 6, 96]
abbrev dktX9_serves_7 : List UInt8 := dkwX9_serves_7 ++ dktX9_serves_8
def dkwX9_serves_6 : List UInt8 := [27, 182, 0, 130, 54, 4, 21, 4, 184, 0, 133, 42, 180, 0, 7, 27, 5, 96, 46, 162, 0, 37, 42, 27]
abbrev dktX9_serves_6 : List UInt8 := dkwX9_serves_6 ++ dktX9_serves_7
def dkwX9_serves_5 : List UInt8 := [42, 180, 0, 7, 27, 3, 96, 46, 162, 0, 135, 42, 180, 0, 7, 27, 16, 37, 96, 28, 96, 46, 62, 42]
abbrev dktX9_serves_5 : List UInt8 := dkwX9_serves_5 ++ dktX9_serves_6
def dkwX9_serves_4 : List UInt8 := [167, 0, 14, 42, 180, 0, 7, 27, 16, 13, 96, 28, 96, 46, 79, 132, 2, 1, 167, 255, 144, 3, 61, 28]
abbrev dktX9_serves_4 : List UInt8 := dkwX9_serves_4 ++ dktX9_serves_5
def dkwX9_serves_3 : List UInt8 := [42, 180, 0, 7, 27, 16, 19, 96, 28, 96, 46, 42, 180, 0, 7, 27, 7, 96, 46, 160, 0, 8, 16, 11]
abbrev dktX9_serves_3 : List UInt8 := dkwX9_serves_3 ++ dktX9_serves_4
def dkwX9_serves_2 : List UInt8 := [46, 160, 0, 7, 4, 167, 0, 4, 3, 62, 42, 180, 0, 7, 27, 16, 13, 96, 28, 96, 29, 153, 0, 30]
abbrev dktX9_serves_2 : List UInt8 := dkwX9_serves_2 ++ dktX9_serves_3
def dkwX9_serves_1 : List UInt8 := [46, 16, 10, 159, 0, 25, 42, 180, 0, 7, 27, 16, 13, 96, 28, 96, 46, 42, 180, 0, 7, 27, 7, 96]
abbrev dktX9_serves_1 : List UInt8 := dkwX9_serves_1 ++ dktX9_serves_2
def dkwX9_serves_0 : List UInt8 := [3, 61, 28, 42, 180, 0, 7, 27, 3, 96, 46, 162, 0, 106, 42, 180, 0, 7, 27, 16, 13, 96, 28, 96]
abbrev dktX9_serves_0 : List UInt8 := dkwX9_serves_0 ++ dktX9_serves_1
theorem dksX9_serves_0 : cX9_serves.data.toList.drop 0 = dktX9_serves_0 := by decide +kernel
theorem dksX9_serves_1 : cX9_serves.data.toList.drop 24 = dktX9_serves_1 := dk_seg dksX9_serves_0 24 rfl rfl
theorem dksX9_serves_2 : cX9_serves.data.toList.drop 48 = dktX9_serves_2 := dk_seg dksX9_serves_1 24 rfl rfl
theorem dksX9_serves_3 : cX9_serves.data.toList.drop 72 = dktX9_serves_3 := dk_seg dksX9_serves_2 24 rfl rfl
theorem dksX9_serves_4 : cX9_serves.data.toList.drop 96 = dktX9_serves_4 := dk_seg dksX9_serves_3 24 rfl rfl
theorem dksX9_serves_5 : cX9_serves.data.toList.drop 120 = dktX9_serves_5 := dk_seg dksX9_serves_4 24 rfl rfl
theorem dksX9_serves_6 : cX9_serves.data.toList.drop 144 = dktX9_serves_6 := dk_seg dksX9_serves_5 24 rfl rfl
theorem dksX9_serves_7 : cX9_serves.data.toList.drop 168 = dktX9_serves_7 := dk_seg dksX9_serves_6 24 rfl rfl
theorem dksX9_serves_8 : cX9_serves.data.toList.drop 192 = dktX9_serves_8 := dk_seg dksX9_serves_7 24 rfl rfl
theorem dksX9_serves_9 : cX9_serves.data.toList.drop 214 = dktX9_serves_9 := dk_seg dksX9_serves_8 22 rfl rfl
theorem dksX9_serves_10 : cX9_serves.data.toList.drop 237 = dktX9_serves_10 := dk_seg dksX9_serves_9 23 rfl rfl
theorem dksX9_serves_11 : cX9_serves.data.toList.drop 260 = dktX9_serves_11 := dk_seg dksX9_serves_10 23 rfl rfl
theorem dX9_serves_0 : decode cX9_serves 0 = .ok (.iconst 0, 1) := dk_3 (dk_at dksX9_serves_0 0 rfl rfl)
theorem dX9_serves_1 : decode cX9_serves 1 = .ok (.istore_n 2, 1) := dk_61 (dk_at dksX9_serves_0 1 rfl rfl)
theorem dX9_serves_2 : decode cX9_serves 2 = .ok (.iload_n 2, 1) := dk_28 (dk_at dksX9_serves_0 2 rfl rfl)
theorem dX9_serves_3 : decode cX9_serves 3 = .ok (.aload_n 0, 1) := dk_42 (dk_at dksX9_serves_0 3 rfl rfl)
theorem dX9_serves_4 : decode cX9_serves 4 = .ok (.getfield 7, 3) := dk_180 0 7 (dk_at dksX9_serves_0 4 rfl rfl)
theorem dX9_serves_7 : decode cX9_serves 7 = .ok (.iload_n 1, 1) := dk_27 (dk_at dksX9_serves_0 7 rfl rfl)
theorem dX9_serves_8 : decode cX9_serves 8 = .ok (.iconst 0, 1) := dk_3 (dk_at dksX9_serves_0 8 rfl rfl)
theorem dX9_serves_9 : decode cX9_serves 9 = .ok (.iadd, 1) := dk_96 (dk_at dksX9_serves_0 9 rfl rfl)
theorem dX9_serves_10 : decode cX9_serves 10 = .ok (.iaload, 1) := dk_46 (dk_at dksX9_serves_0 10 rfl rfl)
theorem dX9_serves_11 : decode cX9_serves 11 = .ok (.if_icmp .ge 106, 3) := dk_162 0 106 (dk_at dksX9_serves_0 11 rfl rfl)
theorem dX9_serves_14 : decode cX9_serves 14 = .ok (.aload_n 0, 1) := dk_42 (dk_at dksX9_serves_0 14 rfl rfl)
theorem dX9_serves_15 : decode cX9_serves 15 = .ok (.getfield 7, 3) := dk_180 0 7 (dk_at dksX9_serves_0 15 rfl rfl)
theorem dX9_serves_18 : decode cX9_serves 18 = .ok (.iload_n 1, 1) := dk_27 (dk_at dksX9_serves_0 18 rfl rfl)
theorem dX9_serves_19 : decode cX9_serves 19 = .ok (.bipush 13, 2) := dk_16 13 (dk_at dksX9_serves_0 19 rfl rfl)
theorem dX9_serves_21 : decode cX9_serves 21 = .ok (.iadd, 1) := dk_96 (dk_at dksX9_serves_0 21 rfl rfl)
theorem dX9_serves_22 : decode cX9_serves 22 = .ok (.iload_n 2, 1) := dk_28 (dk_at dksX9_serves_0 22 rfl rfl)
theorem dX9_serves_23 : decode cX9_serves 23 = .ok (.iadd, 1) := dk_96 (dk_at dksX9_serves_0 23 rfl rfl)
theorem dX9_serves_24 : decode cX9_serves 24 = .ok (.iaload, 1) := dk_46 (dk_at dksX9_serves_1 0 rfl rfl)
theorem dX9_serves_25 : decode cX9_serves 25 = .ok (.bipush 10, 2) := dk_16 10 (dk_at dksX9_serves_1 1 rfl rfl)
theorem dX9_serves_27 : decode cX9_serves 27 = .ok (.if_icmp .eq 25, 3) := dk_159 0 25 (dk_at dksX9_serves_1 3 rfl rfl)
theorem dX9_serves_30 : decode cX9_serves 30 = .ok (.aload_n 0, 1) := dk_42 (dk_at dksX9_serves_1 6 rfl rfl)
theorem dX9_serves_31 : decode cX9_serves 31 = .ok (.getfield 7, 3) := dk_180 0 7 (dk_at dksX9_serves_1 7 rfl rfl)
theorem dX9_serves_34 : decode cX9_serves 34 = .ok (.iload_n 1, 1) := dk_27 (dk_at dksX9_serves_1 10 rfl rfl)
theorem dX9_serves_35 : decode cX9_serves 35 = .ok (.bipush 13, 2) := dk_16 13 (dk_at dksX9_serves_1 11 rfl rfl)
theorem dX9_serves_37 : decode cX9_serves 37 = .ok (.iadd, 1) := dk_96 (dk_at dksX9_serves_1 13 rfl rfl)
theorem dX9_serves_38 : decode cX9_serves 38 = .ok (.iload_n 2, 1) := dk_28 (dk_at dksX9_serves_1 14 rfl rfl)
theorem dX9_serves_39 : decode cX9_serves 39 = .ok (.iadd, 1) := dk_96 (dk_at dksX9_serves_1 15 rfl rfl)
theorem dX9_serves_40 : decode cX9_serves 40 = .ok (.iaload, 1) := dk_46 (dk_at dksX9_serves_1 16 rfl rfl)
theorem dX9_serves_41 : decode cX9_serves 41 = .ok (.aload_n 0, 1) := dk_42 (dk_at dksX9_serves_1 17 rfl rfl)
theorem dX9_serves_42 : decode cX9_serves 42 = .ok (.getfield 7, 3) := dk_180 0 7 (dk_at dksX9_serves_1 18 rfl rfl)
theorem dX9_serves_45 : decode cX9_serves 45 = .ok (.iload_n 1, 1) := dk_27 (dk_at dksX9_serves_1 21 rfl rfl)
theorem dX9_serves_46 : decode cX9_serves 46 = .ok (.iconst 4, 1) := dk_7 (dk_at dksX9_serves_1 22 rfl rfl)
theorem dX9_serves_47 : decode cX9_serves 47 = .ok (.iadd, 1) := dk_96 (dk_at dksX9_serves_1 23 rfl rfl)
theorem dX9_serves_48 : decode cX9_serves 48 = .ok (.iaload, 1) := dk_46 (dk_at dksX9_serves_2 0 rfl rfl)
theorem dX9_serves_49 : decode cX9_serves 49 = .ok (.if_icmp .ne 7, 3) := dk_160 0 7 (dk_at dksX9_serves_2 1 rfl rfl)
theorem dX9_serves_52 : decode cX9_serves 52 = .ok (.iconst 1, 1) := dk_4 (dk_at dksX9_serves_2 4 rfl rfl)
theorem dX9_serves_53 : decode cX9_serves 53 = .ok (.goto 4, 3) := dk_167 0 4 (dk_at dksX9_serves_2 5 rfl rfl)
theorem dX9_serves_56 : decode cX9_serves 56 = .ok (.iconst 0, 1) := dk_3 (dk_at dksX9_serves_2 8 rfl rfl)
theorem dX9_serves_57 : decode cX9_serves 57 = .ok (.istore_n 3, 1) := dk_62 (dk_at dksX9_serves_2 9 rfl rfl)
theorem dX9_serves_58 : decode cX9_serves 58 = .ok (.aload_n 0, 1) := dk_42 (dk_at dksX9_serves_2 10 rfl rfl)
theorem dX9_serves_59 : decode cX9_serves 59 = .ok (.getfield 7, 3) := dk_180 0 7 (dk_at dksX9_serves_2 11 rfl rfl)
theorem dX9_serves_62 : decode cX9_serves 62 = .ok (.iload_n 1, 1) := dk_27 (dk_at dksX9_serves_2 14 rfl rfl)
theorem dX9_serves_63 : decode cX9_serves 63 = .ok (.bipush 13, 2) := dk_16 13 (dk_at dksX9_serves_2 15 rfl rfl)
theorem dX9_serves_65 : decode cX9_serves 65 = .ok (.iadd, 1) := dk_96 (dk_at dksX9_serves_2 17 rfl rfl)
theorem dX9_serves_66 : decode cX9_serves 66 = .ok (.iload_n 2, 1) := dk_28 (dk_at dksX9_serves_2 18 rfl rfl)
theorem dX9_serves_67 : decode cX9_serves 67 = .ok (.iadd, 1) := dk_96 (dk_at dksX9_serves_2 19 rfl rfl)
theorem dX9_serves_68 : decode cX9_serves 68 = .ok (.iload_n 3, 1) := dk_29 (dk_at dksX9_serves_2 20 rfl rfl)
theorem dX9_serves_69 : decode cX9_serves 69 = .ok (.ifCond .eq 30, 3) := dk_153 0 30 (dk_at dksX9_serves_2 21 rfl rfl)
theorem dX9_serves_72 : decode cX9_serves 72 = .ok (.aload_n 0, 1) := dk_42 (dk_at dksX9_serves_3 0 rfl rfl)
theorem dX9_serves_73 : decode cX9_serves 73 = .ok (.getfield 7, 3) := dk_180 0 7 (dk_at dksX9_serves_3 1 rfl rfl)
theorem dX9_serves_76 : decode cX9_serves 76 = .ok (.iload_n 1, 1) := dk_27 (dk_at dksX9_serves_3 4 rfl rfl)
theorem dX9_serves_77 : decode cX9_serves 77 = .ok (.bipush 19, 2) := dk_16 19 (dk_at dksX9_serves_3 5 rfl rfl)
theorem dX9_serves_79 : decode cX9_serves 79 = .ok (.iadd, 1) := dk_96 (dk_at dksX9_serves_3 7 rfl rfl)
theorem dX9_serves_80 : decode cX9_serves 80 = .ok (.iload_n 2, 1) := dk_28 (dk_at dksX9_serves_3 8 rfl rfl)
theorem dX9_serves_81 : decode cX9_serves 81 = .ok (.iadd, 1) := dk_96 (dk_at dksX9_serves_3 9 rfl rfl)
theorem dX9_serves_82 : decode cX9_serves 82 = .ok (.iaload, 1) := dk_46 (dk_at dksX9_serves_3 10 rfl rfl)
theorem dX9_serves_83 : decode cX9_serves 83 = .ok (.aload_n 0, 1) := dk_42 (dk_at dksX9_serves_3 11 rfl rfl)
theorem dX9_serves_84 : decode cX9_serves 84 = .ok (.getfield 7, 3) := dk_180 0 7 (dk_at dksX9_serves_3 12 rfl rfl)
theorem dX9_serves_87 : decode cX9_serves 87 = .ok (.iload_n 1, 1) := dk_27 (dk_at dksX9_serves_3 15 rfl rfl)
theorem dX9_serves_88 : decode cX9_serves 88 = .ok (.iconst 4, 1) := dk_7 (dk_at dksX9_serves_3 16 rfl rfl)
theorem dX9_serves_89 : decode cX9_serves 89 = .ok (.iadd, 1) := dk_96 (dk_at dksX9_serves_3 17 rfl rfl)
theorem dX9_serves_90 : decode cX9_serves 90 = .ok (.iaload, 1) := dk_46 (dk_at dksX9_serves_3 18 rfl rfl)
theorem dX9_serves_91 : decode cX9_serves 91 = .ok (.if_icmp .ne 8, 3) := dk_160 0 8 (dk_at dksX9_serves_3 19 rfl rfl)
theorem dX9_serves_94 : decode cX9_serves 94 = .ok (.bipush 11, 2) := dk_16 11 (dk_at dksX9_serves_3 22 rfl rfl)
theorem dX9_serves_96 : decode cX9_serves 96 = .ok (.goto 14, 3) := dk_167 0 14 (dk_at dksX9_serves_4 0 rfl rfl)
theorem dX9_serves_99 : decode cX9_serves 99 = .ok (.aload_n 0, 1) := dk_42 (dk_at dksX9_serves_4 3 rfl rfl)
theorem dX9_serves_100 : decode cX9_serves 100 = .ok (.getfield 7, 3) := dk_180 0 7 (dk_at dksX9_serves_4 4 rfl rfl)
theorem dX9_serves_103 : decode cX9_serves 103 = .ok (.iload_n 1, 1) := dk_27 (dk_at dksX9_serves_4 7 rfl rfl)
theorem dX9_serves_104 : decode cX9_serves 104 = .ok (.bipush 13, 2) := dk_16 13 (dk_at dksX9_serves_4 8 rfl rfl)
theorem dX9_serves_106 : decode cX9_serves 106 = .ok (.iadd, 1) := dk_96 (dk_at dksX9_serves_4 10 rfl rfl)
theorem dX9_serves_107 : decode cX9_serves 107 = .ok (.iload_n 2, 1) := dk_28 (dk_at dksX9_serves_4 11 rfl rfl)
theorem dX9_serves_108 : decode cX9_serves 108 = .ok (.iadd, 1) := dk_96 (dk_at dksX9_serves_4 12 rfl rfl)
theorem dX9_serves_109 : decode cX9_serves 109 = .ok (.iaload, 1) := dk_46 (dk_at dksX9_serves_4 13 rfl rfl)
theorem dX9_serves_110 : decode cX9_serves 110 = .ok (.iastore, 1) := dk_79 (dk_at dksX9_serves_4 14 rfl rfl)
theorem dX9_serves_111 : decode cX9_serves 111 = .ok (.iinc 2 1, 3) := dk_132 2 1 (dk_at dksX9_serves_4 15 rfl rfl)
theorem dX9_serves_114 : decode cX9_serves 114 = .ok (.goto (-112), 3) := dk_167 255 144 (dk_at dksX9_serves_4 18 rfl rfl)
theorem dX9_serves_117 : decode cX9_serves 117 = .ok (.iconst 0, 1) := dk_3 (dk_at dksX9_serves_4 21 rfl rfl)
theorem dX9_serves_118 : decode cX9_serves 118 = .ok (.istore_n 2, 1) := dk_61 (dk_at dksX9_serves_4 22 rfl rfl)
theorem dX9_serves_119 : decode cX9_serves 119 = .ok (.iload_n 2, 1) := dk_28 (dk_at dksX9_serves_4 23 rfl rfl)
theorem dX9_serves_120 : decode cX9_serves 120 = .ok (.aload_n 0, 1) := dk_42 (dk_at dksX9_serves_5 0 rfl rfl)
theorem dX9_serves_121 : decode cX9_serves 121 = .ok (.getfield 7, 3) := dk_180 0 7 (dk_at dksX9_serves_5 1 rfl rfl)
theorem dX9_serves_124 : decode cX9_serves 124 = .ok (.iload_n 1, 1) := dk_27 (dk_at dksX9_serves_5 4 rfl rfl)
theorem dX9_serves_125 : decode cX9_serves 125 = .ok (.iconst 0, 1) := dk_3 (dk_at dksX9_serves_5 5 rfl rfl)
theorem dX9_serves_126 : decode cX9_serves 126 = .ok (.iadd, 1) := dk_96 (dk_at dksX9_serves_5 6 rfl rfl)
theorem dX9_serves_127 : decode cX9_serves 127 = .ok (.iaload, 1) := dk_46 (dk_at dksX9_serves_5 7 rfl rfl)
theorem dX9_serves_128 : decode cX9_serves 128 = .ok (.if_icmp .ge 135, 3) := dk_162 0 135 (dk_at dksX9_serves_5 8 rfl rfl)
theorem dX9_serves_131 : decode cX9_serves 131 = .ok (.aload_n 0, 1) := dk_42 (dk_at dksX9_serves_5 11 rfl rfl)
theorem dX9_serves_132 : decode cX9_serves 132 = .ok (.getfield 7, 3) := dk_180 0 7 (dk_at dksX9_serves_5 12 rfl rfl)
theorem dX9_serves_135 : decode cX9_serves 135 = .ok (.iload_n 1, 1) := dk_27 (dk_at dksX9_serves_5 15 rfl rfl)
theorem dX9_serves_136 : decode cX9_serves 136 = .ok (.bipush 37, 2) := dk_16 37 (dk_at dksX9_serves_5 16 rfl rfl)
theorem dX9_serves_138 : decode cX9_serves 138 = .ok (.iadd, 1) := dk_96 (dk_at dksX9_serves_5 18 rfl rfl)
theorem dX9_serves_139 : decode cX9_serves 139 = .ok (.iload_n 2, 1) := dk_28 (dk_at dksX9_serves_5 19 rfl rfl)
theorem dX9_serves_140 : decode cX9_serves 140 = .ok (.iadd, 1) := dk_96 (dk_at dksX9_serves_5 20 rfl rfl)
theorem dX9_serves_141 : decode cX9_serves 141 = .ok (.iaload, 1) := dk_46 (dk_at dksX9_serves_5 21 rfl rfl)
theorem dX9_serves_142 : decode cX9_serves 142 = .ok (.istore_n 3, 1) := dk_62 (dk_at dksX9_serves_5 22 rfl rfl)
theorem dX9_serves_143 : decode cX9_serves 143 = .ok (.aload_n 0, 1) := dk_42 (dk_at dksX9_serves_5 23 rfl rfl)
theorem dX9_serves_144 : decode cX9_serves 144 = .ok (.iload_n 1, 1) := dk_27 (dk_at dksX9_serves_6 0 rfl rfl)
theorem dX9_serves_145 : decode cX9_serves 145 = .ok (.invokevirtual 130, 3) := dk_182 0 130 (dk_at dksX9_serves_6 1 rfl rfl)
theorem dX9_serves_148 : decode cX9_serves 148 = .ok (.istore 4, 2) := dk_54 4 (dk_at dksX9_serves_6 4 rfl rfl)
theorem dX9_serves_150 : decode cX9_serves 150 = .ok (.iload 4, 2) := dk_21 4 (dk_at dksX9_serves_6 6 rfl rfl)
theorem dX9_serves_152 : decode cX9_serves 152 = .ok (.invokestatic 133, 3) := dk_184 0 133 (dk_at dksX9_serves_6 8 rfl rfl)
theorem dX9_serves_155 : decode cX9_serves 155 = .ok (.aload_n 0, 1) := dk_42 (dk_at dksX9_serves_6 11 rfl rfl)
theorem dX9_serves_156 : decode cX9_serves 156 = .ok (.getfield 7, 3) := dk_180 0 7 (dk_at dksX9_serves_6 12 rfl rfl)
theorem dX9_serves_159 : decode cX9_serves 159 = .ok (.iload_n 1, 1) := dk_27 (dk_at dksX9_serves_6 15 rfl rfl)
theorem dX9_serves_160 : decode cX9_serves 160 = .ok (.iconst 2, 1) := dk_5 (dk_at dksX9_serves_6 16 rfl rfl)
theorem dX9_serves_161 : decode cX9_serves 161 = .ok (.iadd, 1) := dk_96 (dk_at dksX9_serves_6 17 rfl rfl)
theorem dX9_serves_162 : decode cX9_serves 162 = .ok (.iaload, 1) := dk_46 (dk_at dksX9_serves_6 18 rfl rfl)
theorem dX9_serves_163 : decode cX9_serves 163 = .ok (.if_icmp .ge 37, 3) := dk_162 0 37 (dk_at dksX9_serves_6 19 rfl rfl)
theorem dX9_serves_166 : decode cX9_serves 166 = .ok (.aload_n 0, 1) := dk_42 (dk_at dksX9_serves_6 22 rfl rfl)
theorem dX9_serves_167 : decode cX9_serves 167 = .ok (.iload_n 1, 1) := dk_27 (dk_at dksX9_serves_6 23 rfl rfl)
theorem dX9_serves_168 : decode cX9_serves 168 = .ok (.iload 4, 2) := dk_21 4 (dk_at dksX9_serves_7 0 rfl rfl)
theorem dX9_serves_170 : decode cX9_serves 170 = .ok (.invokevirtual 136, 3) := dk_182 0 136 (dk_at dksX9_serves_7 2 rfl rfl)
theorem dX9_serves_173 : decode cX9_serves 173 = .ok (.aload_n 0, 1) := dk_42 (dk_at dksX9_serves_7 5 rfl rfl)
theorem dX9_serves_174 : decode cX9_serves 174 = .ok (.getfield 7, 3) := dk_180 0 7 (dk_at dksX9_serves_7 6 rfl rfl)
theorem dX9_serves_177 : decode cX9_serves 177 = .ok (.iload_n 1, 1) := dk_27 (dk_at dksX9_serves_7 9 rfl rfl)
theorem dX9_serves_178 : decode cX9_serves 178 = .ok (.bipush 25, 2) := dk_16 25 (dk_at dksX9_serves_7 10 rfl rfl)
theorem dX9_serves_180 : decode cX9_serves 180 = .ok (.iadd, 1) := dk_96 (dk_at dksX9_serves_7 12 rfl rfl)
theorem dX9_serves_181 : decode cX9_serves 181 = .ok (.iload_n 3, 1) := dk_29 (dk_at dksX9_serves_7 13 rfl rfl)
theorem dX9_serves_182 : decode cX9_serves 182 = .ok (.iadd, 1) := dk_96 (dk_at dksX9_serves_7 14 rfl rfl)
theorem dX9_serves_183 : decode cX9_serves 183 = .ok (.iaload, 1) := dk_46 (dk_at dksX9_serves_7 15 rfl rfl)
theorem dX9_serves_184 : decode cX9_serves 184 = .ok (.iadd, 1) := dk_96 (dk_at dksX9_serves_7 16 rfl rfl)
theorem dX9_serves_185 : decode cX9_serves 185 = .ok (.aload_n 0, 1) := dk_42 (dk_at dksX9_serves_7 17 rfl rfl)
theorem dX9_serves_186 : decode cX9_serves 186 = .ok (.getfield 7, 3) := dk_180 0 7 (dk_at dksX9_serves_7 18 rfl rfl)
theorem dX9_serves_189 : decode cX9_serves 189 = .ok (.iload_n 1, 1) := dk_27 (dk_at dksX9_serves_7 21 rfl rfl)
theorem dX9_serves_190 : decode cX9_serves 190 = .ok (.iconst 3, 1) := dk_6 (dk_at dksX9_serves_7 22 rfl rfl)
theorem dX9_serves_191 : decode cX9_serves 191 = .ok (.iadd, 1) := dk_96 (dk_at dksX9_serves_7 23 rfl rfl)
theorem dX9_serves_192 : decode cX9_serves 192 = .ok (.iaload, 1) := dk_46 (dk_at dksX9_serves_8 0 rfl rfl)
theorem dX9_serves_193 : decode cX9_serves 193 = .ok (.if_icmp .gt 7, 3) := dk_163 0 7 (dk_at dksX9_serves_8 1 rfl rfl)
theorem dX9_serves_196 : decode cX9_serves 196 = .ok (.iconst 1, 1) := dk_4 (dk_at dksX9_serves_8 4 rfl rfl)
theorem dX9_serves_197 : decode cX9_serves 197 = .ok (.goto 4, 3) := dk_167 0 4 (dk_at dksX9_serves_8 5 rfl rfl)
theorem dX9_serves_200 : decode cX9_serves 200 = .ok (.iconst 0, 1) := dk_3 (dk_at dksX9_serves_8 8 rfl rfl)
theorem dX9_serves_201 : decode cX9_serves 201 = .ok (.istore 5, 2) := dk_54 5 (dk_at dksX9_serves_8 9 rfl rfl)
theorem dX9_serves_203 : decode cX9_serves 203 = .ok (.aload_n 0, 1) := dk_42 (dk_at dksX9_serves_8 11 rfl rfl)
theorem dX9_serves_204 : decode cX9_serves 204 = .ok (.getfield 7, 3) := dk_180 0 7 (dk_at dksX9_serves_8 12 rfl rfl)
theorem dX9_serves_207 : decode cX9_serves 207 = .ok (.iload_n 1, 1) := dk_27 (dk_at dksX9_serves_8 15 rfl rfl)
theorem dX9_serves_208 : decode cX9_serves 208 = .ok (.bipush 13, 2) := dk_16 13 (dk_at dksX9_serves_8 16 rfl rfl)
theorem dX9_serves_210 : decode cX9_serves 210 = .ok (.iadd, 1) := dk_96 (dk_at dksX9_serves_8 18 rfl rfl)
theorem dX9_serves_211 : decode cX9_serves 211 = .ok (.iload_n 3, 1) := dk_29 (dk_at dksX9_serves_8 19 rfl rfl)
theorem dX9_serves_212 : decode cX9_serves 212 = .ok (.iadd, 1) := dk_96 (dk_at dksX9_serves_8 20 rfl rfl)
theorem dX9_serves_213 : decode cX9_serves 213 = .ok (.aload_n 0, 1) := dk_42 (dk_at dksX9_serves_8 21 rfl rfl)
theorem dX9_serves_214 : decode cX9_serves 214 = .ok (.getfield 7, 3) := dk_180 0 7 (dk_at dksX9_serves_9 0 rfl rfl)
theorem dX9_serves_217 : decode cX9_serves 217 = .ok (.iload_n 1, 1) := dk_27 (dk_at dksX9_serves_9 3 rfl rfl)
theorem dX9_serves_218 : decode cX9_serves 218 = .ok (.bipush 13, 2) := dk_16 13 (dk_at dksX9_serves_9 4 rfl rfl)
theorem dX9_serves_220 : decode cX9_serves 220 = .ok (.iadd, 1) := dk_96 (dk_at dksX9_serves_9 6 rfl rfl)
theorem dX9_serves_221 : decode cX9_serves 221 = .ok (.iload_n 3, 1) := dk_29 (dk_at dksX9_serves_9 7 rfl rfl)
theorem dX9_serves_222 : decode cX9_serves 222 = .ok (.iadd, 1) := dk_96 (dk_at dksX9_serves_9 8 rfl rfl)
theorem dX9_serves_223 : decode cX9_serves 223 = .ok (.iaload, 1) := dk_46 (dk_at dksX9_serves_9 9 rfl rfl)
theorem dX9_serves_224 : decode cX9_serves 224 = .ok (.aload_n 0, 1) := dk_42 (dk_at dksX9_serves_9 10 rfl rfl)
theorem dX9_serves_225 : decode cX9_serves 225 = .ok (.getfield 7, 3) := dk_180 0 7 (dk_at dksX9_serves_9 11 rfl rfl)
theorem dX9_serves_228 : decode cX9_serves 228 = .ok (.iload_n 1, 1) := dk_27 (dk_at dksX9_serves_9 14 rfl rfl)
theorem dX9_serves_229 : decode cX9_serves 229 = .ok (.iconst 4, 1) := dk_7 (dk_at dksX9_serves_9 15 rfl rfl)
theorem dX9_serves_230 : decode cX9_serves 230 = .ok (.iadd, 1) := dk_96 (dk_at dksX9_serves_9 16 rfl rfl)
theorem dX9_serves_231 : decode cX9_serves 231 = .ok (.iaload, 1) := dk_46 (dk_at dksX9_serves_9 17 rfl rfl)
theorem dX9_serves_232 : decode cX9_serves 232 = .ok (.if_icmp .ne 13, 3) := dk_160 0 13 (dk_at dksX9_serves_9 18 rfl rfl)
theorem dX9_serves_235 : decode cX9_serves 235 = .ok (.iload 5, 2) := dk_21 5 (dk_at dksX9_serves_9 21 rfl rfl)
theorem dX9_serves_237 : decode cX9_serves 237 = .ok (.ifCond .eq 8, 3) := dk_153 0 8 (dk_at dksX9_serves_10 0 rfl rfl)
theorem dX9_serves_240 : decode cX9_serves 240 = .ok (.bipush 10, 2) := dk_16 10 (dk_at dksX9_serves_10 3 rfl rfl)
theorem dX9_serves_242 : decode cX9_serves 242 = .ok (.goto 14, 3) := dk_167 0 14 (dk_at dksX9_serves_10 5 rfl rfl)
theorem dX9_serves_245 : decode cX9_serves 245 = .ok (.aload_n 0, 1) := dk_42 (dk_at dksX9_serves_10 8 rfl rfl)
theorem dX9_serves_246 : decode cX9_serves 246 = .ok (.getfield 7, 3) := dk_180 0 7 (dk_at dksX9_serves_10 9 rfl rfl)
theorem dX9_serves_249 : decode cX9_serves 249 = .ok (.iload_n 1, 1) := dk_27 (dk_at dksX9_serves_10 12 rfl rfl)
theorem dX9_serves_250 : decode cX9_serves 250 = .ok (.bipush 13, 2) := dk_16 13 (dk_at dksX9_serves_10 13 rfl rfl)
theorem dX9_serves_252 : decode cX9_serves 252 = .ok (.iadd, 1) := dk_96 (dk_at dksX9_serves_10 15 rfl rfl)
theorem dX9_serves_253 : decode cX9_serves 253 = .ok (.iload_n 3, 1) := dk_29 (dk_at dksX9_serves_10 16 rfl rfl)
theorem dX9_serves_254 : decode cX9_serves 254 = .ok (.iadd, 1) := dk_96 (dk_at dksX9_serves_10 17 rfl rfl)
theorem dX9_serves_255 : decode cX9_serves 255 = .ok (.iaload, 1) := dk_46 (dk_at dksX9_serves_10 18 rfl rfl)
theorem dX9_serves_256 : decode cX9_serves 256 = .ok (.iastore, 1) := dk_79 (dk_at dksX9_serves_10 19 rfl rfl)
theorem dX9_serves_257 : decode cX9_serves 257 = .ok (.iinc 2 1, 3) := dk_132 2 1 (dk_at dksX9_serves_10 20 rfl rfl)
theorem dX9_serves_260 : decode cX9_serves 260 = .ok (.goto (-141), 3) := dk_167 255 115 (dk_at dksX9_serves_11 0 rfl rfl)
theorem dX9_serves_263 : decode cX9_serves 263 = .ok (.return_, 1) := dk_177 (dk_at dksX9_serves_11 3 rfl rfl)
abbrev cX9_insideOf : ByteArray := prog_16_method_28_code
def yX9_insideOf : MethodName := ⟨RX9, "insideOf", "(I)I"⟩
def dkwX9_insideOf_2 : List UInt8 := [28, 172]
abbrev dktX9_insideOf_2 : List UInt8 := dkwX9_insideOf_2 ++ []
def dkwX9_insideOf_1 : List UInt8 := [96, 29, 96, 46, 16, 10, 160, 0, 9, 4, 29, 120, 167, 0, 4, 3, 128, 61, 132, 3, 1, 167, 255, 215]
abbrev dktX9_insideOf_1 : List UInt8 := dkwX9_insideOf_1 ++ dktX9_insideOf_2
def dkwX9_insideOf_0 : List UInt8 := [3, 61, 3, 62, 29, 42, 180, 0, 7, 27, 3, 96, 46, 162, 0, 35, 28, 42, 180, 0, 7, 27, 16, 13]
abbrev dktX9_insideOf_0 : List UInt8 := dkwX9_insideOf_0 ++ dktX9_insideOf_1
theorem dksX9_insideOf_0 : cX9_insideOf.data.toList.drop 0 = dktX9_insideOf_0 := by decide +kernel
theorem dksX9_insideOf_1 : cX9_insideOf.data.toList.drop 24 = dktX9_insideOf_1 := dk_seg dksX9_insideOf_0 24 rfl rfl
theorem dksX9_insideOf_2 : cX9_insideOf.data.toList.drop 48 = dktX9_insideOf_2 := dk_seg dksX9_insideOf_1 24 rfl rfl
theorem dX9_insideOf_0 : decode cX9_insideOf 0 = .ok (.iconst 0, 1) := dk_3 (dk_at dksX9_insideOf_0 0 rfl rfl)
theorem dX9_insideOf_1 : decode cX9_insideOf 1 = .ok (.istore_n 2, 1) := dk_61 (dk_at dksX9_insideOf_0 1 rfl rfl)
theorem dX9_insideOf_2 : decode cX9_insideOf 2 = .ok (.iconst 0, 1) := dk_3 (dk_at dksX9_insideOf_0 2 rfl rfl)
theorem dX9_insideOf_3 : decode cX9_insideOf 3 = .ok (.istore_n 3, 1) := dk_62 (dk_at dksX9_insideOf_0 3 rfl rfl)
theorem dX9_insideOf_4 : decode cX9_insideOf 4 = .ok (.iload_n 3, 1) := dk_29 (dk_at dksX9_insideOf_0 4 rfl rfl)
theorem dX9_insideOf_5 : decode cX9_insideOf 5 = .ok (.aload_n 0, 1) := dk_42 (dk_at dksX9_insideOf_0 5 rfl rfl)
theorem dX9_insideOf_6 : decode cX9_insideOf 6 = .ok (.getfield 7, 3) := dk_180 0 7 (dk_at dksX9_insideOf_0 6 rfl rfl)
theorem dX9_insideOf_9 : decode cX9_insideOf 9 = .ok (.iload_n 1, 1) := dk_27 (dk_at dksX9_insideOf_0 9 rfl rfl)
theorem dX9_insideOf_10 : decode cX9_insideOf 10 = .ok (.iconst 0, 1) := dk_3 (dk_at dksX9_insideOf_0 10 rfl rfl)
theorem dX9_insideOf_11 : decode cX9_insideOf 11 = .ok (.iadd, 1) := dk_96 (dk_at dksX9_insideOf_0 11 rfl rfl)
theorem dX9_insideOf_12 : decode cX9_insideOf 12 = .ok (.iaload, 1) := dk_46 (dk_at dksX9_insideOf_0 12 rfl rfl)
theorem dX9_insideOf_13 : decode cX9_insideOf 13 = .ok (.if_icmp .ge 35, 3) := dk_162 0 35 (dk_at dksX9_insideOf_0 13 rfl rfl)
theorem dX9_insideOf_16 : decode cX9_insideOf 16 = .ok (.iload_n 2, 1) := dk_28 (dk_at dksX9_insideOf_0 16 rfl rfl)
theorem dX9_insideOf_17 : decode cX9_insideOf 17 = .ok (.aload_n 0, 1) := dk_42 (dk_at dksX9_insideOf_0 17 rfl rfl)
theorem dX9_insideOf_18 : decode cX9_insideOf 18 = .ok (.getfield 7, 3) := dk_180 0 7 (dk_at dksX9_insideOf_0 18 rfl rfl)
theorem dX9_insideOf_21 : decode cX9_insideOf 21 = .ok (.iload_n 1, 1) := dk_27 (dk_at dksX9_insideOf_0 21 rfl rfl)
theorem dX9_insideOf_22 : decode cX9_insideOf 22 = .ok (.bipush 13, 2) := dk_16 13 (dk_at dksX9_insideOf_0 22 rfl rfl)
theorem dX9_insideOf_24 : decode cX9_insideOf 24 = .ok (.iadd, 1) := dk_96 (dk_at dksX9_insideOf_1 0 rfl rfl)
theorem dX9_insideOf_25 : decode cX9_insideOf 25 = .ok (.iload_n 3, 1) := dk_29 (dk_at dksX9_insideOf_1 1 rfl rfl)
theorem dX9_insideOf_26 : decode cX9_insideOf 26 = .ok (.iadd, 1) := dk_96 (dk_at dksX9_insideOf_1 2 rfl rfl)
theorem dX9_insideOf_27 : decode cX9_insideOf 27 = .ok (.iaload, 1) := dk_46 (dk_at dksX9_insideOf_1 3 rfl rfl)
theorem dX9_insideOf_28 : decode cX9_insideOf 28 = .ok (.bipush 10, 2) := dk_16 10 (dk_at dksX9_insideOf_1 4 rfl rfl)
theorem dX9_insideOf_30 : decode cX9_insideOf 30 = .ok (.if_icmp .ne 9, 3) := dk_160 0 9 (dk_at dksX9_insideOf_1 6 rfl rfl)
theorem dX9_insideOf_33 : decode cX9_insideOf 33 = .ok (.iconst 1, 1) := dk_4 (dk_at dksX9_insideOf_1 9 rfl rfl)
theorem dX9_insideOf_34 : decode cX9_insideOf 34 = .ok (.iload_n 3, 1) := dk_29 (dk_at dksX9_insideOf_1 10 rfl rfl)
theorem dX9_insideOf_35 : decode cX9_insideOf 35 = .ok (.ishl, 1) := dk_120 (dk_at dksX9_insideOf_1 11 rfl rfl)
theorem dX9_insideOf_36 : decode cX9_insideOf 36 = .ok (.goto 4, 3) := dk_167 0 4 (dk_at dksX9_insideOf_1 12 rfl rfl)
theorem dX9_insideOf_39 : decode cX9_insideOf 39 = .ok (.iconst 0, 1) := dk_3 (dk_at dksX9_insideOf_1 15 rfl rfl)
theorem dX9_insideOf_40 : decode cX9_insideOf 40 = .ok (.ior, 1) := dk_128 (dk_at dksX9_insideOf_1 16 rfl rfl)
theorem dX9_insideOf_41 : decode cX9_insideOf 41 = .ok (.istore_n 2, 1) := dk_61 (dk_at dksX9_insideOf_1 17 rfl rfl)
theorem dX9_insideOf_42 : decode cX9_insideOf 42 = .ok (.iinc 3 1, 3) := dk_132 3 1 (dk_at dksX9_insideOf_1 18 rfl rfl)
theorem dX9_insideOf_45 : decode cX9_insideOf 45 = .ok (.goto (-41), 3) := dk_167 255 215 (dk_at dksX9_insideOf_1 21 rfl rfl)
theorem dX9_insideOf_48 : decode cX9_insideOf 48 = .ok (.iload_n 2, 1) := dk_28 (dk_at dksX9_insideOf_2 0 rfl rfl)
theorem dX9_insideOf_49 : decode cX9_insideOf 49 = .ok (.ireturn, 1) := dk_172 (dk_at dksX9_insideOf_2 1 rfl rfl)
abbrev cX9_ones : ByteArray := prog_16_method_5_code
def yX9_ones : MethodName := ⟨RX9, "ones", "(I)I"⟩
def dkwX9_ones_1 : List UInt8 := [27, 172]
abbrev dktX9_ones_1 : List UInt8 := dkwX9_ones_1 ++ []
def dkwX9_ones_0 : List UInt8 := [3, 60, 3, 61, 28, 16, 6, 162, 0, 17, 27, 26, 28, 122, 4, 126, 96, 60, 132, 2, 1, 167, 255, 239]
abbrev dktX9_ones_0 : List UInt8 := dkwX9_ones_0 ++ dktX9_ones_1
theorem dksX9_ones_0 : cX9_ones.data.toList.drop 0 = dktX9_ones_0 := by decide +kernel
theorem dksX9_ones_1 : cX9_ones.data.toList.drop 24 = dktX9_ones_1 := dk_seg dksX9_ones_0 24 rfl rfl
theorem dX9_ones_0 : decode cX9_ones 0 = .ok (.iconst 0, 1) := dk_3 (dk_at dksX9_ones_0 0 rfl rfl)
theorem dX9_ones_1 : decode cX9_ones 1 = .ok (.istore_n 1, 1) := dk_60 (dk_at dksX9_ones_0 1 rfl rfl)
theorem dX9_ones_2 : decode cX9_ones 2 = .ok (.iconst 0, 1) := dk_3 (dk_at dksX9_ones_0 2 rfl rfl)
theorem dX9_ones_3 : decode cX9_ones 3 = .ok (.istore_n 2, 1) := dk_61 (dk_at dksX9_ones_0 3 rfl rfl)
theorem dX9_ones_4 : decode cX9_ones 4 = .ok (.iload_n 2, 1) := dk_28 (dk_at dksX9_ones_0 4 rfl rfl)
theorem dX9_ones_5 : decode cX9_ones 5 = .ok (.bipush 6, 2) := dk_16 6 (dk_at dksX9_ones_0 5 rfl rfl)
theorem dX9_ones_7 : decode cX9_ones 7 = .ok (.if_icmp .ge 17, 3) := dk_162 0 17 (dk_at dksX9_ones_0 7 rfl rfl)
theorem dX9_ones_10 : decode cX9_ones 10 = .ok (.iload_n 1, 1) := dk_27 (dk_at dksX9_ones_0 10 rfl rfl)
theorem dX9_ones_11 : decode cX9_ones 11 = .ok (.iload_n 0, 1) := dk_26 (dk_at dksX9_ones_0 11 rfl rfl)
theorem dX9_ones_12 : decode cX9_ones 12 = .ok (.iload_n 2, 1) := dk_28 (dk_at dksX9_ones_0 12 rfl rfl)
theorem dX9_ones_13 : decode cX9_ones 13 = .ok (.ishr, 1) := dk_122 (dk_at dksX9_ones_0 13 rfl rfl)
theorem dX9_ones_14 : decode cX9_ones 14 = .ok (.iconst 1, 1) := dk_4 (dk_at dksX9_ones_0 14 rfl rfl)
theorem dX9_ones_15 : decode cX9_ones 15 = .ok (.iand, 1) := dk_126 (dk_at dksX9_ones_0 15 rfl rfl)
theorem dX9_ones_16 : decode cX9_ones 16 = .ok (.iadd, 1) := dk_96 (dk_at dksX9_ones_0 16 rfl rfl)
theorem dX9_ones_17 : decode cX9_ones 17 = .ok (.istore_n 1, 1) := dk_60 (dk_at dksX9_ones_0 17 rfl rfl)
theorem dX9_ones_18 : decode cX9_ones 18 = .ok (.iinc 2 1, 3) := dk_132 2 1 (dk_at dksX9_ones_0 18 rfl rfl)
theorem dX9_ones_21 : decode cX9_ones 21 = .ok (.goto (-17), 3) := dk_167 255 239 (dk_at dksX9_ones_0 21 rfl rfl)
theorem dX9_ones_24 : decode cX9_ones 24 = .ok (.iload_n 1, 1) := dk_27 (dk_at dksX9_ones_1 0 rfl rfl)
theorem dX9_ones_25 : decode cX9_ones 25 = .ok (.ireturn, 1) := dk_172 (dk_at dksX9_ones_1 1 rfl rfl)
abbrev cX9_weightOf : ByteArray := prog_16_method_30_code
def yX9_weightOf : MethodName := ⟨RX9, "weightOf", "(II)I"⟩
def dkwX9_weightOf_2 : List UInt8 := [132, 4, 1, 167, 255, 212, 29, 172]
abbrev dktX9_weightOf_2 : List UInt8 := dkwX9_weightOf_2 ++ []
def dkwX9_weightOf_1 : List UInt8 := [184, 0, 127, 153, 0, 18, 42, 180, 0, 7, 27, 16, 25, 96, 21, 4, 96, 46, 167, 0, 4, 3, 96, 62]
abbrev dktX9_weightOf_1 : List UInt8 := dkwX9_weightOf_1 ++ dktX9_weightOf_2
def dkwX9_weightOf_0 : List UInt8 := [3, 62, 3, 54, 4, 21, 4, 42, 180, 0, 7, 27, 3, 96, 46, 162, 0, 37, 29, 28, 21, 4]
abbrev dktX9_weightOf_0 : List UInt8 := dkwX9_weightOf_0 ++ dktX9_weightOf_1
theorem dksX9_weightOf_0 : cX9_weightOf.data.toList.drop 0 = dktX9_weightOf_0 := by decide +kernel
theorem dksX9_weightOf_1 : cX9_weightOf.data.toList.drop 22 = dktX9_weightOf_1 := dk_seg dksX9_weightOf_0 22 rfl rfl
theorem dksX9_weightOf_2 : cX9_weightOf.data.toList.drop 46 = dktX9_weightOf_2 := dk_seg dksX9_weightOf_1 24 rfl rfl
theorem dX9_weightOf_0 : decode cX9_weightOf 0 = .ok (.iconst 0, 1) := dk_3 (dk_at dksX9_weightOf_0 0 rfl rfl)
theorem dX9_weightOf_1 : decode cX9_weightOf 1 = .ok (.istore_n 3, 1) := dk_62 (dk_at dksX9_weightOf_0 1 rfl rfl)
theorem dX9_weightOf_2 : decode cX9_weightOf 2 = .ok (.iconst 0, 1) := dk_3 (dk_at dksX9_weightOf_0 2 rfl rfl)
theorem dX9_weightOf_3 : decode cX9_weightOf 3 = .ok (.istore 4, 2) := dk_54 4 (dk_at dksX9_weightOf_0 3 rfl rfl)
theorem dX9_weightOf_5 : decode cX9_weightOf 5 = .ok (.iload 4, 2) := dk_21 4 (dk_at dksX9_weightOf_0 5 rfl rfl)
theorem dX9_weightOf_7 : decode cX9_weightOf 7 = .ok (.aload_n 0, 1) := dk_42 (dk_at dksX9_weightOf_0 7 rfl rfl)
theorem dX9_weightOf_8 : decode cX9_weightOf 8 = .ok (.getfield 7, 3) := dk_180 0 7 (dk_at dksX9_weightOf_0 8 rfl rfl)
theorem dX9_weightOf_11 : decode cX9_weightOf 11 = .ok (.iload_n 1, 1) := dk_27 (dk_at dksX9_weightOf_0 11 rfl rfl)
theorem dX9_weightOf_12 : decode cX9_weightOf 12 = .ok (.iconst 0, 1) := dk_3 (dk_at dksX9_weightOf_0 12 rfl rfl)
theorem dX9_weightOf_13 : decode cX9_weightOf 13 = .ok (.iadd, 1) := dk_96 (dk_at dksX9_weightOf_0 13 rfl rfl)
theorem dX9_weightOf_14 : decode cX9_weightOf 14 = .ok (.iaload, 1) := dk_46 (dk_at dksX9_weightOf_0 14 rfl rfl)
theorem dX9_weightOf_15 : decode cX9_weightOf 15 = .ok (.if_icmp .ge 37, 3) := dk_162 0 37 (dk_at dksX9_weightOf_0 15 rfl rfl)
theorem dX9_weightOf_18 : decode cX9_weightOf 18 = .ok (.iload_n 3, 1) := dk_29 (dk_at dksX9_weightOf_0 18 rfl rfl)
theorem dX9_weightOf_19 : decode cX9_weightOf 19 = .ok (.iload_n 2, 1) := dk_28 (dk_at dksX9_weightOf_0 19 rfl rfl)
theorem dX9_weightOf_20 : decode cX9_weightOf 20 = .ok (.iload 4, 2) := dk_21 4 (dk_at dksX9_weightOf_0 20 rfl rfl)
theorem dX9_weightOf_22 : decode cX9_weightOf 22 = .ok (.invokestatic 127, 3) := dk_184 0 127 (dk_at dksX9_weightOf_1 0 rfl rfl)
theorem dX9_weightOf_25 : decode cX9_weightOf 25 = .ok (.ifCond .eq 18, 3) := dk_153 0 18 (dk_at dksX9_weightOf_1 3 rfl rfl)
theorem dX9_weightOf_28 : decode cX9_weightOf 28 = .ok (.aload_n 0, 1) := dk_42 (dk_at dksX9_weightOf_1 6 rfl rfl)
theorem dX9_weightOf_29 : decode cX9_weightOf 29 = .ok (.getfield 7, 3) := dk_180 0 7 (dk_at dksX9_weightOf_1 7 rfl rfl)
theorem dX9_weightOf_32 : decode cX9_weightOf 32 = .ok (.iload_n 1, 1) := dk_27 (dk_at dksX9_weightOf_1 10 rfl rfl)
theorem dX9_weightOf_33 : decode cX9_weightOf 33 = .ok (.bipush 25, 2) := dk_16 25 (dk_at dksX9_weightOf_1 11 rfl rfl)
theorem dX9_weightOf_35 : decode cX9_weightOf 35 = .ok (.iadd, 1) := dk_96 (dk_at dksX9_weightOf_1 13 rfl rfl)
theorem dX9_weightOf_36 : decode cX9_weightOf 36 = .ok (.iload 4, 2) := dk_21 4 (dk_at dksX9_weightOf_1 14 rfl rfl)
theorem dX9_weightOf_38 : decode cX9_weightOf 38 = .ok (.iadd, 1) := dk_96 (dk_at dksX9_weightOf_1 16 rfl rfl)
theorem dX9_weightOf_39 : decode cX9_weightOf 39 = .ok (.iaload, 1) := dk_46 (dk_at dksX9_weightOf_1 17 rfl rfl)
theorem dX9_weightOf_40 : decode cX9_weightOf 40 = .ok (.goto 4, 3) := dk_167 0 4 (dk_at dksX9_weightOf_1 18 rfl rfl)
theorem dX9_weightOf_43 : decode cX9_weightOf 43 = .ok (.iconst 0, 1) := dk_3 (dk_at dksX9_weightOf_1 21 rfl rfl)
theorem dX9_weightOf_44 : decode cX9_weightOf 44 = .ok (.iadd, 1) := dk_96 (dk_at dksX9_weightOf_1 22 rfl rfl)
theorem dX9_weightOf_45 : decode cX9_weightOf 45 = .ok (.istore_n 3, 1) := dk_62 (dk_at dksX9_weightOf_1 23 rfl rfl)
theorem dX9_weightOf_46 : decode cX9_weightOf 46 = .ok (.iinc 4 1, 3) := dk_132 4 1 (dk_at dksX9_weightOf_2 0 rfl rfl)
theorem dX9_weightOf_49 : decode cX9_weightOf 49 = .ok (.goto (-44), 3) := dk_167 255 212 (dk_at dksX9_weightOf_2 3 rfl rfl)
theorem dX9_weightOf_52 : decode cX9_weightOf 52 = .ok (.iload_n 3, 1) := dk_29 (dk_at dksX9_weightOf_2 6 rfl rfl)
theorem dX9_weightOf_53 : decode cX9_weightOf 53 = .ok (.ireturn, 1) := dk_172 (dk_at dksX9_weightOf_2 7 rfl rfl)
abbrev cX9_has : ByteArray := prog_16_method_4_code
def yX9_has : MethodName := ⟨RX9, "has", "(II)Z"⟩
def dkwX9_has_0 : List UInt8 := [26, 27, 122, 4, 126, 4, 160, 0, 7, 4, 167, 0, 4, 3, 172]
abbrev dktX9_has_0 : List UInt8 := dkwX9_has_0 ++ []
theorem dksX9_has_0 : cX9_has.data.toList.drop 0 = dktX9_has_0 := by decide +kernel
theorem dX9_has_0 : decode cX9_has 0 = .ok (.iload_n 0, 1) := dk_26 (dk_at dksX9_has_0 0 rfl rfl)
theorem dX9_has_1 : decode cX9_has 1 = .ok (.iload_n 1, 1) := dk_27 (dk_at dksX9_has_0 1 rfl rfl)
theorem dX9_has_2 : decode cX9_has 2 = .ok (.ishr, 1) := dk_122 (dk_at dksX9_has_0 2 rfl rfl)
theorem dX9_has_3 : decode cX9_has 3 = .ok (.iconst 1, 1) := dk_4 (dk_at dksX9_has_0 3 rfl rfl)
theorem dX9_has_4 : decode cX9_has 4 = .ok (.iand, 1) := dk_126 (dk_at dksX9_has_0 4 rfl rfl)
theorem dX9_has_5 : decode cX9_has 5 = .ok (.iconst 1, 1) := dk_4 (dk_at dksX9_has_0 5 rfl rfl)
theorem dX9_has_6 : decode cX9_has 6 = .ok (.if_icmp .ne 7, 3) := dk_160 0 7 (dk_at dksX9_has_0 6 rfl rfl)
theorem dX9_has_9 : decode cX9_has 9 = .ok (.iconst 1, 1) := dk_4 (dk_at dksX9_has_0 9 rfl rfl)
theorem dX9_has_10 : decode cX9_has 10 = .ok (.goto 4, 3) := dk_167 0 4 (dk_at dksX9_has_0 10 rfl rfl)
theorem dX9_has_13 : decode cX9_has 13 = .ok (.iconst 0, 1) := dk_3 (dk_at dksX9_has_0 13 rfl rfl)
theorem dX9_has_14 : decode cX9_has 14 = .ok (.ireturn, 1) := dk_172 (dk_at dksX9_has_0 14 rfl rfl)
abbrev cX9_goes : ByteArray := prog_16_method_33_code
def yX9_goes : MethodName := ⟨RX9, "goes", "(I)Z"⟩
def dkwX9_goes_5 : List UInt8 := [160, 0, 7, 4, 167, 0, 4, 2, 96, 79, 4, 172]
abbrev dktX9_goes_5 : List UInt8 := dkwX9_goes_5 ++ []
def dkwX9_goes_4 : List UInt8 := [167, 0, 4, 4, 79, 42, 180, 0, 7, 27, 7, 96, 92, 46, 42, 180, 0, 7, 27, 8, 96, 46, 4]
abbrev dktX9_goes_4 : List UInt8 := dkwX9_goes_4 ++ dktX9_goes_5
def dkwX9_goes_3 : List UInt8 := [46, 4, 160, 0, 15, 29, 153, 0, 7, 4, 167, 0, 17, 3, 167, 0, 13, 21, 4, 153, 0, 7, 3]
abbrev dktX9_goes_3 : List UInt8 := dkwX9_goes_3 ++ dktX9_goes_4
def dkwX9_goes_2 : List UInt8 := [158, 0, 7, 4, 167, 0, 4, 3, 54, 4, 42, 180, 0, 7, 27, 8, 96, 42, 180, 0, 7, 27, 8, 96]
abbrev dktX9_goes_2 : List UInt8 := dkwX9_goes_2 ++ dktX9_goes_3
def dkwX9_goes_1 : List UInt8 := [158, 0, 7, 4, 167, 0, 4, 3, 62, 28, 4, 42, 180, 0, 7, 27, 7, 96, 46, 120, 4, 100, 126]
abbrev dktX9_goes_1 : List UInt8 := dkwX9_goes_1 ++ dktX9_goes_2
def dkwX9_goes_0 : List UInt8 := [42, 27, 182, 0, 140, 61, 28, 154, 0, 5, 3, 172, 28, 42, 180, 0, 7, 27, 7, 96, 46, 122]
abbrev dktX9_goes_0 : List UInt8 := dkwX9_goes_0 ++ dktX9_goes_1
theorem dksX9_goes_0 : cX9_goes.data.toList.drop 0 = dktX9_goes_0 := by decide +kernel
theorem dksX9_goes_1 : cX9_goes.data.toList.drop 22 = dktX9_goes_1 := dk_seg dksX9_goes_0 22 rfl rfl
theorem dksX9_goes_2 : cX9_goes.data.toList.drop 45 = dktX9_goes_2 := dk_seg dksX9_goes_1 23 rfl rfl
theorem dksX9_goes_3 : cX9_goes.data.toList.drop 69 = dktX9_goes_3 := dk_seg dksX9_goes_2 24 rfl rfl
theorem dksX9_goes_4 : cX9_goes.data.toList.drop 92 = dktX9_goes_4 := dk_seg dksX9_goes_3 23 rfl rfl
theorem dksX9_goes_5 : cX9_goes.data.toList.drop 115 = dktX9_goes_5 := dk_seg dksX9_goes_4 23 rfl rfl
theorem dX9_goes_0 : decode cX9_goes 0 = .ok (.aload_n 0, 1) := dk_42 (dk_at dksX9_goes_0 0 rfl rfl)
theorem dX9_goes_1 : decode cX9_goes 1 = .ok (.iload_n 1, 1) := dk_27 (dk_at dksX9_goes_0 1 rfl rfl)
theorem dX9_goes_2 : decode cX9_goes 2 = .ok (.invokevirtual 140, 3) := dk_182 0 140 (dk_at dksX9_goes_0 2 rfl rfl)
theorem dX9_goes_5 : decode cX9_goes 5 = .ok (.istore_n 2, 1) := dk_61 (dk_at dksX9_goes_0 5 rfl rfl)
theorem dX9_goes_6 : decode cX9_goes 6 = .ok (.iload_n 2, 1) := dk_28 (dk_at dksX9_goes_0 6 rfl rfl)
theorem dX9_goes_7 : decode cX9_goes 7 = .ok (.ifCond .ne 5, 3) := dk_154 0 5 (dk_at dksX9_goes_0 7 rfl rfl)
theorem dX9_goes_10 : decode cX9_goes 10 = .ok (.iconst 0, 1) := dk_3 (dk_at dksX9_goes_0 10 rfl rfl)
theorem dX9_goes_11 : decode cX9_goes 11 = .ok (.ireturn, 1) := dk_172 (dk_at dksX9_goes_0 11 rfl rfl)
theorem dX9_goes_12 : decode cX9_goes 12 = .ok (.iload_n 2, 1) := dk_28 (dk_at dksX9_goes_0 12 rfl rfl)
theorem dX9_goes_13 : decode cX9_goes 13 = .ok (.aload_n 0, 1) := dk_42 (dk_at dksX9_goes_0 13 rfl rfl)
theorem dX9_goes_14 : decode cX9_goes 14 = .ok (.getfield 7, 3) := dk_180 0 7 (dk_at dksX9_goes_0 14 rfl rfl)
theorem dX9_goes_17 : decode cX9_goes 17 = .ok (.iload_n 1, 1) := dk_27 (dk_at dksX9_goes_0 17 rfl rfl)
theorem dX9_goes_18 : decode cX9_goes 18 = .ok (.iconst 4, 1) := dk_7 (dk_at dksX9_goes_0 18 rfl rfl)
theorem dX9_goes_19 : decode cX9_goes 19 = .ok (.iadd, 1) := dk_96 (dk_at dksX9_goes_0 19 rfl rfl)
theorem dX9_goes_20 : decode cX9_goes 20 = .ok (.iaload, 1) := dk_46 (dk_at dksX9_goes_0 20 rfl rfl)
theorem dX9_goes_21 : decode cX9_goes 21 = .ok (.ishr, 1) := dk_122 (dk_at dksX9_goes_0 21 rfl rfl)
theorem dX9_goes_22 : decode cX9_goes 22 = .ok (.ifCond .le 7, 3) := dk_158 0 7 (dk_at dksX9_goes_1 0 rfl rfl)
theorem dX9_goes_25 : decode cX9_goes 25 = .ok (.iconst 1, 1) := dk_4 (dk_at dksX9_goes_1 3 rfl rfl)
theorem dX9_goes_26 : decode cX9_goes 26 = .ok (.goto 4, 3) := dk_167 0 4 (dk_at dksX9_goes_1 4 rfl rfl)
theorem dX9_goes_29 : decode cX9_goes 29 = .ok (.iconst 0, 1) := dk_3 (dk_at dksX9_goes_1 7 rfl rfl)
theorem dX9_goes_30 : decode cX9_goes 30 = .ok (.istore_n 3, 1) := dk_62 (dk_at dksX9_goes_1 8 rfl rfl)
theorem dX9_goes_31 : decode cX9_goes 31 = .ok (.iload_n 2, 1) := dk_28 (dk_at dksX9_goes_1 9 rfl rfl)
theorem dX9_goes_32 : decode cX9_goes 32 = .ok (.iconst 1, 1) := dk_4 (dk_at dksX9_goes_1 10 rfl rfl)
theorem dX9_goes_33 : decode cX9_goes 33 = .ok (.aload_n 0, 1) := dk_42 (dk_at dksX9_goes_1 11 rfl rfl)
theorem dX9_goes_34 : decode cX9_goes 34 = .ok (.getfield 7, 3) := dk_180 0 7 (dk_at dksX9_goes_1 12 rfl rfl)
theorem dX9_goes_37 : decode cX9_goes 37 = .ok (.iload_n 1, 1) := dk_27 (dk_at dksX9_goes_1 15 rfl rfl)
theorem dX9_goes_38 : decode cX9_goes 38 = .ok (.iconst 4, 1) := dk_7 (dk_at dksX9_goes_1 16 rfl rfl)
theorem dX9_goes_39 : decode cX9_goes 39 = .ok (.iadd, 1) := dk_96 (dk_at dksX9_goes_1 17 rfl rfl)
theorem dX9_goes_40 : decode cX9_goes 40 = .ok (.iaload, 1) := dk_46 (dk_at dksX9_goes_1 18 rfl rfl)
theorem dX9_goes_41 : decode cX9_goes 41 = .ok (.ishl, 1) := dk_120 (dk_at dksX9_goes_1 19 rfl rfl)
theorem dX9_goes_42 : decode cX9_goes 42 = .ok (.iconst 1, 1) := dk_4 (dk_at dksX9_goes_1 20 rfl rfl)
theorem dX9_goes_43 : decode cX9_goes 43 = .ok (.isub, 1) := dk_100 (dk_at dksX9_goes_1 21 rfl rfl)
theorem dX9_goes_44 : decode cX9_goes 44 = .ok (.iand, 1) := dk_126 (dk_at dksX9_goes_1 22 rfl rfl)
theorem dX9_goes_45 : decode cX9_goes 45 = .ok (.ifCond .le 7, 3) := dk_158 0 7 (dk_at dksX9_goes_2 0 rfl rfl)
theorem dX9_goes_48 : decode cX9_goes 48 = .ok (.iconst 1, 1) := dk_4 (dk_at dksX9_goes_2 3 rfl rfl)
theorem dX9_goes_49 : decode cX9_goes 49 = .ok (.goto 4, 3) := dk_167 0 4 (dk_at dksX9_goes_2 4 rfl rfl)
theorem dX9_goes_52 : decode cX9_goes 52 = .ok (.iconst 0, 1) := dk_3 (dk_at dksX9_goes_2 7 rfl rfl)
theorem dX9_goes_53 : decode cX9_goes 53 = .ok (.istore 4, 2) := dk_54 4 (dk_at dksX9_goes_2 8 rfl rfl)
theorem dX9_goes_55 : decode cX9_goes 55 = .ok (.aload_n 0, 1) := dk_42 (dk_at dksX9_goes_2 10 rfl rfl)
theorem dX9_goes_56 : decode cX9_goes 56 = .ok (.getfield 7, 3) := dk_180 0 7 (dk_at dksX9_goes_2 11 rfl rfl)
theorem dX9_goes_59 : decode cX9_goes 59 = .ok (.iload_n 1, 1) := dk_27 (dk_at dksX9_goes_2 14 rfl rfl)
theorem dX9_goes_60 : decode cX9_goes 60 = .ok (.iconst 5, 1) := dk_8 (dk_at dksX9_goes_2 15 rfl rfl)
theorem dX9_goes_61 : decode cX9_goes 61 = .ok (.iadd, 1) := dk_96 (dk_at dksX9_goes_2 16 rfl rfl)
theorem dX9_goes_62 : decode cX9_goes 62 = .ok (.aload_n 0, 1) := dk_42 (dk_at dksX9_goes_2 17 rfl rfl)
theorem dX9_goes_63 : decode cX9_goes 63 = .ok (.getfield 7, 3) := dk_180 0 7 (dk_at dksX9_goes_2 18 rfl rfl)
theorem dX9_goes_66 : decode cX9_goes 66 = .ok (.iload_n 1, 1) := dk_27 (dk_at dksX9_goes_2 21 rfl rfl)
theorem dX9_goes_67 : decode cX9_goes 67 = .ok (.iconst 5, 1) := dk_8 (dk_at dksX9_goes_2 22 rfl rfl)
theorem dX9_goes_68 : decode cX9_goes 68 = .ok (.iadd, 1) := dk_96 (dk_at dksX9_goes_2 23 rfl rfl)
theorem dX9_goes_69 : decode cX9_goes 69 = .ok (.iaload, 1) := dk_46 (dk_at dksX9_goes_3 0 rfl rfl)
theorem dX9_goes_70 : decode cX9_goes 70 = .ok (.iconst 1, 1) := dk_4 (dk_at dksX9_goes_3 1 rfl rfl)
theorem dX9_goes_71 : decode cX9_goes 71 = .ok (.if_icmp .ne 15, 3) := dk_160 0 15 (dk_at dksX9_goes_3 2 rfl rfl)
theorem dX9_goes_74 : decode cX9_goes 74 = .ok (.iload_n 3, 1) := dk_29 (dk_at dksX9_goes_3 5 rfl rfl)
theorem dX9_goes_75 : decode cX9_goes 75 = .ok (.ifCond .eq 7, 3) := dk_153 0 7 (dk_at dksX9_goes_3 6 rfl rfl)
theorem dX9_goes_78 : decode cX9_goes 78 = .ok (.iconst 1, 1) := dk_4 (dk_at dksX9_goes_3 9 rfl rfl)
theorem dX9_goes_79 : decode cX9_goes 79 = .ok (.goto 17, 3) := dk_167 0 17 (dk_at dksX9_goes_3 10 rfl rfl)
theorem dX9_goes_82 : decode cX9_goes 82 = .ok (.iconst 0, 1) := dk_3 (dk_at dksX9_goes_3 13 rfl rfl)
theorem dX9_goes_83 : decode cX9_goes 83 = .ok (.goto 13, 3) := dk_167 0 13 (dk_at dksX9_goes_3 14 rfl rfl)
theorem dX9_goes_86 : decode cX9_goes 86 = .ok (.iload 4, 2) := dk_21 4 (dk_at dksX9_goes_3 17 rfl rfl)
theorem dX9_goes_88 : decode cX9_goes 88 = .ok (.ifCond .eq 7, 3) := dk_153 0 7 (dk_at dksX9_goes_3 19 rfl rfl)
theorem dX9_goes_91 : decode cX9_goes 91 = .ok (.iconst 0, 1) := dk_3 (dk_at dksX9_goes_3 22 rfl rfl)
theorem dX9_goes_92 : decode cX9_goes 92 = .ok (.goto 4, 3) := dk_167 0 4 (dk_at dksX9_goes_4 0 rfl rfl)
theorem dX9_goes_95 : decode cX9_goes 95 = .ok (.iconst 1, 1) := dk_4 (dk_at dksX9_goes_4 3 rfl rfl)
theorem dX9_goes_96 : decode cX9_goes 96 = .ok (.iastore, 1) := dk_79 (dk_at dksX9_goes_4 4 rfl rfl)
theorem dX9_goes_97 : decode cX9_goes 97 = .ok (.aload_n 0, 1) := dk_42 (dk_at dksX9_goes_4 5 rfl rfl)
theorem dX9_goes_98 : decode cX9_goes 98 = .ok (.getfield 7, 3) := dk_180 0 7 (dk_at dksX9_goes_4 6 rfl rfl)
theorem dX9_goes_101 : decode cX9_goes 101 = .ok (.iload_n 1, 1) := dk_27 (dk_at dksX9_goes_4 9 rfl rfl)
theorem dX9_goes_102 : decode cX9_goes 102 = .ok (.iconst 4, 1) := dk_7 (dk_at dksX9_goes_4 10 rfl rfl)
theorem dX9_goes_103 : decode cX9_goes 103 = .ok (.iadd, 1) := dk_96 (dk_at dksX9_goes_4 11 rfl rfl)
theorem dX9_goes_104 : decode cX9_goes 104 = .ok (.dup2, 1) := dk_92 (dk_at dksX9_goes_4 12 rfl rfl)
theorem dX9_goes_105 : decode cX9_goes 105 = .ok (.iaload, 1) := dk_46 (dk_at dksX9_goes_4 13 rfl rfl)
theorem dX9_goes_106 : decode cX9_goes 106 = .ok (.aload_n 0, 1) := dk_42 (dk_at dksX9_goes_4 14 rfl rfl)
theorem dX9_goes_107 : decode cX9_goes 107 = .ok (.getfield 7, 3) := dk_180 0 7 (dk_at dksX9_goes_4 15 rfl rfl)
theorem dX9_goes_110 : decode cX9_goes 110 = .ok (.iload_n 1, 1) := dk_27 (dk_at dksX9_goes_4 18 rfl rfl)
theorem dX9_goes_111 : decode cX9_goes 111 = .ok (.iconst 5, 1) := dk_8 (dk_at dksX9_goes_4 19 rfl rfl)
theorem dX9_goes_112 : decode cX9_goes 112 = .ok (.iadd, 1) := dk_96 (dk_at dksX9_goes_4 20 rfl rfl)
theorem dX9_goes_113 : decode cX9_goes 113 = .ok (.iaload, 1) := dk_46 (dk_at dksX9_goes_4 21 rfl rfl)
theorem dX9_goes_114 : decode cX9_goes 114 = .ok (.iconst 1, 1) := dk_4 (dk_at dksX9_goes_4 22 rfl rfl)
theorem dX9_goes_115 : decode cX9_goes 115 = .ok (.if_icmp .ne 7, 3) := dk_160 0 7 (dk_at dksX9_goes_5 0 rfl rfl)
theorem dX9_goes_118 : decode cX9_goes 118 = .ok (.iconst 1, 1) := dk_4 (dk_at dksX9_goes_5 3 rfl rfl)
theorem dX9_goes_119 : decode cX9_goes 119 = .ok (.goto 4, 3) := dk_167 0 4 (dk_at dksX9_goes_5 4 rfl rfl)
theorem dX9_goes_122 : decode cX9_goes 122 = .ok (.iconst (-1), 1) := dk_2 (dk_at dksX9_goes_5 7 rfl rfl)
theorem dX9_goes_123 : decode cX9_goes 123 = .ok (.iadd, 1) := dk_96 (dk_at dksX9_goes_5 8 rfl rfl)
theorem dX9_goes_124 : decode cX9_goes 124 = .ok (.iastore, 1) := dk_79 (dk_at dksX9_goes_5 9 rfl rfl)
theorem dX9_goes_125 : decode cX9_goes 125 = .ok (.iconst 1, 1) := dk_4 (dk_at dksX9_goes_5 10 rfl rfl)
theorem dX9_goes_126 : decode cX9_goes 126 = .ok (.ireturn, 1) := dk_172 (dk_at dksX9_goes_5 11 rfl rfl)
abbrev cX9_calledOf : ByteArray := prog_16_method_32_code
def yX9_calledOf : MethodName := ⟨RX9, "calledOf", "(I)I"⟩
def dkwX9_calledOf_4 : List UInt8 := [167, 255, 165, 28, 4, 42, 180, 0, 7, 27, 7, 96, 46, 120, 2, 130, 126, 172]
abbrev dktX9_calledOf_4 : List UInt8 := dkwX9_calledOf_4 ++ []
def dkwX9_calledOf_3 : List UInt8 := [180, 0, 7, 27, 6, 96, 46, 163, 0, 10, 4, 21, 4, 120, 167, 0, 4, 3, 128, 61, 132, 3, 1]
abbrev dktX9_calledOf_3 : List UInt8 := dkwX9_calledOf_3 ++ dktX9_calledOf_4
def dkwX9_calledOf_2 : List UInt8 := [46, 120, 167, 0, 40, 21, 4, 16, 10, 162, 0, 32, 42, 180, 0, 7, 27, 16, 25, 96, 29, 96, 46, 42]
abbrev dktX9_calledOf_2 : List UInt8 := dkwX9_calledOf_2 ++ dktX9_calledOf_3
def dkwX9_calledOf_1 : List UInt8 := [29, 96, 46, 54, 4, 28, 21, 4, 16, 10, 160, 0, 19, 4, 42, 180, 0, 7, 27, 16, 19, 96, 29, 96]
abbrev dktX9_calledOf_1 : List UInt8 := dkwX9_calledOf_1 ++ dktX9_calledOf_2
def dkwX9_calledOf_0 : List UInt8 := [3, 61, 3, 62, 29, 42, 180, 0, 7, 27, 3, 96, 46, 162, 0, 85, 42, 180, 0, 7, 27, 16, 13, 96]
abbrev dktX9_calledOf_0 : List UInt8 := dkwX9_calledOf_0 ++ dktX9_calledOf_1
theorem dksX9_calledOf_0 : cX9_calledOf.data.toList.drop 0 = dktX9_calledOf_0 := by decide +kernel
theorem dksX9_calledOf_1 : cX9_calledOf.data.toList.drop 24 = dktX9_calledOf_1 := dk_seg dksX9_calledOf_0 24 rfl rfl
theorem dksX9_calledOf_2 : cX9_calledOf.data.toList.drop 48 = dktX9_calledOf_2 := dk_seg dksX9_calledOf_1 24 rfl rfl
theorem dksX9_calledOf_3 : cX9_calledOf.data.toList.drop 72 = dktX9_calledOf_3 := dk_seg dksX9_calledOf_2 24 rfl rfl
theorem dksX9_calledOf_4 : cX9_calledOf.data.toList.drop 95 = dktX9_calledOf_4 := dk_seg dksX9_calledOf_3 23 rfl rfl
theorem dX9_calledOf_0 : decode cX9_calledOf 0 = .ok (.iconst 0, 1) := dk_3 (dk_at dksX9_calledOf_0 0 rfl rfl)
theorem dX9_calledOf_1 : decode cX9_calledOf 1 = .ok (.istore_n 2, 1) := dk_61 (dk_at dksX9_calledOf_0 1 rfl rfl)
theorem dX9_calledOf_2 : decode cX9_calledOf 2 = .ok (.iconst 0, 1) := dk_3 (dk_at dksX9_calledOf_0 2 rfl rfl)
theorem dX9_calledOf_3 : decode cX9_calledOf 3 = .ok (.istore_n 3, 1) := dk_62 (dk_at dksX9_calledOf_0 3 rfl rfl)
theorem dX9_calledOf_4 : decode cX9_calledOf 4 = .ok (.iload_n 3, 1) := dk_29 (dk_at dksX9_calledOf_0 4 rfl rfl)
theorem dX9_calledOf_5 : decode cX9_calledOf 5 = .ok (.aload_n 0, 1) := dk_42 (dk_at dksX9_calledOf_0 5 rfl rfl)
theorem dX9_calledOf_6 : decode cX9_calledOf 6 = .ok (.getfield 7, 3) := dk_180 0 7 (dk_at dksX9_calledOf_0 6 rfl rfl)
theorem dX9_calledOf_9 : decode cX9_calledOf 9 = .ok (.iload_n 1, 1) := dk_27 (dk_at dksX9_calledOf_0 9 rfl rfl)
theorem dX9_calledOf_10 : decode cX9_calledOf 10 = .ok (.iconst 0, 1) := dk_3 (dk_at dksX9_calledOf_0 10 rfl rfl)
theorem dX9_calledOf_11 : decode cX9_calledOf 11 = .ok (.iadd, 1) := dk_96 (dk_at dksX9_calledOf_0 11 rfl rfl)
theorem dX9_calledOf_12 : decode cX9_calledOf 12 = .ok (.iaload, 1) := dk_46 (dk_at dksX9_calledOf_0 12 rfl rfl)
theorem dX9_calledOf_13 : decode cX9_calledOf 13 = .ok (.if_icmp .ge 85, 3) := dk_162 0 85 (dk_at dksX9_calledOf_0 13 rfl rfl)
theorem dX9_calledOf_16 : decode cX9_calledOf 16 = .ok (.aload_n 0, 1) := dk_42 (dk_at dksX9_calledOf_0 16 rfl rfl)
theorem dX9_calledOf_17 : decode cX9_calledOf 17 = .ok (.getfield 7, 3) := dk_180 0 7 (dk_at dksX9_calledOf_0 17 rfl rfl)
theorem dX9_calledOf_20 : decode cX9_calledOf 20 = .ok (.iload_n 1, 1) := dk_27 (dk_at dksX9_calledOf_0 20 rfl rfl)
theorem dX9_calledOf_21 : decode cX9_calledOf 21 = .ok (.bipush 13, 2) := dk_16 13 (dk_at dksX9_calledOf_0 21 rfl rfl)
theorem dX9_calledOf_23 : decode cX9_calledOf 23 = .ok (.iadd, 1) := dk_96 (dk_at dksX9_calledOf_0 23 rfl rfl)
theorem dX9_calledOf_24 : decode cX9_calledOf 24 = .ok (.iload_n 3, 1) := dk_29 (dk_at dksX9_calledOf_1 0 rfl rfl)
theorem dX9_calledOf_25 : decode cX9_calledOf 25 = .ok (.iadd, 1) := dk_96 (dk_at dksX9_calledOf_1 1 rfl rfl)
theorem dX9_calledOf_26 : decode cX9_calledOf 26 = .ok (.iaload, 1) := dk_46 (dk_at dksX9_calledOf_1 2 rfl rfl)
theorem dX9_calledOf_27 : decode cX9_calledOf 27 = .ok (.istore 4, 2) := dk_54 4 (dk_at dksX9_calledOf_1 3 rfl rfl)
theorem dX9_calledOf_29 : decode cX9_calledOf 29 = .ok (.iload_n 2, 1) := dk_28 (dk_at dksX9_calledOf_1 5 rfl rfl)
theorem dX9_calledOf_30 : decode cX9_calledOf 30 = .ok (.iload 4, 2) := dk_21 4 (dk_at dksX9_calledOf_1 6 rfl rfl)
theorem dX9_calledOf_32 : decode cX9_calledOf 32 = .ok (.bipush 10, 2) := dk_16 10 (dk_at dksX9_calledOf_1 8 rfl rfl)
theorem dX9_calledOf_34 : decode cX9_calledOf 34 = .ok (.if_icmp .ne 19, 3) := dk_160 0 19 (dk_at dksX9_calledOf_1 10 rfl rfl)
theorem dX9_calledOf_37 : decode cX9_calledOf 37 = .ok (.iconst 1, 1) := dk_4 (dk_at dksX9_calledOf_1 13 rfl rfl)
theorem dX9_calledOf_38 : decode cX9_calledOf 38 = .ok (.aload_n 0, 1) := dk_42 (dk_at dksX9_calledOf_1 14 rfl rfl)
theorem dX9_calledOf_39 : decode cX9_calledOf 39 = .ok (.getfield 7, 3) := dk_180 0 7 (dk_at dksX9_calledOf_1 15 rfl rfl)
theorem dX9_calledOf_42 : decode cX9_calledOf 42 = .ok (.iload_n 1, 1) := dk_27 (dk_at dksX9_calledOf_1 18 rfl rfl)
theorem dX9_calledOf_43 : decode cX9_calledOf 43 = .ok (.bipush 19, 2) := dk_16 19 (dk_at dksX9_calledOf_1 19 rfl rfl)
theorem dX9_calledOf_45 : decode cX9_calledOf 45 = .ok (.iadd, 1) := dk_96 (dk_at dksX9_calledOf_1 21 rfl rfl)
theorem dX9_calledOf_46 : decode cX9_calledOf 46 = .ok (.iload_n 3, 1) := dk_29 (dk_at dksX9_calledOf_1 22 rfl rfl)
theorem dX9_calledOf_47 : decode cX9_calledOf 47 = .ok (.iadd, 1) := dk_96 (dk_at dksX9_calledOf_1 23 rfl rfl)
theorem dX9_calledOf_48 : decode cX9_calledOf 48 = .ok (.iaload, 1) := dk_46 (dk_at dksX9_calledOf_2 0 rfl rfl)
theorem dX9_calledOf_49 : decode cX9_calledOf 49 = .ok (.ishl, 1) := dk_120 (dk_at dksX9_calledOf_2 1 rfl rfl)
theorem dX9_calledOf_50 : decode cX9_calledOf 50 = .ok (.goto 40, 3) := dk_167 0 40 (dk_at dksX9_calledOf_2 2 rfl rfl)
theorem dX9_calledOf_53 : decode cX9_calledOf 53 = .ok (.iload 4, 2) := dk_21 4 (dk_at dksX9_calledOf_2 5 rfl rfl)
theorem dX9_calledOf_55 : decode cX9_calledOf 55 = .ok (.bipush 10, 2) := dk_16 10 (dk_at dksX9_calledOf_2 7 rfl rfl)
theorem dX9_calledOf_57 : decode cX9_calledOf 57 = .ok (.if_icmp .ge 32, 3) := dk_162 0 32 (dk_at dksX9_calledOf_2 9 rfl rfl)
theorem dX9_calledOf_60 : decode cX9_calledOf 60 = .ok (.aload_n 0, 1) := dk_42 (dk_at dksX9_calledOf_2 12 rfl rfl)
theorem dX9_calledOf_61 : decode cX9_calledOf 61 = .ok (.getfield 7, 3) := dk_180 0 7 (dk_at dksX9_calledOf_2 13 rfl rfl)
theorem dX9_calledOf_64 : decode cX9_calledOf 64 = .ok (.iload_n 1, 1) := dk_27 (dk_at dksX9_calledOf_2 16 rfl rfl)
theorem dX9_calledOf_65 : decode cX9_calledOf 65 = .ok (.bipush 25, 2) := dk_16 25 (dk_at dksX9_calledOf_2 17 rfl rfl)
theorem dX9_calledOf_67 : decode cX9_calledOf 67 = .ok (.iadd, 1) := dk_96 (dk_at dksX9_calledOf_2 19 rfl rfl)
theorem dX9_calledOf_68 : decode cX9_calledOf 68 = .ok (.iload_n 3, 1) := dk_29 (dk_at dksX9_calledOf_2 20 rfl rfl)
theorem dX9_calledOf_69 : decode cX9_calledOf 69 = .ok (.iadd, 1) := dk_96 (dk_at dksX9_calledOf_2 21 rfl rfl)
theorem dX9_calledOf_70 : decode cX9_calledOf 70 = .ok (.iaload, 1) := dk_46 (dk_at dksX9_calledOf_2 22 rfl rfl)
theorem dX9_calledOf_71 : decode cX9_calledOf 71 = .ok (.aload_n 0, 1) := dk_42 (dk_at dksX9_calledOf_2 23 rfl rfl)
theorem dX9_calledOf_72 : decode cX9_calledOf 72 = .ok (.getfield 7, 3) := dk_180 0 7 (dk_at dksX9_calledOf_3 0 rfl rfl)
theorem dX9_calledOf_75 : decode cX9_calledOf 75 = .ok (.iload_n 1, 1) := dk_27 (dk_at dksX9_calledOf_3 3 rfl rfl)
theorem dX9_calledOf_76 : decode cX9_calledOf 76 = .ok (.iconst 3, 1) := dk_6 (dk_at dksX9_calledOf_3 4 rfl rfl)
theorem dX9_calledOf_77 : decode cX9_calledOf 77 = .ok (.iadd, 1) := dk_96 (dk_at dksX9_calledOf_3 5 rfl rfl)
theorem dX9_calledOf_78 : decode cX9_calledOf 78 = .ok (.iaload, 1) := dk_46 (dk_at dksX9_calledOf_3 6 rfl rfl)
theorem dX9_calledOf_79 : decode cX9_calledOf 79 = .ok (.if_icmp .gt 10, 3) := dk_163 0 10 (dk_at dksX9_calledOf_3 7 rfl rfl)
theorem dX9_calledOf_82 : decode cX9_calledOf 82 = .ok (.iconst 1, 1) := dk_4 (dk_at dksX9_calledOf_3 10 rfl rfl)
theorem dX9_calledOf_83 : decode cX9_calledOf 83 = .ok (.iload 4, 2) := dk_21 4 (dk_at dksX9_calledOf_3 11 rfl rfl)
theorem dX9_calledOf_85 : decode cX9_calledOf 85 = .ok (.ishl, 1) := dk_120 (dk_at dksX9_calledOf_3 13 rfl rfl)
theorem dX9_calledOf_86 : decode cX9_calledOf 86 = .ok (.goto 4, 3) := dk_167 0 4 (dk_at dksX9_calledOf_3 14 rfl rfl)
theorem dX9_calledOf_89 : decode cX9_calledOf 89 = .ok (.iconst 0, 1) := dk_3 (dk_at dksX9_calledOf_3 17 rfl rfl)
theorem dX9_calledOf_90 : decode cX9_calledOf 90 = .ok (.ior, 1) := dk_128 (dk_at dksX9_calledOf_3 18 rfl rfl)
theorem dX9_calledOf_91 : decode cX9_calledOf 91 = .ok (.istore_n 2, 1) := dk_61 (dk_at dksX9_calledOf_3 19 rfl rfl)
theorem dX9_calledOf_92 : decode cX9_calledOf 92 = .ok (.iinc 3 1, 3) := dk_132 3 1 (dk_at dksX9_calledOf_3 20 rfl rfl)
theorem dX9_calledOf_95 : decode cX9_calledOf 95 = .ok (.goto (-91), 3) := dk_167 255 165 (dk_at dksX9_calledOf_4 0 rfl rfl)
theorem dX9_calledOf_98 : decode cX9_calledOf 98 = .ok (.iload_n 2, 1) := dk_28 (dk_at dksX9_calledOf_4 3 rfl rfl)
theorem dX9_calledOf_99 : decode cX9_calledOf 99 = .ok (.iconst 1, 1) := dk_4 (dk_at dksX9_calledOf_4 4 rfl rfl)
theorem dX9_calledOf_100 : decode cX9_calledOf 100 = .ok (.aload_n 0, 1) := dk_42 (dk_at dksX9_calledOf_4 5 rfl rfl)
theorem dX9_calledOf_101 : decode cX9_calledOf 101 = .ok (.getfield 7, 3) := dk_180 0 7 (dk_at dksX9_calledOf_4 6 rfl rfl)
theorem dX9_calledOf_104 : decode cX9_calledOf 104 = .ok (.iload_n 1, 1) := dk_27 (dk_at dksX9_calledOf_4 9 rfl rfl)
theorem dX9_calledOf_105 : decode cX9_calledOf 105 = .ok (.iconst 4, 1) := dk_7 (dk_at dksX9_calledOf_4 10 rfl rfl)
theorem dX9_calledOf_106 : decode cX9_calledOf 106 = .ok (.iadd, 1) := dk_96 (dk_at dksX9_calledOf_4 11 rfl rfl)
theorem dX9_calledOf_107 : decode cX9_calledOf 107 = .ok (.iaload, 1) := dk_46 (dk_at dksX9_calledOf_4 12 rfl rfl)
theorem dX9_calledOf_108 : decode cX9_calledOf 108 = .ok (.ishl, 1) := dk_120 (dk_at dksX9_calledOf_4 13 rfl rfl)
theorem dX9_calledOf_109 : decode cX9_calledOf 109 = .ok (.iconst (-1), 1) := dk_2 (dk_at dksX9_calledOf_4 14 rfl rfl)
theorem dX9_calledOf_110 : decode cX9_calledOf 110 = .ok (.ixor, 1) := dk_130 (dk_at dksX9_calledOf_4 15 rfl rfl)
theorem dX9_calledOf_111 : decode cX9_calledOf 111 = .ok (.iand, 1) := dk_126 (dk_at dksX9_calledOf_4 16 rfl rfl)
theorem dX9_calledOf_112 : decode cX9_calledOf 112 = .ok (.ireturn, 1) := dk_172 (dk_at dksX9_calledOf_4 17 rfl rfl)
abbrev cX9_cools : ByteArray := prog_16_method_34_code
def yX9_cools : MethodName := ⟨RX9, "cools", "(IZ)V"⟩
def dkwX9_cools_2 : List UInt8 := [16, 6, 96, 92, 46, 4, 96, 79, 177]
abbrev dktX9_cools_2 : List UInt8 := dkwX9_cools_2 ++ []
def dkwX9_cools_1 : List UInt8 := [46, 16, 11, 159, 0, 10, 42, 27, 29, 28, 182, 0, 143, 132, 3, 1, 167, 255, 218, 42, 180, 0, 7, 27]
abbrev dktX9_cools_1 : List UInt8 := dkwX9_cools_1 ++ dktX9_cools_2
def dkwX9_cools_0 : List UInt8 := [3, 62, 29, 42, 180, 0, 7, 27, 3, 96, 46, 162, 0, 32, 42, 180, 0, 7, 27, 16, 13, 96, 29, 96]
abbrev dktX9_cools_0 : List UInt8 := dkwX9_cools_0 ++ dktX9_cools_1
theorem dksX9_cools_0 : cX9_cools.data.toList.drop 0 = dktX9_cools_0 := by decide +kernel
theorem dksX9_cools_1 : cX9_cools.data.toList.drop 24 = dktX9_cools_1 := dk_seg dksX9_cools_0 24 rfl rfl
theorem dksX9_cools_2 : cX9_cools.data.toList.drop 48 = dktX9_cools_2 := dk_seg dksX9_cools_1 24 rfl rfl
theorem dX9_cools_0 : decode cX9_cools 0 = .ok (.iconst 0, 1) := dk_3 (dk_at dksX9_cools_0 0 rfl rfl)
theorem dX9_cools_1 : decode cX9_cools 1 = .ok (.istore_n 3, 1) := dk_62 (dk_at dksX9_cools_0 1 rfl rfl)
theorem dX9_cools_2 : decode cX9_cools 2 = .ok (.iload_n 3, 1) := dk_29 (dk_at dksX9_cools_0 2 rfl rfl)
theorem dX9_cools_3 : decode cX9_cools 3 = .ok (.aload_n 0, 1) := dk_42 (dk_at dksX9_cools_0 3 rfl rfl)
theorem dX9_cools_4 : decode cX9_cools 4 = .ok (.getfield 7, 3) := dk_180 0 7 (dk_at dksX9_cools_0 4 rfl rfl)
theorem dX9_cools_7 : decode cX9_cools 7 = .ok (.iload_n 1, 1) := dk_27 (dk_at dksX9_cools_0 7 rfl rfl)
theorem dX9_cools_8 : decode cX9_cools 8 = .ok (.iconst 0, 1) := dk_3 (dk_at dksX9_cools_0 8 rfl rfl)
theorem dX9_cools_9 : decode cX9_cools 9 = .ok (.iadd, 1) := dk_96 (dk_at dksX9_cools_0 9 rfl rfl)
theorem dX9_cools_10 : decode cX9_cools 10 = .ok (.iaload, 1) := dk_46 (dk_at dksX9_cools_0 10 rfl rfl)
theorem dX9_cools_11 : decode cX9_cools 11 = .ok (.if_icmp .ge 32, 3) := dk_162 0 32 (dk_at dksX9_cools_0 11 rfl rfl)
theorem dX9_cools_14 : decode cX9_cools 14 = .ok (.aload_n 0, 1) := dk_42 (dk_at dksX9_cools_0 14 rfl rfl)
theorem dX9_cools_15 : decode cX9_cools 15 = .ok (.getfield 7, 3) := dk_180 0 7 (dk_at dksX9_cools_0 15 rfl rfl)
theorem dX9_cools_18 : decode cX9_cools 18 = .ok (.iload_n 1, 1) := dk_27 (dk_at dksX9_cools_0 18 rfl rfl)
theorem dX9_cools_19 : decode cX9_cools 19 = .ok (.bipush 13, 2) := dk_16 13 (dk_at dksX9_cools_0 19 rfl rfl)
theorem dX9_cools_21 : decode cX9_cools 21 = .ok (.iadd, 1) := dk_96 (dk_at dksX9_cools_0 21 rfl rfl)
theorem dX9_cools_22 : decode cX9_cools 22 = .ok (.iload_n 3, 1) := dk_29 (dk_at dksX9_cools_0 22 rfl rfl)
theorem dX9_cools_23 : decode cX9_cools 23 = .ok (.iadd, 1) := dk_96 (dk_at dksX9_cools_0 23 rfl rfl)
theorem dX9_cools_24 : decode cX9_cools 24 = .ok (.iaload, 1) := dk_46 (dk_at dksX9_cools_1 0 rfl rfl)
theorem dX9_cools_25 : decode cX9_cools 25 = .ok (.bipush 11, 2) := dk_16 11 (dk_at dksX9_cools_1 1 rfl rfl)
theorem dX9_cools_27 : decode cX9_cools 27 = .ok (.if_icmp .eq 10, 3) := dk_159 0 10 (dk_at dksX9_cools_1 3 rfl rfl)
theorem dX9_cools_30 : decode cX9_cools 30 = .ok (.aload_n 0, 1) := dk_42 (dk_at dksX9_cools_1 6 rfl rfl)
theorem dX9_cools_31 : decode cX9_cools 31 = .ok (.iload_n 1, 1) := dk_27 (dk_at dksX9_cools_1 7 rfl rfl)
theorem dX9_cools_32 : decode cX9_cools 32 = .ok (.iload_n 3, 1) := dk_29 (dk_at dksX9_cools_1 8 rfl rfl)
theorem dX9_cools_33 : decode cX9_cools 33 = .ok (.iload_n 2, 1) := dk_28 (dk_at dksX9_cools_1 9 rfl rfl)
theorem dX9_cools_34 : decode cX9_cools 34 = .ok (.invokevirtual 143, 3) := dk_182 0 143 (dk_at dksX9_cools_1 10 rfl rfl)
theorem dX9_cools_37 : decode cX9_cools 37 = .ok (.iinc 3 1, 3) := dk_132 3 1 (dk_at dksX9_cools_1 13 rfl rfl)
theorem dX9_cools_40 : decode cX9_cools 40 = .ok (.goto (-38), 3) := dk_167 255 218 (dk_at dksX9_cools_1 16 rfl rfl)
theorem dX9_cools_43 : decode cX9_cools 43 = .ok (.aload_n 0, 1) := dk_42 (dk_at dksX9_cools_1 19 rfl rfl)
theorem dX9_cools_44 : decode cX9_cools 44 = .ok (.getfield 7, 3) := dk_180 0 7 (dk_at dksX9_cools_1 20 rfl rfl)
theorem dX9_cools_47 : decode cX9_cools 47 = .ok (.iload_n 1, 1) := dk_27 (dk_at dksX9_cools_1 23 rfl rfl)
theorem dX9_cools_48 : decode cX9_cools 48 = .ok (.bipush 6, 2) := dk_16 6 (dk_at dksX9_cools_2 0 rfl rfl)
theorem dX9_cools_50 : decode cX9_cools 50 = .ok (.iadd, 1) := dk_96 (dk_at dksX9_cools_2 2 rfl rfl)
theorem dX9_cools_51 : decode cX9_cools 51 = .ok (.dup2, 1) := dk_92 (dk_at dksX9_cools_2 3 rfl rfl)
theorem dX9_cools_52 : decode cX9_cools 52 = .ok (.iaload, 1) := dk_46 (dk_at dksX9_cools_2 4 rfl rfl)
theorem dX9_cools_53 : decode cX9_cools 53 = .ok (.iconst 1, 1) := dk_4 (dk_at dksX9_cools_2 5 rfl rfl)
theorem dX9_cools_54 : decode cX9_cools 54 = .ok (.iadd, 1) := dk_96 (dk_at dksX9_cools_2 6 rfl rfl)
theorem dX9_cools_55 : decode cX9_cools 55 = .ok (.iastore, 1) := dk_79 (dk_at dksX9_cools_2 7 rfl rfl)
theorem dX9_cools_56 : decode cX9_cools 56 = .ok (.return_, 1) := dk_177 (dk_at dksX9_cools_2 8 rfl rfl)
abbrev cX9_coolsOne : ByteArray := prog_16_method_35_code
def yX9_coolsOne : MethodName := ⟨RX9, "coolsOne", "(IIZ)V"⟩
def dkwX9_coolsOne_9 : List UInt8 := [28, 96, 46, 4, 164, 0, 7, 4, 167, 0, 4, 3, 100, 79, 177]
abbrev dktX9_coolsOne_9 : List UInt8 := dkwX9_coolsOne_9 ++ []
def dkwX9_coolsOne_8 : List UInt8 := [180, 0, 7, 27, 16, 25, 96, 28, 96, 92, 46, 21, 8, 153, 0, 22, 42, 180, 0, 7, 27, 16, 25, 96]
abbrev dktX9_coolsOne_8 : List UInt8 := dkwX9_coolsOne_8 ++ dktX9_coolsOne_9
def dkwX9_coolsOne_7 : List UInt8 := [167, 0, 21, 21, 4, 8, 160, 0, 14, 21, 7, 16, 10, 161, 0, 7, 4, 167, 0, 4, 3, 54, 8, 42]
abbrev dktX9_coolsOne_7 : List UInt8 := dkwX9_coolsOne_7 ++ dktX9_coolsOne_8
def dkwX9_coolsOne_6 : List UInt8 := [180, 0, 7, 27, 16, 13, 96, 28, 96, 46, 16, 10, 160, 0, 11, 29, 153, 0, 7, 4, 167, 0, 25, 3]
abbrev dktX9_coolsOne_6 : List UInt8 := dkwX9_coolsOne_6 ++ dktX9_coolsOne_7
def dkwX9_coolsOne_5 : List UInt8 := [54, 7, 42, 180, 0, 7, 27, 16, 31, 96, 28, 96, 21, 7, 79, 21, 4, 5, 160, 0, 31, 42]
abbrev dktX9_coolsOne_5 : List UInt8 := dkwX9_coolsOne_5 ++ dktX9_coolsOne_6
def dkwX9_coolsOne_4 : List UInt8 := [21, 7, 156, 0, 7, 3, 167, 0, 17, 21, 7, 16, 60, 164, 0, 8, 16, 60, 167, 0, 5, 21, 7]
abbrev dktX9_coolsOne_4 : List UInt8 := dkwX9_coolsOne_4 ++ dktX9_coolsOne_5
def dkwX9_coolsOne_3 : List UInt8 := [21, 5, 4, 96, 167, 0, 17, 21, 6, 153, 0, 10, 21, 5, 4, 100, 167, 0, 5, 21, 5, 54, 7]
abbrev dktX9_coolsOne_3 : List UInt8 := dkwX9_coolsOne_3 ++ dktX9_coolsOne_4
def dkwX9_coolsOne_2 : List UInt8 := [27, 16, 6, 96, 46, 5, 112, 4, 160, 0, 7, 4, 167, 0, 4, 3, 54, 6, 21, 4, 7, 161, 0, 10]
abbrev dktX9_coolsOne_2 : List UInt8 := dkwX9_coolsOne_2 ++ dktX9_coolsOne_3
def dkwX9_coolsOne_1 : List UInt8 := [54, 5, 21, 4, 4, 159, 0, 30, 21, 4, 5, 159, 0, 24, 21, 4, 6, 160, 0, 22, 42, 180, 0, 7]
abbrev dktX9_coolsOne_1 : List UInt8 := dkwX9_coolsOne_1 ++ dktX9_coolsOne_2
def dkwX9_coolsOne_0 : List UInt8 := [42, 180, 0, 7, 27, 16, 7, 96, 28, 96, 46, 54, 4, 42, 180, 0, 7, 27, 16, 31, 96, 28, 96, 46]
abbrev dktX9_coolsOne_0 : List UInt8 := dkwX9_coolsOne_0 ++ dktX9_coolsOne_1
theorem dksX9_coolsOne_0 : cX9_coolsOne.data.toList.drop 0 = dktX9_coolsOne_0 := by decide +kernel
theorem dksX9_coolsOne_1 : cX9_coolsOne.data.toList.drop 24 = dktX9_coolsOne_1 := dk_seg dksX9_coolsOne_0 24 rfl rfl
theorem dksX9_coolsOne_2 : cX9_coolsOne.data.toList.drop 48 = dktX9_coolsOne_2 := dk_seg dksX9_coolsOne_1 24 rfl rfl
theorem dksX9_coolsOne_3 : cX9_coolsOne.data.toList.drop 72 = dktX9_coolsOne_3 := dk_seg dksX9_coolsOne_2 24 rfl rfl
theorem dksX9_coolsOne_4 : cX9_coolsOne.data.toList.drop 95 = dktX9_coolsOne_4 := dk_seg dksX9_coolsOne_3 23 rfl rfl
theorem dksX9_coolsOne_5 : cX9_coolsOne.data.toList.drop 118 = dktX9_coolsOne_5 := dk_seg dksX9_coolsOne_4 23 rfl rfl
theorem dksX9_coolsOne_6 : cX9_coolsOne.data.toList.drop 140 = dktX9_coolsOne_6 := dk_seg dksX9_coolsOne_5 22 rfl rfl
theorem dksX9_coolsOne_7 : cX9_coolsOne.data.toList.drop 164 = dktX9_coolsOne_7 := dk_seg dksX9_coolsOne_6 24 rfl rfl
theorem dksX9_coolsOne_8 : cX9_coolsOne.data.toList.drop 188 = dktX9_coolsOne_8 := dk_seg dksX9_coolsOne_7 24 rfl rfl
theorem dksX9_coolsOne_9 : cX9_coolsOne.data.toList.drop 212 = dktX9_coolsOne_9 := dk_seg dksX9_coolsOne_8 24 rfl rfl
theorem dX9_coolsOne_0 : decode cX9_coolsOne 0 = .ok (.aload_n 0, 1) := dk_42 (dk_at dksX9_coolsOne_0 0 rfl rfl)
theorem dX9_coolsOne_1 : decode cX9_coolsOne 1 = .ok (.getfield 7, 3) := dk_180 0 7 (dk_at dksX9_coolsOne_0 1 rfl rfl)
theorem dX9_coolsOne_4 : decode cX9_coolsOne 4 = .ok (.iload_n 1, 1) := dk_27 (dk_at dksX9_coolsOne_0 4 rfl rfl)
theorem dX9_coolsOne_5 : decode cX9_coolsOne 5 = .ok (.bipush 7, 2) := dk_16 7 (dk_at dksX9_coolsOne_0 5 rfl rfl)
theorem dX9_coolsOne_7 : decode cX9_coolsOne 7 = .ok (.iadd, 1) := dk_96 (dk_at dksX9_coolsOne_0 7 rfl rfl)
theorem dX9_coolsOne_8 : decode cX9_coolsOne 8 = .ok (.iload_n 2, 1) := dk_28 (dk_at dksX9_coolsOne_0 8 rfl rfl)
theorem dX9_coolsOne_9 : decode cX9_coolsOne 9 = .ok (.iadd, 1) := dk_96 (dk_at dksX9_coolsOne_0 9 rfl rfl)
theorem dX9_coolsOne_10 : decode cX9_coolsOne 10 = .ok (.iaload, 1) := dk_46 (dk_at dksX9_coolsOne_0 10 rfl rfl)
theorem dX9_coolsOne_11 : decode cX9_coolsOne 11 = .ok (.istore 4, 2) := dk_54 4 (dk_at dksX9_coolsOne_0 11 rfl rfl)
theorem dX9_coolsOne_13 : decode cX9_coolsOne 13 = .ok (.aload_n 0, 1) := dk_42 (dk_at dksX9_coolsOne_0 13 rfl rfl)
theorem dX9_coolsOne_14 : decode cX9_coolsOne 14 = .ok (.getfield 7, 3) := dk_180 0 7 (dk_at dksX9_coolsOne_0 14 rfl rfl)
theorem dX9_coolsOne_17 : decode cX9_coolsOne 17 = .ok (.iload_n 1, 1) := dk_27 (dk_at dksX9_coolsOne_0 17 rfl rfl)
theorem dX9_coolsOne_18 : decode cX9_coolsOne 18 = .ok (.bipush 31, 2) := dk_16 31 (dk_at dksX9_coolsOne_0 18 rfl rfl)
theorem dX9_coolsOne_20 : decode cX9_coolsOne 20 = .ok (.iadd, 1) := dk_96 (dk_at dksX9_coolsOne_0 20 rfl rfl)
theorem dX9_coolsOne_21 : decode cX9_coolsOne 21 = .ok (.iload_n 2, 1) := dk_28 (dk_at dksX9_coolsOne_0 21 rfl rfl)
theorem dX9_coolsOne_22 : decode cX9_coolsOne 22 = .ok (.iadd, 1) := dk_96 (dk_at dksX9_coolsOne_0 22 rfl rfl)
theorem dX9_coolsOne_23 : decode cX9_coolsOne 23 = .ok (.iaload, 1) := dk_46 (dk_at dksX9_coolsOne_0 23 rfl rfl)
theorem dX9_coolsOne_24 : decode cX9_coolsOne 24 = .ok (.istore 5, 2) := dk_54 5 (dk_at dksX9_coolsOne_1 0 rfl rfl)
theorem dX9_coolsOne_26 : decode cX9_coolsOne 26 = .ok (.iload 4, 2) := dk_21 4 (dk_at dksX9_coolsOne_1 2 rfl rfl)
theorem dX9_coolsOne_28 : decode cX9_coolsOne 28 = .ok (.iconst 1, 1) := dk_4 (dk_at dksX9_coolsOne_1 4 rfl rfl)
theorem dX9_coolsOne_29 : decode cX9_coolsOne 29 = .ok (.if_icmp .eq 30, 3) := dk_159 0 30 (dk_at dksX9_coolsOne_1 5 rfl rfl)
theorem dX9_coolsOne_32 : decode cX9_coolsOne 32 = .ok (.iload 4, 2) := dk_21 4 (dk_at dksX9_coolsOne_1 8 rfl rfl)
theorem dX9_coolsOne_34 : decode cX9_coolsOne 34 = .ok (.iconst 2, 1) := dk_5 (dk_at dksX9_coolsOne_1 10 rfl rfl)
theorem dX9_coolsOne_35 : decode cX9_coolsOne 35 = .ok (.if_icmp .eq 24, 3) := dk_159 0 24 (dk_at dksX9_coolsOne_1 11 rfl rfl)
theorem dX9_coolsOne_38 : decode cX9_coolsOne 38 = .ok (.iload 4, 2) := dk_21 4 (dk_at dksX9_coolsOne_1 14 rfl rfl)
theorem dX9_coolsOne_40 : decode cX9_coolsOne 40 = .ok (.iconst 3, 1) := dk_6 (dk_at dksX9_coolsOne_1 16 rfl rfl)
theorem dX9_coolsOne_41 : decode cX9_coolsOne 41 = .ok (.if_icmp .ne 22, 3) := dk_160 0 22 (dk_at dksX9_coolsOne_1 17 rfl rfl)
theorem dX9_coolsOne_44 : decode cX9_coolsOne 44 = .ok (.aload_n 0, 1) := dk_42 (dk_at dksX9_coolsOne_1 20 rfl rfl)
theorem dX9_coolsOne_45 : decode cX9_coolsOne 45 = .ok (.getfield 7, 3) := dk_180 0 7 (dk_at dksX9_coolsOne_1 21 rfl rfl)
theorem dX9_coolsOne_48 : decode cX9_coolsOne 48 = .ok (.iload_n 1, 1) := dk_27 (dk_at dksX9_coolsOne_2 0 rfl rfl)
theorem dX9_coolsOne_49 : decode cX9_coolsOne 49 = .ok (.bipush 6, 2) := dk_16 6 (dk_at dksX9_coolsOne_2 1 rfl rfl)
theorem dX9_coolsOne_51 : decode cX9_coolsOne 51 = .ok (.iadd, 1) := dk_96 (dk_at dksX9_coolsOne_2 3 rfl rfl)
theorem dX9_coolsOne_52 : decode cX9_coolsOne 52 = .ok (.iaload, 1) := dk_46 (dk_at dksX9_coolsOne_2 4 rfl rfl)
theorem dX9_coolsOne_53 : decode cX9_coolsOne 53 = .ok (.iconst 2, 1) := dk_5 (dk_at dksX9_coolsOne_2 5 rfl rfl)
theorem dX9_coolsOne_54 : decode cX9_coolsOne 54 = .ok (.irem, 1) := dk_112 (dk_at dksX9_coolsOne_2 6 rfl rfl)
theorem dX9_coolsOne_55 : decode cX9_coolsOne 55 = .ok (.iconst 1, 1) := dk_4 (dk_at dksX9_coolsOne_2 7 rfl rfl)
theorem dX9_coolsOne_56 : decode cX9_coolsOne 56 = .ok (.if_icmp .ne 7, 3) := dk_160 0 7 (dk_at dksX9_coolsOne_2 8 rfl rfl)
theorem dX9_coolsOne_59 : decode cX9_coolsOne 59 = .ok (.iconst 1, 1) := dk_4 (dk_at dksX9_coolsOne_2 11 rfl rfl)
theorem dX9_coolsOne_60 : decode cX9_coolsOne 60 = .ok (.goto 4, 3) := dk_167 0 4 (dk_at dksX9_coolsOne_2 12 rfl rfl)
theorem dX9_coolsOne_63 : decode cX9_coolsOne 63 = .ok (.iconst 0, 1) := dk_3 (dk_at dksX9_coolsOne_2 15 rfl rfl)
theorem dX9_coolsOne_64 : decode cX9_coolsOne 64 = .ok (.istore 6, 2) := dk_54 6 (dk_at dksX9_coolsOne_2 16 rfl rfl)
theorem dX9_coolsOne_66 : decode cX9_coolsOne 66 = .ok (.iload 4, 2) := dk_21 4 (dk_at dksX9_coolsOne_2 18 rfl rfl)
theorem dX9_coolsOne_68 : decode cX9_coolsOne 68 = .ok (.iconst 4, 1) := dk_7 (dk_at dksX9_coolsOne_2 20 rfl rfl)
theorem dX9_coolsOne_69 : decode cX9_coolsOne 69 = .ok (.if_icmp .lt 10, 3) := dk_161 0 10 (dk_at dksX9_coolsOne_2 21 rfl rfl)
theorem dX9_coolsOne_72 : decode cX9_coolsOne 72 = .ok (.iload 5, 2) := dk_21 5 (dk_at dksX9_coolsOne_3 0 rfl rfl)
theorem dX9_coolsOne_74 : decode cX9_coolsOne 74 = .ok (.iconst 1, 1) := dk_4 (dk_at dksX9_coolsOne_3 2 rfl rfl)
theorem dX9_coolsOne_75 : decode cX9_coolsOne 75 = .ok (.iadd, 1) := dk_96 (dk_at dksX9_coolsOne_3 3 rfl rfl)
theorem dX9_coolsOne_76 : decode cX9_coolsOne 76 = .ok (.goto 17, 3) := dk_167 0 17 (dk_at dksX9_coolsOne_3 4 rfl rfl)
theorem dX9_coolsOne_79 : decode cX9_coolsOne 79 = .ok (.iload 6, 2) := dk_21 6 (dk_at dksX9_coolsOne_3 7 rfl rfl)
theorem dX9_coolsOne_81 : decode cX9_coolsOne 81 = .ok (.ifCond .eq 10, 3) := dk_153 0 10 (dk_at dksX9_coolsOne_3 9 rfl rfl)
theorem dX9_coolsOne_84 : decode cX9_coolsOne 84 = .ok (.iload 5, 2) := dk_21 5 (dk_at dksX9_coolsOne_3 12 rfl rfl)
theorem dX9_coolsOne_86 : decode cX9_coolsOne 86 = .ok (.iconst 1, 1) := dk_4 (dk_at dksX9_coolsOne_3 14 rfl rfl)
theorem dX9_coolsOne_87 : decode cX9_coolsOne 87 = .ok (.isub, 1) := dk_100 (dk_at dksX9_coolsOne_3 15 rfl rfl)
theorem dX9_coolsOne_88 : decode cX9_coolsOne 88 = .ok (.goto 5, 3) := dk_167 0 5 (dk_at dksX9_coolsOne_3 16 rfl rfl)
theorem dX9_coolsOne_91 : decode cX9_coolsOne 91 = .ok (.iload 5, 2) := dk_21 5 (dk_at dksX9_coolsOne_3 19 rfl rfl)
theorem dX9_coolsOne_93 : decode cX9_coolsOne 93 = .ok (.istore 7, 2) := dk_54 7 (dk_at dksX9_coolsOne_3 21 rfl rfl)
theorem dX9_coolsOne_95 : decode cX9_coolsOne 95 = .ok (.iload 7, 2) := dk_21 7 (dk_at dksX9_coolsOne_4 0 rfl rfl)
theorem dX9_coolsOne_97 : decode cX9_coolsOne 97 = .ok (.ifCond .ge 7, 3) := dk_156 0 7 (dk_at dksX9_coolsOne_4 2 rfl rfl)
theorem dX9_coolsOne_100 : decode cX9_coolsOne 100 = .ok (.iconst 0, 1) := dk_3 (dk_at dksX9_coolsOne_4 5 rfl rfl)
theorem dX9_coolsOne_101 : decode cX9_coolsOne 101 = .ok (.goto 17, 3) := dk_167 0 17 (dk_at dksX9_coolsOne_4 6 rfl rfl)
theorem dX9_coolsOne_104 : decode cX9_coolsOne 104 = .ok (.iload 7, 2) := dk_21 7 (dk_at dksX9_coolsOne_4 9 rfl rfl)
theorem dX9_coolsOne_106 : decode cX9_coolsOne 106 = .ok (.bipush 60, 2) := dk_16 60 (dk_at dksX9_coolsOne_4 11 rfl rfl)
theorem dX9_coolsOne_108 : decode cX9_coolsOne 108 = .ok (.if_icmp .le 8, 3) := dk_164 0 8 (dk_at dksX9_coolsOne_4 13 rfl rfl)
theorem dX9_coolsOne_111 : decode cX9_coolsOne 111 = .ok (.bipush 60, 2) := dk_16 60 (dk_at dksX9_coolsOne_4 16 rfl rfl)
theorem dX9_coolsOne_113 : decode cX9_coolsOne 113 = .ok (.goto 5, 3) := dk_167 0 5 (dk_at dksX9_coolsOne_4 18 rfl rfl)
theorem dX9_coolsOne_116 : decode cX9_coolsOne 116 = .ok (.iload 7, 2) := dk_21 7 (dk_at dksX9_coolsOne_4 21 rfl rfl)
theorem dX9_coolsOne_118 : decode cX9_coolsOne 118 = .ok (.istore 7, 2) := dk_54 7 (dk_at dksX9_coolsOne_5 0 rfl rfl)
theorem dX9_coolsOne_120 : decode cX9_coolsOne 120 = .ok (.aload_n 0, 1) := dk_42 (dk_at dksX9_coolsOne_5 2 rfl rfl)
theorem dX9_coolsOne_121 : decode cX9_coolsOne 121 = .ok (.getfield 7, 3) := dk_180 0 7 (dk_at dksX9_coolsOne_5 3 rfl rfl)
theorem dX9_coolsOne_124 : decode cX9_coolsOne 124 = .ok (.iload_n 1, 1) := dk_27 (dk_at dksX9_coolsOne_5 6 rfl rfl)
theorem dX9_coolsOne_125 : decode cX9_coolsOne 125 = .ok (.bipush 31, 2) := dk_16 31 (dk_at dksX9_coolsOne_5 7 rfl rfl)
theorem dX9_coolsOne_127 : decode cX9_coolsOne 127 = .ok (.iadd, 1) := dk_96 (dk_at dksX9_coolsOne_5 9 rfl rfl)
theorem dX9_coolsOne_128 : decode cX9_coolsOne 128 = .ok (.iload_n 2, 1) := dk_28 (dk_at dksX9_coolsOne_5 10 rfl rfl)
theorem dX9_coolsOne_129 : decode cX9_coolsOne 129 = .ok (.iadd, 1) := dk_96 (dk_at dksX9_coolsOne_5 11 rfl rfl)
theorem dX9_coolsOne_130 : decode cX9_coolsOne 130 = .ok (.iload 7, 2) := dk_21 7 (dk_at dksX9_coolsOne_5 12 rfl rfl)
theorem dX9_coolsOne_132 : decode cX9_coolsOne 132 = .ok (.iastore, 1) := dk_79 (dk_at dksX9_coolsOne_5 14 rfl rfl)
theorem dX9_coolsOne_133 : decode cX9_coolsOne 133 = .ok (.iload 4, 2) := dk_21 4 (dk_at dksX9_coolsOne_5 15 rfl rfl)
theorem dX9_coolsOne_135 : decode cX9_coolsOne 135 = .ok (.iconst 2, 1) := dk_5 (dk_at dksX9_coolsOne_5 17 rfl rfl)
theorem dX9_coolsOne_136 : decode cX9_coolsOne 136 = .ok (.if_icmp .ne 31, 3) := dk_160 0 31 (dk_at dksX9_coolsOne_5 18 rfl rfl)
theorem dX9_coolsOne_139 : decode cX9_coolsOne 139 = .ok (.aload_n 0, 1) := dk_42 (dk_at dksX9_coolsOne_5 21 rfl rfl)
theorem dX9_coolsOne_140 : decode cX9_coolsOne 140 = .ok (.getfield 7, 3) := dk_180 0 7 (dk_at dksX9_coolsOne_6 0 rfl rfl)
theorem dX9_coolsOne_143 : decode cX9_coolsOne 143 = .ok (.iload_n 1, 1) := dk_27 (dk_at dksX9_coolsOne_6 3 rfl rfl)
theorem dX9_coolsOne_144 : decode cX9_coolsOne 144 = .ok (.bipush 13, 2) := dk_16 13 (dk_at dksX9_coolsOne_6 4 rfl rfl)
theorem dX9_coolsOne_146 : decode cX9_coolsOne 146 = .ok (.iadd, 1) := dk_96 (dk_at dksX9_coolsOne_6 6 rfl rfl)
theorem dX9_coolsOne_147 : decode cX9_coolsOne 147 = .ok (.iload_n 2, 1) := dk_28 (dk_at dksX9_coolsOne_6 7 rfl rfl)
theorem dX9_coolsOne_148 : decode cX9_coolsOne 148 = .ok (.iadd, 1) := dk_96 (dk_at dksX9_coolsOne_6 8 rfl rfl)
theorem dX9_coolsOne_149 : decode cX9_coolsOne 149 = .ok (.iaload, 1) := dk_46 (dk_at dksX9_coolsOne_6 9 rfl rfl)
theorem dX9_coolsOne_150 : decode cX9_coolsOne 150 = .ok (.bipush 10, 2) := dk_16 10 (dk_at dksX9_coolsOne_6 10 rfl rfl)
theorem dX9_coolsOne_152 : decode cX9_coolsOne 152 = .ok (.if_icmp .ne 11, 3) := dk_160 0 11 (dk_at dksX9_coolsOne_6 12 rfl rfl)
theorem dX9_coolsOne_155 : decode cX9_coolsOne 155 = .ok (.iload_n 3, 1) := dk_29 (dk_at dksX9_coolsOne_6 15 rfl rfl)
theorem dX9_coolsOne_156 : decode cX9_coolsOne 156 = .ok (.ifCond .eq 7, 3) := dk_153 0 7 (dk_at dksX9_coolsOne_6 16 rfl rfl)
theorem dX9_coolsOne_159 : decode cX9_coolsOne 159 = .ok (.iconst 1, 1) := dk_4 (dk_at dksX9_coolsOne_6 19 rfl rfl)
theorem dX9_coolsOne_160 : decode cX9_coolsOne 160 = .ok (.goto 25, 3) := dk_167 0 25 (dk_at dksX9_coolsOne_6 20 rfl rfl)
theorem dX9_coolsOne_163 : decode cX9_coolsOne 163 = .ok (.iconst 0, 1) := dk_3 (dk_at dksX9_coolsOne_6 23 rfl rfl)
theorem dX9_coolsOne_164 : decode cX9_coolsOne 164 = .ok (.goto 21, 3) := dk_167 0 21 (dk_at dksX9_coolsOne_7 0 rfl rfl)
theorem dX9_coolsOne_167 : decode cX9_coolsOne 167 = .ok (.iload 4, 2) := dk_21 4 (dk_at dksX9_coolsOne_7 3 rfl rfl)
theorem dX9_coolsOne_169 : decode cX9_coolsOne 169 = .ok (.iconst 5, 1) := dk_8 (dk_at dksX9_coolsOne_7 5 rfl rfl)
theorem dX9_coolsOne_170 : decode cX9_coolsOne 170 = .ok (.if_icmp .ne 14, 3) := dk_160 0 14 (dk_at dksX9_coolsOne_7 6 rfl rfl)
theorem dX9_coolsOne_173 : decode cX9_coolsOne 173 = .ok (.iload 7, 2) := dk_21 7 (dk_at dksX9_coolsOne_7 9 rfl rfl)
theorem dX9_coolsOne_175 : decode cX9_coolsOne 175 = .ok (.bipush 10, 2) := dk_16 10 (dk_at dksX9_coolsOne_7 11 rfl rfl)
theorem dX9_coolsOne_177 : decode cX9_coolsOne 177 = .ok (.if_icmp .lt 7, 3) := dk_161 0 7 (dk_at dksX9_coolsOne_7 13 rfl rfl)
theorem dX9_coolsOne_180 : decode cX9_coolsOne 180 = .ok (.iconst 1, 1) := dk_4 (dk_at dksX9_coolsOne_7 16 rfl rfl)
theorem dX9_coolsOne_181 : decode cX9_coolsOne 181 = .ok (.goto 4, 3) := dk_167 0 4 (dk_at dksX9_coolsOne_7 17 rfl rfl)
theorem dX9_coolsOne_184 : decode cX9_coolsOne 184 = .ok (.iconst 0, 1) := dk_3 (dk_at dksX9_coolsOne_7 20 rfl rfl)
theorem dX9_coolsOne_185 : decode cX9_coolsOne 185 = .ok (.istore 8, 2) := dk_54 8 (dk_at dksX9_coolsOne_7 21 rfl rfl)
theorem dX9_coolsOne_187 : decode cX9_coolsOne 187 = .ok (.aload_n 0, 1) := dk_42 (dk_at dksX9_coolsOne_7 23 rfl rfl)
theorem dX9_coolsOne_188 : decode cX9_coolsOne 188 = .ok (.getfield 7, 3) := dk_180 0 7 (dk_at dksX9_coolsOne_8 0 rfl rfl)
theorem dX9_coolsOne_191 : decode cX9_coolsOne 191 = .ok (.iload_n 1, 1) := dk_27 (dk_at dksX9_coolsOne_8 3 rfl rfl)
theorem dX9_coolsOne_192 : decode cX9_coolsOne 192 = .ok (.bipush 25, 2) := dk_16 25 (dk_at dksX9_coolsOne_8 4 rfl rfl)
theorem dX9_coolsOne_194 : decode cX9_coolsOne 194 = .ok (.iadd, 1) := dk_96 (dk_at dksX9_coolsOne_8 6 rfl rfl)
theorem dX9_coolsOne_195 : decode cX9_coolsOne 195 = .ok (.iload_n 2, 1) := dk_28 (dk_at dksX9_coolsOne_8 7 rfl rfl)
theorem dX9_coolsOne_196 : decode cX9_coolsOne 196 = .ok (.iadd, 1) := dk_96 (dk_at dksX9_coolsOne_8 8 rfl rfl)
theorem dX9_coolsOne_197 : decode cX9_coolsOne 197 = .ok (.dup2, 1) := dk_92 (dk_at dksX9_coolsOne_8 9 rfl rfl)
theorem dX9_coolsOne_198 : decode cX9_coolsOne 198 = .ok (.iaload, 1) := dk_46 (dk_at dksX9_coolsOne_8 10 rfl rfl)
theorem dX9_coolsOne_199 : decode cX9_coolsOne 199 = .ok (.iload 8, 2) := dk_21 8 (dk_at dksX9_coolsOne_8 11 rfl rfl)
theorem dX9_coolsOne_201 : decode cX9_coolsOne 201 = .ok (.ifCond .eq 22, 3) := dk_153 0 22 (dk_at dksX9_coolsOne_8 13 rfl rfl)
theorem dX9_coolsOne_204 : decode cX9_coolsOne 204 = .ok (.aload_n 0, 1) := dk_42 (dk_at dksX9_coolsOne_8 16 rfl rfl)
theorem dX9_coolsOne_205 : decode cX9_coolsOne 205 = .ok (.getfield 7, 3) := dk_180 0 7 (dk_at dksX9_coolsOne_8 17 rfl rfl)
theorem dX9_coolsOne_208 : decode cX9_coolsOne 208 = .ok (.iload_n 1, 1) := dk_27 (dk_at dksX9_coolsOne_8 20 rfl rfl)
theorem dX9_coolsOne_209 : decode cX9_coolsOne 209 = .ok (.bipush 25, 2) := dk_16 25 (dk_at dksX9_coolsOne_8 21 rfl rfl)
theorem dX9_coolsOne_211 : decode cX9_coolsOne 211 = .ok (.iadd, 1) := dk_96 (dk_at dksX9_coolsOne_8 23 rfl rfl)
theorem dX9_coolsOne_212 : decode cX9_coolsOne 212 = .ok (.iload_n 2, 1) := dk_28 (dk_at dksX9_coolsOne_9 0 rfl rfl)
theorem dX9_coolsOne_213 : decode cX9_coolsOne 213 = .ok (.iadd, 1) := dk_96 (dk_at dksX9_coolsOne_9 1 rfl rfl)
theorem dX9_coolsOne_214 : decode cX9_coolsOne 214 = .ok (.iaload, 1) := dk_46 (dk_at dksX9_coolsOne_9 2 rfl rfl)
theorem dX9_coolsOne_215 : decode cX9_coolsOne 215 = .ok (.iconst 1, 1) := dk_4 (dk_at dksX9_coolsOne_9 3 rfl rfl)
theorem dX9_coolsOne_216 : decode cX9_coolsOne 216 = .ok (.if_icmp .le 7, 3) := dk_164 0 7 (dk_at dksX9_coolsOne_9 4 rfl rfl)
theorem dX9_coolsOne_219 : decode cX9_coolsOne 219 = .ok (.iconst 1, 1) := dk_4 (dk_at dksX9_coolsOne_9 7 rfl rfl)
theorem dX9_coolsOne_220 : decode cX9_coolsOne 220 = .ok (.goto 4, 3) := dk_167 0 4 (dk_at dksX9_coolsOne_9 8 rfl rfl)
theorem dX9_coolsOne_223 : decode cX9_coolsOne 223 = .ok (.iconst 0, 1) := dk_3 (dk_at dksX9_coolsOne_9 11 rfl rfl)
theorem dX9_coolsOne_224 : decode cX9_coolsOne 224 = .ok (.isub, 1) := dk_100 (dk_at dksX9_coolsOne_9 12 rfl rfl)
theorem dX9_coolsOne_225 : decode cX9_coolsOne 225 = .ok (.iastore, 1) := dk_79 (dk_at dksX9_coolsOne_9 13 rfl rfl)
theorem dX9_coolsOne_226 : decode cX9_coolsOne 226 = .ok (.return_, 1) := dk_177 (dk_at dksX9_coolsOne_9 14 rfl rfl)
abbrev cX9_servedOf : ByteArray := prog_16_method_29_code
def yX9_servedOf : MethodName := ⟨RX9, "servedOf", "(I)I"⟩
def dkwX9_servedOf_2 : List UInt8 := [28, 172]
abbrev dktX9_servedOf_2 : List UInt8 := dkwX9_servedOf_2 ++ []
def dkwX9_servedOf_1 : List UInt8 := [96, 29, 96, 46, 16, 11, 160, 0, 9, 4, 29, 120, 167, 0, 4, 3, 128, 61, 132, 3, 1, 167, 255, 215]
abbrev dktX9_servedOf_1 : List UInt8 := dkwX9_servedOf_1 ++ dktX9_servedOf_2
def dkwX9_servedOf_0 : List UInt8 := [3, 61, 3, 62, 29, 42, 180, 0, 7, 27, 3, 96, 46, 162, 0, 35, 28, 42, 180, 0, 7, 27, 16, 13]
abbrev dktX9_servedOf_0 : List UInt8 := dkwX9_servedOf_0 ++ dktX9_servedOf_1
theorem dksX9_servedOf_0 : cX9_servedOf.data.toList.drop 0 = dktX9_servedOf_0 := by decide +kernel
theorem dksX9_servedOf_1 : cX9_servedOf.data.toList.drop 24 = dktX9_servedOf_1 := dk_seg dksX9_servedOf_0 24 rfl rfl
theorem dksX9_servedOf_2 : cX9_servedOf.data.toList.drop 48 = dktX9_servedOf_2 := dk_seg dksX9_servedOf_1 24 rfl rfl
theorem dX9_servedOf_0 : decode cX9_servedOf 0 = .ok (.iconst 0, 1) := dk_3 (dk_at dksX9_servedOf_0 0 rfl rfl)
theorem dX9_servedOf_1 : decode cX9_servedOf 1 = .ok (.istore_n 2, 1) := dk_61 (dk_at dksX9_servedOf_0 1 rfl rfl)
theorem dX9_servedOf_2 : decode cX9_servedOf 2 = .ok (.iconst 0, 1) := dk_3 (dk_at dksX9_servedOf_0 2 rfl rfl)
theorem dX9_servedOf_3 : decode cX9_servedOf 3 = .ok (.istore_n 3, 1) := dk_62 (dk_at dksX9_servedOf_0 3 rfl rfl)
theorem dX9_servedOf_4 : decode cX9_servedOf 4 = .ok (.iload_n 3, 1) := dk_29 (dk_at dksX9_servedOf_0 4 rfl rfl)
theorem dX9_servedOf_5 : decode cX9_servedOf 5 = .ok (.aload_n 0, 1) := dk_42 (dk_at dksX9_servedOf_0 5 rfl rfl)
theorem dX9_servedOf_6 : decode cX9_servedOf 6 = .ok (.getfield 7, 3) := dk_180 0 7 (dk_at dksX9_servedOf_0 6 rfl rfl)
theorem dX9_servedOf_9 : decode cX9_servedOf 9 = .ok (.iload_n 1, 1) := dk_27 (dk_at dksX9_servedOf_0 9 rfl rfl)
theorem dX9_servedOf_10 : decode cX9_servedOf 10 = .ok (.iconst 0, 1) := dk_3 (dk_at dksX9_servedOf_0 10 rfl rfl)
theorem dX9_servedOf_11 : decode cX9_servedOf 11 = .ok (.iadd, 1) := dk_96 (dk_at dksX9_servedOf_0 11 rfl rfl)
theorem dX9_servedOf_12 : decode cX9_servedOf 12 = .ok (.iaload, 1) := dk_46 (dk_at dksX9_servedOf_0 12 rfl rfl)
theorem dX9_servedOf_13 : decode cX9_servedOf 13 = .ok (.if_icmp .ge 35, 3) := dk_162 0 35 (dk_at dksX9_servedOf_0 13 rfl rfl)
theorem dX9_servedOf_16 : decode cX9_servedOf 16 = .ok (.iload_n 2, 1) := dk_28 (dk_at dksX9_servedOf_0 16 rfl rfl)
theorem dX9_servedOf_17 : decode cX9_servedOf 17 = .ok (.aload_n 0, 1) := dk_42 (dk_at dksX9_servedOf_0 17 rfl rfl)
theorem dX9_servedOf_18 : decode cX9_servedOf 18 = .ok (.getfield 7, 3) := dk_180 0 7 (dk_at dksX9_servedOf_0 18 rfl rfl)
theorem dX9_servedOf_21 : decode cX9_servedOf 21 = .ok (.iload_n 1, 1) := dk_27 (dk_at dksX9_servedOf_0 21 rfl rfl)
theorem dX9_servedOf_22 : decode cX9_servedOf 22 = .ok (.bipush 13, 2) := dk_16 13 (dk_at dksX9_servedOf_0 22 rfl rfl)
theorem dX9_servedOf_24 : decode cX9_servedOf 24 = .ok (.iadd, 1) := dk_96 (dk_at dksX9_servedOf_1 0 rfl rfl)
theorem dX9_servedOf_25 : decode cX9_servedOf 25 = .ok (.iload_n 3, 1) := dk_29 (dk_at dksX9_servedOf_1 1 rfl rfl)
theorem dX9_servedOf_26 : decode cX9_servedOf 26 = .ok (.iadd, 1) := dk_96 (dk_at dksX9_servedOf_1 2 rfl rfl)
theorem dX9_servedOf_27 : decode cX9_servedOf 27 = .ok (.iaload, 1) := dk_46 (dk_at dksX9_servedOf_1 3 rfl rfl)
theorem dX9_servedOf_28 : decode cX9_servedOf 28 = .ok (.bipush 11, 2) := dk_16 11 (dk_at dksX9_servedOf_1 4 rfl rfl)
theorem dX9_servedOf_30 : decode cX9_servedOf 30 = .ok (.if_icmp .ne 9, 3) := dk_160 0 9 (dk_at dksX9_servedOf_1 6 rfl rfl)
theorem dX9_servedOf_33 : decode cX9_servedOf 33 = .ok (.iconst 1, 1) := dk_4 (dk_at dksX9_servedOf_1 9 rfl rfl)
theorem dX9_servedOf_34 : decode cX9_servedOf 34 = .ok (.iload_n 3, 1) := dk_29 (dk_at dksX9_servedOf_1 10 rfl rfl)
theorem dX9_servedOf_35 : decode cX9_servedOf 35 = .ok (.ishl, 1) := dk_120 (dk_at dksX9_servedOf_1 11 rfl rfl)
theorem dX9_servedOf_36 : decode cX9_servedOf 36 = .ok (.goto 4, 3) := dk_167 0 4 (dk_at dksX9_servedOf_1 12 rfl rfl)
theorem dX9_servedOf_39 : decode cX9_servedOf 39 = .ok (.iconst 0, 1) := dk_3 (dk_at dksX9_servedOf_1 15 rfl rfl)
theorem dX9_servedOf_40 : decode cX9_servedOf 40 = .ok (.ior, 1) := dk_128 (dk_at dksX9_servedOf_1 16 rfl rfl)
theorem dX9_servedOf_41 : decode cX9_servedOf 41 = .ok (.istore_n 2, 1) := dk_61 (dk_at dksX9_servedOf_1 17 rfl rfl)
theorem dX9_servedOf_42 : decode cX9_servedOf 42 = .ok (.iinc 3 1, 3) := dk_132 3 1 (dk_at dksX9_servedOf_1 18 rfl rfl)
theorem dX9_servedOf_45 : decode cX9_servedOf 45 = .ok (.goto (-41), 3) := dk_167 255 215 (dk_at dksX9_servedOf_1 21 rfl rfl)
theorem dX9_servedOf_48 : decode cX9_servedOf 48 = .ok (.iload_n 2, 1) := dk_28 (dk_at dksX9_servedOf_2 0 rfl rfl)
theorem dX9_servedOf_49 : decode cX9_servedOf 49 = .ok (.ireturn, 1) := dk_172 (dk_at dksX9_servedOf_2 1 rfl rfl)
abbrev cX9_pull : ByteArray := prog_16_method_44_code
def yX9_pull : MethodName := ⟨RX9, "pull", "(I)I"⟩
def dkwX9_pull_1 : List UInt8 := [42, 182, 0, 167, 42, 180, 0, 7, 7, 46, 61, 42, 180, 0, 7, 7, 27, 79, 28, 172]
abbrev dktX9_pull_1 : List UInt8 := dkwX9_pull_1 ++ []
def dkwX9_pull_0 : List UInt8 := [42, 27, 182, 0, 176, 154, 0, 6, 18, 61, 172, 42, 180, 0, 7, 7, 46, 27, 160, 0, 6, 18, 161, 172]
abbrev dktX9_pull_0 : List UInt8 := dkwX9_pull_0 ++ dktX9_pull_1
theorem dksX9_pull_0 : cX9_pull.data.toList.drop 0 = dktX9_pull_0 := by decide +kernel
theorem dksX9_pull_1 : cX9_pull.data.toList.drop 24 = dktX9_pull_1 := dk_seg dksX9_pull_0 24 rfl rfl
theorem dX9_pull_0 : decode cX9_pull 0 = .ok (.aload_n 0, 1) := dk_42 (dk_at dksX9_pull_0 0 rfl rfl)
theorem dX9_pull_1 : decode cX9_pull 1 = .ok (.iload_n 1, 1) := dk_27 (dk_at dksX9_pull_0 1 rfl rfl)
theorem dX9_pull_2 : decode cX9_pull 2 = .ok (.invokevirtual 176, 3) := dk_182 0 176 (dk_at dksX9_pull_0 2 rfl rfl)
theorem dX9_pull_5 : decode cX9_pull 5 = .ok (.ifCond .ne 6, 3) := dk_154 0 6 (dk_at dksX9_pull_0 5 rfl rfl)
theorem dX9_pull_8 : decode cX9_pull 8 = .ok (.ldc 61, 2) := dk_18 61 (dk_at dksX9_pull_0 8 rfl rfl)
theorem dX9_pull_10 : decode cX9_pull 10 = .ok (.ireturn, 1) := dk_172 (dk_at dksX9_pull_0 10 rfl rfl)
theorem dX9_pull_11 : decode cX9_pull 11 = .ok (.aload_n 0, 1) := dk_42 (dk_at dksX9_pull_0 11 rfl rfl)
theorem dX9_pull_12 : decode cX9_pull 12 = .ok (.getfield 7, 3) := dk_180 0 7 (dk_at dksX9_pull_0 12 rfl rfl)
theorem dX9_pull_15 : decode cX9_pull 15 = .ok (.iconst 4, 1) := dk_7 (dk_at dksX9_pull_0 15 rfl rfl)
theorem dX9_pull_16 : decode cX9_pull 16 = .ok (.iaload, 1) := dk_46 (dk_at dksX9_pull_0 16 rfl rfl)
theorem dX9_pull_17 : decode cX9_pull 17 = .ok (.iload_n 1, 1) := dk_27 (dk_at dksX9_pull_0 17 rfl rfl)
theorem dX9_pull_18 : decode cX9_pull 18 = .ok (.if_icmp .ne 6, 3) := dk_160 0 6 (dk_at dksX9_pull_0 18 rfl rfl)
theorem dX9_pull_21 : decode cX9_pull 21 = .ok (.ldc 161, 2) := dk_18 161 (dk_at dksX9_pull_0 21 rfl rfl)
theorem dX9_pull_23 : decode cX9_pull 23 = .ok (.ireturn, 1) := dk_172 (dk_at dksX9_pull_0 23 rfl rfl)
theorem dX9_pull_24 : decode cX9_pull 24 = .ok (.aload_n 0, 1) := dk_42 (dk_at dksX9_pull_1 0 rfl rfl)
theorem dX9_pull_25 : decode cX9_pull 25 = .ok (.invokevirtual 167, 3) := dk_182 0 167 (dk_at dksX9_pull_1 1 rfl rfl)
theorem dX9_pull_28 : decode cX9_pull 28 = .ok (.aload_n 0, 1) := dk_42 (dk_at dksX9_pull_1 4 rfl rfl)
theorem dX9_pull_29 : decode cX9_pull 29 = .ok (.getfield 7, 3) := dk_180 0 7 (dk_at dksX9_pull_1 5 rfl rfl)
theorem dX9_pull_32 : decode cX9_pull 32 = .ok (.iconst 4, 1) := dk_7 (dk_at dksX9_pull_1 8 rfl rfl)
theorem dX9_pull_33 : decode cX9_pull 33 = .ok (.iaload, 1) := dk_46 (dk_at dksX9_pull_1 9 rfl rfl)
theorem dX9_pull_34 : decode cX9_pull 34 = .ok (.istore_n 2, 1) := dk_61 (dk_at dksX9_pull_1 10 rfl rfl)
theorem dX9_pull_35 : decode cX9_pull 35 = .ok (.aload_n 0, 1) := dk_42 (dk_at dksX9_pull_1 11 rfl rfl)
theorem dX9_pull_36 : decode cX9_pull 36 = .ok (.getfield 7, 3) := dk_180 0 7 (dk_at dksX9_pull_1 12 rfl rfl)
theorem dX9_pull_39 : decode cX9_pull 39 = .ok (.iconst 4, 1) := dk_7 (dk_at dksX9_pull_1 15 rfl rfl)
theorem dX9_pull_40 : decode cX9_pull 40 = .ok (.iload_n 1, 1) := dk_27 (dk_at dksX9_pull_1 16 rfl rfl)
theorem dX9_pull_41 : decode cX9_pull 41 = .ok (.iastore, 1) := dk_79 (dk_at dksX9_pull_1 17 rfl rfl)
theorem dX9_pull_42 : decode cX9_pull 42 = .ok (.iload_n 2, 1) := dk_28 (dk_at dksX9_pull_1 18 rfl rfl)
theorem dX9_pull_43 : decode cX9_pull 43 = .ok (.ireturn, 1) := dk_172 (dk_at dksX9_pull_1 19 rfl rfl)
abbrev cX9_isFloor : ByteArray := prog_16_method_8_code
def yX9_isFloor : MethodName := ⟨RX9, "isFloor", "(I)Z"⟩
def dkwX9_isFloor_0 : List UInt8 := [27, 133, 9, 42, 180, 0, 7, 4, 46, 4, 100, 133, 184, 0, 44, 172]
abbrev dktX9_isFloor_0 : List UInt8 := dkwX9_isFloor_0 ++ []
theorem dksX9_isFloor_0 : cX9_isFloor.data.toList.drop 0 = dktX9_isFloor_0 := by decide +kernel
theorem dX9_isFloor_0 : decode cX9_isFloor 0 = .ok (.iload_n 1, 1) := dk_27 (dk_at dksX9_isFloor_0 0 rfl rfl)
theorem dX9_isFloor_1 : decode cX9_isFloor 1 = .ok (.i2l, 1) := dk_133 (dk_at dksX9_isFloor_0 1 rfl rfl)
theorem dX9_isFloor_2 : decode cX9_isFloor 2 = .ok (.lconst 0, 1) := dk_9 (dk_at dksX9_isFloor_0 2 rfl rfl)
theorem dX9_isFloor_3 : decode cX9_isFloor 3 = .ok (.aload_n 0, 1) := dk_42 (dk_at dksX9_isFloor_0 3 rfl rfl)
theorem dX9_isFloor_4 : decode cX9_isFloor 4 = .ok (.getfield 7, 3) := dk_180 0 7 (dk_at dksX9_isFloor_0 4 rfl rfl)
theorem dX9_isFloor_7 : decode cX9_isFloor 7 = .ok (.iconst 1, 1) := dk_4 (dk_at dksX9_isFloor_0 7 rfl rfl)
theorem dX9_isFloor_8 : decode cX9_isFloor 8 = .ok (.iaload, 1) := dk_46 (dk_at dksX9_isFloor_0 8 rfl rfl)
theorem dX9_isFloor_9 : decode cX9_isFloor 9 = .ok (.iconst 1, 1) := dk_4 (dk_at dksX9_isFloor_0 9 rfl rfl)
theorem dX9_isFloor_10 : decode cX9_isFloor 10 = .ok (.isub, 1) := dk_100 (dk_at dksX9_isFloor_0 10 rfl rfl)
theorem dX9_isFloor_11 : decode cX9_isFloor 11 = .ok (.i2l, 1) := dk_133 (dk_at dksX9_isFloor_0 11 rfl rfl)
theorem dX9_isFloor_12 : decode cX9_isFloor 12 = .ok (.invokestatic 44, 3) := dk_184 0 44 (dk_at dksX9_isFloor_0 12 rfl rfl)
theorem dX9_isFloor_15 : decode cX9_isFloor 15 = .ok (.ireturn, 1) := dk_172 (dk_at dksX9_isFloor_0 15 rfl rfl)
abbrev cX9_rope : ByteArray := prog_16_method_45_code
def yX9_rope : MethodName := ⟨RX9, "rope", "(I)I"⟩
def dkwX9_rope_1 : List UInt8 := [172, 42, 182, 0, 167, 42, 180, 0, 7, 6, 46, 61, 42, 180, 0, 7, 6, 27, 79, 28, 172]
abbrev dktX9_rope_1 : List UInt8 := dkwX9_rope_1 ++ []
def dkwX9_rope_0 : List UInt8 := [42, 182, 0, 162, 154, 0, 6, 18, 161, 172, 27, 133, 10, 20, 0, 179, 184, 0, 44, 154, 0, 6, 18, 61]
abbrev dktX9_rope_0 : List UInt8 := dkwX9_rope_0 ++ dktX9_rope_1
theorem dksX9_rope_0 : cX9_rope.data.toList.drop 0 = dktX9_rope_0 := by decide +kernel
theorem dksX9_rope_1 : cX9_rope.data.toList.drop 24 = dktX9_rope_1 := dk_seg dksX9_rope_0 24 rfl rfl
theorem dX9_rope_0 : decode cX9_rope 0 = .ok (.aload_n 0, 1) := dk_42 (dk_at dksX9_rope_0 0 rfl rfl)
theorem dX9_rope_1 : decode cX9_rope 1 = .ok (.invokevirtual 162, 3) := dk_182 0 162 (dk_at dksX9_rope_0 1 rfl rfl)
theorem dX9_rope_4 : decode cX9_rope 4 = .ok (.ifCond .ne 6, 3) := dk_154 0 6 (dk_at dksX9_rope_0 4 rfl rfl)
theorem dX9_rope_7 : decode cX9_rope 7 = .ok (.ldc 161, 2) := dk_18 161 (dk_at dksX9_rope_0 7 rfl rfl)
theorem dX9_rope_9 : decode cX9_rope 9 = .ok (.ireturn, 1) := dk_172 (dk_at dksX9_rope_0 9 rfl rfl)
theorem dX9_rope_10 : decode cX9_rope 10 = .ok (.iload_n 1, 1) := dk_27 (dk_at dksX9_rope_0 10 rfl rfl)
theorem dX9_rope_11 : decode cX9_rope 11 = .ok (.i2l, 1) := dk_133 (dk_at dksX9_rope_0 11 rfl rfl)
theorem dX9_rope_12 : decode cX9_rope 12 = .ok (.lconst 1, 1) := dk_10 (dk_at dksX9_rope_0 12 rfl rfl)
theorem dX9_rope_13 : decode cX9_rope 13 = .ok (.ldc2_w 179, 3) := dk_20 0 179 (dk_at dksX9_rope_0 13 rfl rfl)
theorem dX9_rope_16 : decode cX9_rope 16 = .ok (.invokestatic 44, 3) := dk_184 0 44 (dk_at dksX9_rope_0 16 rfl rfl)
theorem dX9_rope_19 : decode cX9_rope 19 = .ok (.ifCond .ne 6, 3) := dk_154 0 6 (dk_at dksX9_rope_0 19 rfl rfl)
theorem dX9_rope_22 : decode cX9_rope 22 = .ok (.ldc 61, 2) := dk_18 61 (dk_at dksX9_rope_0 22 rfl rfl)
theorem dX9_rope_24 : decode cX9_rope 24 = .ok (.ireturn, 1) := dk_172 (dk_at dksX9_rope_1 0 rfl rfl)
theorem dX9_rope_25 : decode cX9_rope 25 = .ok (.aload_n 0, 1) := dk_42 (dk_at dksX9_rope_1 1 rfl rfl)
theorem dX9_rope_26 : decode cX9_rope 26 = .ok (.invokevirtual 167, 3) := dk_182 0 167 (dk_at dksX9_rope_1 2 rfl rfl)
theorem dX9_rope_29 : decode cX9_rope 29 = .ok (.aload_n 0, 1) := dk_42 (dk_at dksX9_rope_1 5 rfl rfl)
theorem dX9_rope_30 : decode cX9_rope 30 = .ok (.getfield 7, 3) := dk_180 0 7 (dk_at dksX9_rope_1 6 rfl rfl)
theorem dX9_rope_33 : decode cX9_rope 33 = .ok (.iconst 3, 1) := dk_6 (dk_at dksX9_rope_1 9 rfl rfl)
theorem dX9_rope_34 : decode cX9_rope 34 = .ok (.iaload, 1) := dk_46 (dk_at dksX9_rope_1 10 rfl rfl)
theorem dX9_rope_35 : decode cX9_rope 35 = .ok (.istore_n 2, 1) := dk_61 (dk_at dksX9_rope_1 11 rfl rfl)
theorem dX9_rope_36 : decode cX9_rope 36 = .ok (.aload_n 0, 1) := dk_42 (dk_at dksX9_rope_1 12 rfl rfl)
theorem dX9_rope_37 : decode cX9_rope 37 = .ok (.getfield 7, 3) := dk_180 0 7 (dk_at dksX9_rope_1 13 rfl rfl)
theorem dX9_rope_40 : decode cX9_rope 40 = .ok (.iconst 3, 1) := dk_6 (dk_at dksX9_rope_1 16 rfl rfl)
theorem dX9_rope_41 : decode cX9_rope 41 = .ok (.iload_n 1, 1) := dk_27 (dk_at dksX9_rope_1 17 rfl rfl)
theorem dX9_rope_42 : decode cX9_rope 42 = .ok (.iastore, 1) := dk_79 (dk_at dksX9_rope_1 18 rfl rfl)
theorem dX9_rope_43 : decode cX9_rope 43 = .ok (.iload_n 2, 1) := dk_28 (dk_at dksX9_rope_1 19 rfl rfl)
theorem dX9_rope_44 : decode cX9_rope 44 = .ok (.ireturn, 1) := dk_172 (dk_at dksX9_rope_1 20 rfl rfl)
abbrev cX9_room : ByteArray := prog_16_method_46_code
def yX9_room : MethodName := ⟨RX9, "room", "(I)I"⟩
def dkwX9_room_1 : List UInt8 := [172, 42, 182, 0, 167, 42, 180, 0, 7, 5, 46, 61, 42, 180, 0, 7, 5, 27, 79, 28, 172]
abbrev dktX9_room_1 : List UInt8 := dkwX9_room_1 ++ []
def dkwX9_room_0 : List UInt8 := [42, 182, 0, 162, 154, 0, 6, 18, 161, 172, 27, 133, 10, 20, 0, 181, 184, 0, 44, 154, 0, 6, 18, 61]
abbrev dktX9_room_0 : List UInt8 := dkwX9_room_0 ++ dktX9_room_1
theorem dksX9_room_0 : cX9_room.data.toList.drop 0 = dktX9_room_0 := by decide +kernel
theorem dksX9_room_1 : cX9_room.data.toList.drop 24 = dktX9_room_1 := dk_seg dksX9_room_0 24 rfl rfl
theorem dX9_room_0 : decode cX9_room 0 = .ok (.aload_n 0, 1) := dk_42 (dk_at dksX9_room_0 0 rfl rfl)
theorem dX9_room_1 : decode cX9_room 1 = .ok (.invokevirtual 162, 3) := dk_182 0 162 (dk_at dksX9_room_0 1 rfl rfl)
theorem dX9_room_4 : decode cX9_room 4 = .ok (.ifCond .ne 6, 3) := dk_154 0 6 (dk_at dksX9_room_0 4 rfl rfl)
theorem dX9_room_7 : decode cX9_room 7 = .ok (.ldc 161, 2) := dk_18 161 (dk_at dksX9_room_0 7 rfl rfl)
theorem dX9_room_9 : decode cX9_room 9 = .ok (.ireturn, 1) := dk_172 (dk_at dksX9_room_0 9 rfl rfl)
theorem dX9_room_10 : decode cX9_room 10 = .ok (.iload_n 1, 1) := dk_27 (dk_at dksX9_room_0 10 rfl rfl)
theorem dX9_room_11 : decode cX9_room 11 = .ok (.i2l, 1) := dk_133 (dk_at dksX9_room_0 11 rfl rfl)
theorem dX9_room_12 : decode cX9_room 12 = .ok (.lconst 1, 1) := dk_10 (dk_at dksX9_room_0 12 rfl rfl)
theorem dX9_room_13 : decode cX9_room 13 = .ok (.ldc2_w 181, 3) := dk_20 0 181 (dk_at dksX9_room_0 13 rfl rfl)
theorem dX9_room_16 : decode cX9_room 16 = .ok (.invokestatic 44, 3) := dk_184 0 44 (dk_at dksX9_room_0 16 rfl rfl)
theorem dX9_room_19 : decode cX9_room 19 = .ok (.ifCond .ne 6, 3) := dk_154 0 6 (dk_at dksX9_room_0 19 rfl rfl)
theorem dX9_room_22 : decode cX9_room 22 = .ok (.ldc 61, 2) := dk_18 61 (dk_at dksX9_room_0 22 rfl rfl)
theorem dX9_room_24 : decode cX9_room 24 = .ok (.ireturn, 1) := dk_172 (dk_at dksX9_room_1 0 rfl rfl)
theorem dX9_room_25 : decode cX9_room 25 = .ok (.aload_n 0, 1) := dk_42 (dk_at dksX9_room_1 1 rfl rfl)
theorem dX9_room_26 : decode cX9_room 26 = .ok (.invokevirtual 167, 3) := dk_182 0 167 (dk_at dksX9_room_1 2 rfl rfl)
theorem dX9_room_29 : decode cX9_room 29 = .ok (.aload_n 0, 1) := dk_42 (dk_at dksX9_room_1 5 rfl rfl)
theorem dX9_room_30 : decode cX9_room 30 = .ok (.getfield 7, 3) := dk_180 0 7 (dk_at dksX9_room_1 6 rfl rfl)
theorem dX9_room_33 : decode cX9_room 33 = .ok (.iconst 2, 1) := dk_5 (dk_at dksX9_room_1 9 rfl rfl)
theorem dX9_room_34 : decode cX9_room 34 = .ok (.iaload, 1) := dk_46 (dk_at dksX9_room_1 10 rfl rfl)
theorem dX9_room_35 : decode cX9_room 35 = .ok (.istore_n 2, 1) := dk_61 (dk_at dksX9_room_1 11 rfl rfl)
theorem dX9_room_36 : decode cX9_room 36 = .ok (.aload_n 0, 1) := dk_42 (dk_at dksX9_room_1 12 rfl rfl)
theorem dX9_room_37 : decode cX9_room 37 = .ok (.getfield 7, 3) := dk_180 0 7 (dk_at dksX9_room_1 13 rfl rfl)
theorem dX9_room_40 : decode cX9_room 40 = .ok (.iconst 2, 1) := dk_5 (dk_at dksX9_room_1 16 rfl rfl)
theorem dX9_room_41 : decode cX9_room 41 = .ok (.iload_n 1, 1) := dk_27 (dk_at dksX9_room_1 17 rfl rfl)
theorem dX9_room_42 : decode cX9_room 42 = .ok (.iastore, 1) := dk_79 (dk_at dksX9_room_1 18 rfl rfl)
theorem dX9_room_43 : decode cX9_room 43 = .ok (.iload_n 2, 1) := dk_28 (dk_at dksX9_room_1 19 rfl rfl)
theorem dX9_room_44 : decode cX9_room 44 = .ok (.ireturn, 1) := dk_172 (dk_at dksX9_room_1 20 rfl rfl)
abbrev cX9_send : ByteArray := prog_16_method_48_code
def yX9_send : MethodName := ⟨RX9, "send", "(III)I"⟩
def dkwX9_send_3 : List UInt8 := [182, 0, 188, 42, 3, 182, 0, 173, 172]
abbrev dktX9_send_3 : List UInt8 := dkwX9_send_3 ++ []
def dkwX9_send_2 : List UInt8 := [180, 0, 7, 16, 19, 27, 96, 46, 28, 160, 0, 6, 18, 161, 172, 42, 182, 0, 167, 42, 3, 27, 28, 29]
abbrev dktX9_send_2 : List UInt8 := dkwX9_send_2 ++ dktX9_send_3
def dkwX9_send_1 : List UInt8 := [184, 0, 44, 154, 0, 6, 18, 61, 172, 42, 180, 0, 7, 16, 13, 27, 96, 46, 16, 11, 160, 0, 16, 42]
abbrev dktX9_send_1 : List UInt8 := dkwX9_send_1 ++ dktX9_send_2
def dkwX9_send_0 : List UInt8 := [42, 27, 182, 0, 183, 153, 0, 23, 42, 28, 182, 0, 176, 153, 0, 15, 29, 133, 9, 20, 0, 186]
abbrev dktX9_send_0 : List UInt8 := dkwX9_send_0 ++ dktX9_send_1
theorem dksX9_send_0 : cX9_send.data.toList.drop 0 = dktX9_send_0 := by decide +kernel
theorem dksX9_send_1 : cX9_send.data.toList.drop 22 = dktX9_send_1 := dk_seg dksX9_send_0 22 rfl rfl
theorem dksX9_send_2 : cX9_send.data.toList.drop 46 = dktX9_send_2 := dk_seg dksX9_send_1 24 rfl rfl
theorem dksX9_send_3 : cX9_send.data.toList.drop 70 = dktX9_send_3 := dk_seg dksX9_send_2 24 rfl rfl
theorem dX9_send_0 : decode cX9_send 0 = .ok (.aload_n 0, 1) := dk_42 (dk_at dksX9_send_0 0 rfl rfl)
theorem dX9_send_1 : decode cX9_send 1 = .ok (.iload_n 1, 1) := dk_27 (dk_at dksX9_send_0 1 rfl rfl)
theorem dX9_send_2 : decode cX9_send 2 = .ok (.invokevirtual 183, 3) := dk_182 0 183 (dk_at dksX9_send_0 2 rfl rfl)
theorem dX9_send_5 : decode cX9_send 5 = .ok (.ifCond .eq 23, 3) := dk_153 0 23 (dk_at dksX9_send_0 5 rfl rfl)
theorem dX9_send_8 : decode cX9_send 8 = .ok (.aload_n 0, 1) := dk_42 (dk_at dksX9_send_0 8 rfl rfl)
theorem dX9_send_9 : decode cX9_send 9 = .ok (.iload_n 2, 1) := dk_28 (dk_at dksX9_send_0 9 rfl rfl)
theorem dX9_send_10 : decode cX9_send 10 = .ok (.invokevirtual 176, 3) := dk_182 0 176 (dk_at dksX9_send_0 10 rfl rfl)
theorem dX9_send_13 : decode cX9_send 13 = .ok (.ifCond .eq 15, 3) := dk_153 0 15 (dk_at dksX9_send_0 13 rfl rfl)
theorem dX9_send_16 : decode cX9_send 16 = .ok (.iload_n 3, 1) := dk_29 (dk_at dksX9_send_0 16 rfl rfl)
theorem dX9_send_17 : decode cX9_send 17 = .ok (.i2l, 1) := dk_133 (dk_at dksX9_send_0 17 rfl rfl)
theorem dX9_send_18 : decode cX9_send 18 = .ok (.lconst 0, 1) := dk_9 (dk_at dksX9_send_0 18 rfl rfl)
theorem dX9_send_19 : decode cX9_send 19 = .ok (.ldc2_w 186, 3) := dk_20 0 186 (dk_at dksX9_send_0 19 rfl rfl)
theorem dX9_send_22 : decode cX9_send 22 = .ok (.invokestatic 44, 3) := dk_184 0 44 (dk_at dksX9_send_1 0 rfl rfl)
theorem dX9_send_25 : decode cX9_send 25 = .ok (.ifCond .ne 6, 3) := dk_154 0 6 (dk_at dksX9_send_1 3 rfl rfl)
theorem dX9_send_28 : decode cX9_send 28 = .ok (.ldc 61, 2) := dk_18 61 (dk_at dksX9_send_1 6 rfl rfl)
theorem dX9_send_30 : decode cX9_send 30 = .ok (.ireturn, 1) := dk_172 (dk_at dksX9_send_1 8 rfl rfl)
theorem dX9_send_31 : decode cX9_send 31 = .ok (.aload_n 0, 1) := dk_42 (dk_at dksX9_send_1 9 rfl rfl)
theorem dX9_send_32 : decode cX9_send 32 = .ok (.getfield 7, 3) := dk_180 0 7 (dk_at dksX9_send_1 10 rfl rfl)
theorem dX9_send_35 : decode cX9_send 35 = .ok (.bipush 13, 2) := dk_16 13 (dk_at dksX9_send_1 13 rfl rfl)
theorem dX9_send_37 : decode cX9_send 37 = .ok (.iload_n 1, 1) := dk_27 (dk_at dksX9_send_1 15 rfl rfl)
theorem dX9_send_38 : decode cX9_send 38 = .ok (.iadd, 1) := dk_96 (dk_at dksX9_send_1 16 rfl rfl)
theorem dX9_send_39 : decode cX9_send 39 = .ok (.iaload, 1) := dk_46 (dk_at dksX9_send_1 17 rfl rfl)
theorem dX9_send_40 : decode cX9_send 40 = .ok (.bipush 11, 2) := dk_16 11 (dk_at dksX9_send_1 18 rfl rfl)
theorem dX9_send_42 : decode cX9_send 42 = .ok (.if_icmp .ne 16, 3) := dk_160 0 16 (dk_at dksX9_send_1 20 rfl rfl)
theorem dX9_send_45 : decode cX9_send 45 = .ok (.aload_n 0, 1) := dk_42 (dk_at dksX9_send_1 23 rfl rfl)
theorem dX9_send_46 : decode cX9_send 46 = .ok (.getfield 7, 3) := dk_180 0 7 (dk_at dksX9_send_2 0 rfl rfl)
theorem dX9_send_49 : decode cX9_send 49 = .ok (.bipush 19, 2) := dk_16 19 (dk_at dksX9_send_2 3 rfl rfl)
theorem dX9_send_51 : decode cX9_send 51 = .ok (.iload_n 1, 1) := dk_27 (dk_at dksX9_send_2 5 rfl rfl)
theorem dX9_send_52 : decode cX9_send 52 = .ok (.iadd, 1) := dk_96 (dk_at dksX9_send_2 6 rfl rfl)
theorem dX9_send_53 : decode cX9_send 53 = .ok (.iaload, 1) := dk_46 (dk_at dksX9_send_2 7 rfl rfl)
theorem dX9_send_54 : decode cX9_send 54 = .ok (.iload_n 2, 1) := dk_28 (dk_at dksX9_send_2 8 rfl rfl)
theorem dX9_send_55 : decode cX9_send 55 = .ok (.if_icmp .ne 6, 3) := dk_160 0 6 (dk_at dksX9_send_2 9 rfl rfl)
theorem dX9_send_58 : decode cX9_send 58 = .ok (.ldc 161, 2) := dk_18 161 (dk_at dksX9_send_2 12 rfl rfl)
theorem dX9_send_60 : decode cX9_send 60 = .ok (.ireturn, 1) := dk_172 (dk_at dksX9_send_2 14 rfl rfl)
theorem dX9_send_61 : decode cX9_send 61 = .ok (.aload_n 0, 1) := dk_42 (dk_at dksX9_send_2 15 rfl rfl)
theorem dX9_send_62 : decode cX9_send 62 = .ok (.invokevirtual 167, 3) := dk_182 0 167 (dk_at dksX9_send_2 16 rfl rfl)
theorem dX9_send_65 : decode cX9_send 65 = .ok (.aload_n 0, 1) := dk_42 (dk_at dksX9_send_2 19 rfl rfl)
theorem dX9_send_66 : decode cX9_send 66 = .ok (.iconst 0, 1) := dk_3 (dk_at dksX9_send_2 20 rfl rfl)
theorem dX9_send_67 : decode cX9_send 67 = .ok (.iload_n 1, 1) := dk_27 (dk_at dksX9_send_2 21 rfl rfl)
theorem dX9_send_68 : decode cX9_send 68 = .ok (.iload_n 2, 1) := dk_28 (dk_at dksX9_send_2 22 rfl rfl)
theorem dX9_send_69 : decode cX9_send 69 = .ok (.iload_n 3, 1) := dk_29 (dk_at dksX9_send_2 23 rfl rfl)
theorem dX9_send_70 : decode cX9_send 70 = .ok (.invokevirtual 188, 3) := dk_182 0 188 (dk_at dksX9_send_3 0 rfl rfl)
theorem dX9_send_73 : decode cX9_send 73 = .ok (.aload_n 0, 1) := dk_42 (dk_at dksX9_send_3 3 rfl rfl)
theorem dX9_send_74 : decode cX9_send 74 = .ok (.iconst 0, 1) := dk_3 (dk_at dksX9_send_3 4 rfl rfl)
theorem dX9_send_75 : decode cX9_send 75 = .ok (.invokevirtual 173, 3) := dk_182 0 173 (dk_at dksX9_send_3 5 rfl rfl)
theorem dX9_send_78 : decode cX9_send 78 = .ok (.ireturn, 1) := dk_172 (dk_at dksX9_send_3 8 rfl rfl)
abbrev cX9_isDish : ByteArray := prog_16_method_7_code
def yX9_isDish : MethodName := ⟨RX9, "isDish", "(I)Z"⟩
def dkwX9_isDish_0 : List UInt8 := [27, 133, 9, 42, 180, 0, 7, 3, 46, 4, 100, 133, 184, 0, 44, 172]
abbrev dktX9_isDish_0 : List UInt8 := dkwX9_isDish_0 ++ []
theorem dksX9_isDish_0 : cX9_isDish.data.toList.drop 0 = dktX9_isDish_0 := by decide +kernel
theorem dX9_isDish_0 : decode cX9_isDish 0 = .ok (.iload_n 1, 1) := dk_27 (dk_at dksX9_isDish_0 0 rfl rfl)
theorem dX9_isDish_1 : decode cX9_isDish 1 = .ok (.i2l, 1) := dk_133 (dk_at dksX9_isDish_0 1 rfl rfl)
theorem dX9_isDish_2 : decode cX9_isDish 2 = .ok (.lconst 0, 1) := dk_9 (dk_at dksX9_isDish_0 2 rfl rfl)
theorem dX9_isDish_3 : decode cX9_isDish 3 = .ok (.aload_n 0, 1) := dk_42 (dk_at dksX9_isDish_0 3 rfl rfl)
theorem dX9_isDish_4 : decode cX9_isDish 4 = .ok (.getfield 7, 3) := dk_180 0 7 (dk_at dksX9_isDish_0 4 rfl rfl)
theorem dX9_isDish_7 : decode cX9_isDish 7 = .ok (.iconst 0, 1) := dk_3 (dk_at dksX9_isDish_0 7 rfl rfl)
theorem dX9_isDish_8 : decode cX9_isDish 8 = .ok (.iaload, 1) := dk_46 (dk_at dksX9_isDish_0 8 rfl rfl)
theorem dX9_isDish_9 : decode cX9_isDish 9 = .ok (.iconst 1, 1) := dk_4 (dk_at dksX9_isDish_0 9 rfl rfl)
theorem dX9_isDish_10 : decode cX9_isDish 10 = .ok (.isub, 1) := dk_100 (dk_at dksX9_isDish_0 10 rfl rfl)
theorem dX9_isDish_11 : decode cX9_isDish 11 = .ok (.i2l, 1) := dk_133 (dk_at dksX9_isDish_0 11 rfl rfl)
theorem dX9_isDish_12 : decode cX9_isDish 12 = .ok (.invokestatic 44, 3) := dk_184 0 44 (dk_at dksX9_isDish_0 12 rfl rfl)
theorem dX9_isDish_15 : decode cX9_isDish 15 = .ok (.ireturn, 1) := dk_172 (dk_at dksX9_isDish_0 15 rfl rfl)
abbrev cX9_sendsBack : ByteArray := prog_16_method_47_code
def yX9_sendsBack : MethodName := ⟨RX9, "sendsBack", "(IIII)V"⟩
def dkwX9_sendsBack_2 : List UInt8 := [177]
abbrev dktX9_sendsBack_2 : List UInt8 := dkwX9_sendsBack_2 ++ []
def dkwX9_sendsBack_1 : List UInt8 := [180, 0, 7, 27, 16, 19, 96, 28, 96, 29, 79, 42, 180, 0, 7, 27, 16, 31, 96, 28, 96, 21, 4, 79]
abbrev dktX9_sendsBack_1 : List UInt8 := dkwX9_sendsBack_1 ++ dktX9_sendsBack_2
def dkwX9_sendsBack_0 : List UInt8 := [42, 180, 0, 7, 27, 16, 13, 96, 28, 96, 42, 180, 0, 7, 27, 16, 19, 96, 28, 96, 46, 79, 42]
abbrev dktX9_sendsBack_0 : List UInt8 := dkwX9_sendsBack_0 ++ dktX9_sendsBack_1
theorem dksX9_sendsBack_0 : cX9_sendsBack.data.toList.drop 0 = dktX9_sendsBack_0 := by decide +kernel
theorem dksX9_sendsBack_1 : cX9_sendsBack.data.toList.drop 23 = dktX9_sendsBack_1 := dk_seg dksX9_sendsBack_0 23 rfl rfl
theorem dksX9_sendsBack_2 : cX9_sendsBack.data.toList.drop 47 = dktX9_sendsBack_2 := dk_seg dksX9_sendsBack_1 24 rfl rfl
theorem dX9_sendsBack_0 : decode cX9_sendsBack 0 = .ok (.aload_n 0, 1) := dk_42 (dk_at dksX9_sendsBack_0 0 rfl rfl)
theorem dX9_sendsBack_1 : decode cX9_sendsBack 1 = .ok (.getfield 7, 3) := dk_180 0 7 (dk_at dksX9_sendsBack_0 1 rfl rfl)
theorem dX9_sendsBack_4 : decode cX9_sendsBack 4 = .ok (.iload_n 1, 1) := dk_27 (dk_at dksX9_sendsBack_0 4 rfl rfl)
theorem dX9_sendsBack_5 : decode cX9_sendsBack 5 = .ok (.bipush 13, 2) := dk_16 13 (dk_at dksX9_sendsBack_0 5 rfl rfl)
theorem dX9_sendsBack_7 : decode cX9_sendsBack 7 = .ok (.iadd, 1) := dk_96 (dk_at dksX9_sendsBack_0 7 rfl rfl)
theorem dX9_sendsBack_8 : decode cX9_sendsBack 8 = .ok (.iload_n 2, 1) := dk_28 (dk_at dksX9_sendsBack_0 8 rfl rfl)
theorem dX9_sendsBack_9 : decode cX9_sendsBack 9 = .ok (.iadd, 1) := dk_96 (dk_at dksX9_sendsBack_0 9 rfl rfl)
theorem dX9_sendsBack_10 : decode cX9_sendsBack 10 = .ok (.aload_n 0, 1) := dk_42 (dk_at dksX9_sendsBack_0 10 rfl rfl)
theorem dX9_sendsBack_11 : decode cX9_sendsBack 11 = .ok (.getfield 7, 3) := dk_180 0 7 (dk_at dksX9_sendsBack_0 11 rfl rfl)
theorem dX9_sendsBack_14 : decode cX9_sendsBack 14 = .ok (.iload_n 1, 1) := dk_27 (dk_at dksX9_sendsBack_0 14 rfl rfl)
theorem dX9_sendsBack_15 : decode cX9_sendsBack 15 = .ok (.bipush 19, 2) := dk_16 19 (dk_at dksX9_sendsBack_0 15 rfl rfl)
theorem dX9_sendsBack_17 : decode cX9_sendsBack 17 = .ok (.iadd, 1) := dk_96 (dk_at dksX9_sendsBack_0 17 rfl rfl)
theorem dX9_sendsBack_18 : decode cX9_sendsBack 18 = .ok (.iload_n 2, 1) := dk_28 (dk_at dksX9_sendsBack_0 18 rfl rfl)
theorem dX9_sendsBack_19 : decode cX9_sendsBack 19 = .ok (.iadd, 1) := dk_96 (dk_at dksX9_sendsBack_0 19 rfl rfl)
theorem dX9_sendsBack_20 : decode cX9_sendsBack 20 = .ok (.iaload, 1) := dk_46 (dk_at dksX9_sendsBack_0 20 rfl rfl)
theorem dX9_sendsBack_21 : decode cX9_sendsBack 21 = .ok (.iastore, 1) := dk_79 (dk_at dksX9_sendsBack_0 21 rfl rfl)
theorem dX9_sendsBack_22 : decode cX9_sendsBack 22 = .ok (.aload_n 0, 1) := dk_42 (dk_at dksX9_sendsBack_0 22 rfl rfl)
theorem dX9_sendsBack_23 : decode cX9_sendsBack 23 = .ok (.getfield 7, 3) := dk_180 0 7 (dk_at dksX9_sendsBack_1 0 rfl rfl)
theorem dX9_sendsBack_26 : decode cX9_sendsBack 26 = .ok (.iload_n 1, 1) := dk_27 (dk_at dksX9_sendsBack_1 3 rfl rfl)
theorem dX9_sendsBack_27 : decode cX9_sendsBack 27 = .ok (.bipush 19, 2) := dk_16 19 (dk_at dksX9_sendsBack_1 4 rfl rfl)
theorem dX9_sendsBack_29 : decode cX9_sendsBack 29 = .ok (.iadd, 1) := dk_96 (dk_at dksX9_sendsBack_1 6 rfl rfl)
theorem dX9_sendsBack_30 : decode cX9_sendsBack 30 = .ok (.iload_n 2, 1) := dk_28 (dk_at dksX9_sendsBack_1 7 rfl rfl)
theorem dX9_sendsBack_31 : decode cX9_sendsBack 31 = .ok (.iadd, 1) := dk_96 (dk_at dksX9_sendsBack_1 8 rfl rfl)
theorem dX9_sendsBack_32 : decode cX9_sendsBack 32 = .ok (.iload_n 3, 1) := dk_29 (dk_at dksX9_sendsBack_1 9 rfl rfl)
theorem dX9_sendsBack_33 : decode cX9_sendsBack 33 = .ok (.iastore, 1) := dk_79 (dk_at dksX9_sendsBack_1 10 rfl rfl)
theorem dX9_sendsBack_34 : decode cX9_sendsBack 34 = .ok (.aload_n 0, 1) := dk_42 (dk_at dksX9_sendsBack_1 11 rfl rfl)
theorem dX9_sendsBack_35 : decode cX9_sendsBack 35 = .ok (.getfield 7, 3) := dk_180 0 7 (dk_at dksX9_sendsBack_1 12 rfl rfl)
theorem dX9_sendsBack_38 : decode cX9_sendsBack 38 = .ok (.iload_n 1, 1) := dk_27 (dk_at dksX9_sendsBack_1 15 rfl rfl)
theorem dX9_sendsBack_39 : decode cX9_sendsBack 39 = .ok (.bipush 31, 2) := dk_16 31 (dk_at dksX9_sendsBack_1 16 rfl rfl)
theorem dX9_sendsBack_41 : decode cX9_sendsBack 41 = .ok (.iadd, 1) := dk_96 (dk_at dksX9_sendsBack_1 18 rfl rfl)
theorem dX9_sendsBack_42 : decode cX9_sendsBack 42 = .ok (.iload_n 2, 1) := dk_28 (dk_at dksX9_sendsBack_1 19 rfl rfl)
theorem dX9_sendsBack_43 : decode cX9_sendsBack 43 = .ok (.iadd, 1) := dk_96 (dk_at dksX9_sendsBack_1 20 rfl rfl)
theorem dX9_sendsBack_44 : decode cX9_sendsBack 44 = .ok (.iload 4, 2) := dk_21 4 (dk_at dksX9_sendsBack_1 21 rfl rfl)
theorem dX9_sendsBack_46 : decode cX9_sendsBack 46 = .ok (.iastore, 1) := dk_79 (dk_at dksX9_sendsBack_1 23 rfl rfl)
theorem dX9_sendsBack_47 : decode cX9_sendsBack 47 = .ok (.return_, 1) := dk_177 (dk_at dksX9_sendsBack_2 0 rfl rfl)
abbrev cX9_dish : ByteArray := prog_16_method_49_code
def yX9_dish : MethodName := ⟨RX9, "dish", "(II)I"⟩
def dkwX9_dish_5 : List UInt8 := [172]
abbrev dktX9_dish_5 : List UInt8 := dkwX9_dish_5 ++ []
def dkwX9_dish_4 : List UInt8 := [46, 42, 180, 0, 7, 16, 31, 27, 96, 46, 184, 0, 158, 153, 0, 7, 4, 167, 0, 4, 3, 172, 18, 61]
abbrev dktX9_dish_4 : List UInt8 := dkwX9_dish_4 ++ dktX9_dish_5
def dkwX9_dish_3 : List UInt8 := [16, 25, 27, 96, 46, 172, 42, 180, 0, 7, 16, 31, 27, 96, 46, 172, 42, 180, 0, 7, 16, 7, 27, 96]
abbrev dktX9_dish_3 : List UInt8 := dkwX9_dish_3 ++ dktX9_dish_4
def dkwX9_dish_2 : List UInt8 := [42, 180, 0, 7, 16, 13, 27, 96, 46, 172, 42, 180, 0, 7, 16, 19, 27, 96, 46, 172, 42, 180, 0, 7]
abbrev dktX9_dish_2 : List UInt8 := dkwX9_dish_2 ++ dktX9_dish_3
def dkwX9_dish_1 : List UInt8 := [170, 0, 0, 0, 0, 0, 0, 106, 0, 0, 0, 0, 0, 0, 0, 4, 0, 0, 0, 36, 0, 0, 0, 46, 0, 0, 0, 56, 0, 0, 0, 66, 0, 0, 0, 76]
abbrev dktX9_dish_1 : List UInt8 := dkwX9_dish_1 ++ dktX9_dish_2
def dkwX9_dish_0 : List UInt8 := [42, 27, 182, 0, 183, 154, 0, 6, 18, 61, 172, 28]
abbrev dktX9_dish_0 : List UInt8 := dkwX9_dish_0 ++ dktX9_dish_1
theorem dksX9_dish_0 : cX9_dish.data.toList.drop 0 = dktX9_dish_0 := by decide +kernel
theorem dksX9_dish_1 : cX9_dish.data.toList.drop 12 = dktX9_dish_1 := dk_seg dksX9_dish_0 12 rfl rfl
theorem dksX9_dish_2 : cX9_dish.data.toList.drop 48 = dktX9_dish_2 := dk_seg dksX9_dish_1 36 rfl rfl
theorem dksX9_dish_3 : cX9_dish.data.toList.drop 72 = dktX9_dish_3 := dk_seg dksX9_dish_2 24 rfl rfl
theorem dksX9_dish_4 : cX9_dish.data.toList.drop 96 = dktX9_dish_4 := dk_seg dksX9_dish_3 24 rfl rfl
theorem dksX9_dish_5 : cX9_dish.data.toList.drop 120 = dktX9_dish_5 := dk_seg dksX9_dish_4 24 rfl rfl
theorem dX9_dish_0 : decode cX9_dish 0 = .ok (.aload_n 0, 1) := dk_42 (dk_at dksX9_dish_0 0 rfl rfl)
theorem dX9_dish_1 : decode cX9_dish 1 = .ok (.iload_n 1, 1) := dk_27 (dk_at dksX9_dish_0 1 rfl rfl)
theorem dX9_dish_2 : decode cX9_dish 2 = .ok (.invokevirtual 183, 3) := dk_182 0 183 (dk_at dksX9_dish_0 2 rfl rfl)
theorem dX9_dish_5 : decode cX9_dish 5 = .ok (.ifCond .ne 6, 3) := dk_154 0 6 (dk_at dksX9_dish_0 5 rfl rfl)
theorem dX9_dish_8 : decode cX9_dish 8 = .ok (.ldc 61, 2) := dk_18 61 (dk_at dksX9_dish_0 8 rfl rfl)
theorem dX9_dish_10 : decode cX9_dish 10 = .ok (.ireturn, 1) := dk_172 (dk_at dksX9_dish_0 10 rfl rfl)
theorem dX9_dish_11 : decode cX9_dish 11 = .ok (.iload_n 2, 1) := dk_28 (dk_at dksX9_dish_0 11 rfl rfl)
theorem dX9_dish_12 : decode cX9_dish 12 = .ok (.tableswitch 106 0 4 #[36, 46, 56, 66, 76], 36) := by decide +kernel
theorem dX9_dish_48 : decode cX9_dish 48 = .ok (.aload_n 0, 1) := dk_42 (dk_at dksX9_dish_2 0 rfl rfl)
theorem dX9_dish_49 : decode cX9_dish 49 = .ok (.getfield 7, 3) := dk_180 0 7 (dk_at dksX9_dish_2 1 rfl rfl)
theorem dX9_dish_52 : decode cX9_dish 52 = .ok (.bipush 13, 2) := dk_16 13 (dk_at dksX9_dish_2 4 rfl rfl)
theorem dX9_dish_54 : decode cX9_dish 54 = .ok (.iload_n 1, 1) := dk_27 (dk_at dksX9_dish_2 6 rfl rfl)
theorem dX9_dish_55 : decode cX9_dish 55 = .ok (.iadd, 1) := dk_96 (dk_at dksX9_dish_2 7 rfl rfl)
theorem dX9_dish_56 : decode cX9_dish 56 = .ok (.iaload, 1) := dk_46 (dk_at dksX9_dish_2 8 rfl rfl)
theorem dX9_dish_57 : decode cX9_dish 57 = .ok (.ireturn, 1) := dk_172 (dk_at dksX9_dish_2 9 rfl rfl)
theorem dX9_dish_58 : decode cX9_dish 58 = .ok (.aload_n 0, 1) := dk_42 (dk_at dksX9_dish_2 10 rfl rfl)
theorem dX9_dish_59 : decode cX9_dish 59 = .ok (.getfield 7, 3) := dk_180 0 7 (dk_at dksX9_dish_2 11 rfl rfl)
theorem dX9_dish_62 : decode cX9_dish 62 = .ok (.bipush 19, 2) := dk_16 19 (dk_at dksX9_dish_2 14 rfl rfl)
theorem dX9_dish_64 : decode cX9_dish 64 = .ok (.iload_n 1, 1) := dk_27 (dk_at dksX9_dish_2 16 rfl rfl)
theorem dX9_dish_65 : decode cX9_dish 65 = .ok (.iadd, 1) := dk_96 (dk_at dksX9_dish_2 17 rfl rfl)
theorem dX9_dish_66 : decode cX9_dish 66 = .ok (.iaload, 1) := dk_46 (dk_at dksX9_dish_2 18 rfl rfl)
theorem dX9_dish_67 : decode cX9_dish 67 = .ok (.ireturn, 1) := dk_172 (dk_at dksX9_dish_2 19 rfl rfl)
theorem dX9_dish_68 : decode cX9_dish 68 = .ok (.aload_n 0, 1) := dk_42 (dk_at dksX9_dish_2 20 rfl rfl)
theorem dX9_dish_69 : decode cX9_dish 69 = .ok (.getfield 7, 3) := dk_180 0 7 (dk_at dksX9_dish_2 21 rfl rfl)
theorem dX9_dish_72 : decode cX9_dish 72 = .ok (.bipush 25, 2) := dk_16 25 (dk_at dksX9_dish_3 0 rfl rfl)
theorem dX9_dish_74 : decode cX9_dish 74 = .ok (.iload_n 1, 1) := dk_27 (dk_at dksX9_dish_3 2 rfl rfl)
theorem dX9_dish_75 : decode cX9_dish 75 = .ok (.iadd, 1) := dk_96 (dk_at dksX9_dish_3 3 rfl rfl)
theorem dX9_dish_76 : decode cX9_dish 76 = .ok (.iaload, 1) := dk_46 (dk_at dksX9_dish_3 4 rfl rfl)
theorem dX9_dish_77 : decode cX9_dish 77 = .ok (.ireturn, 1) := dk_172 (dk_at dksX9_dish_3 5 rfl rfl)
theorem dX9_dish_78 : decode cX9_dish 78 = .ok (.aload_n 0, 1) := dk_42 (dk_at dksX9_dish_3 6 rfl rfl)
theorem dX9_dish_79 : decode cX9_dish 79 = .ok (.getfield 7, 3) := dk_180 0 7 (dk_at dksX9_dish_3 7 rfl rfl)
theorem dX9_dish_82 : decode cX9_dish 82 = .ok (.bipush 31, 2) := dk_16 31 (dk_at dksX9_dish_3 10 rfl rfl)
theorem dX9_dish_84 : decode cX9_dish 84 = .ok (.iload_n 1, 1) := dk_27 (dk_at dksX9_dish_3 12 rfl rfl)
theorem dX9_dish_85 : decode cX9_dish 85 = .ok (.iadd, 1) := dk_96 (dk_at dksX9_dish_3 13 rfl rfl)
theorem dX9_dish_86 : decode cX9_dish 86 = .ok (.iaload, 1) := dk_46 (dk_at dksX9_dish_3 14 rfl rfl)
theorem dX9_dish_87 : decode cX9_dish 87 = .ok (.ireturn, 1) := dk_172 (dk_at dksX9_dish_3 15 rfl rfl)
theorem dX9_dish_88 : decode cX9_dish 88 = .ok (.aload_n 0, 1) := dk_42 (dk_at dksX9_dish_3 16 rfl rfl)
theorem dX9_dish_89 : decode cX9_dish 89 = .ok (.getfield 7, 3) := dk_180 0 7 (dk_at dksX9_dish_3 17 rfl rfl)
theorem dX9_dish_92 : decode cX9_dish 92 = .ok (.bipush 7, 2) := dk_16 7 (dk_at dksX9_dish_3 20 rfl rfl)
theorem dX9_dish_94 : decode cX9_dish 94 = .ok (.iload_n 1, 1) := dk_27 (dk_at dksX9_dish_3 22 rfl rfl)
theorem dX9_dish_95 : decode cX9_dish 95 = .ok (.iadd, 1) := dk_96 (dk_at dksX9_dish_3 23 rfl rfl)
theorem dX9_dish_96 : decode cX9_dish 96 = .ok (.iaload, 1) := dk_46 (dk_at dksX9_dish_4 0 rfl rfl)
theorem dX9_dish_97 : decode cX9_dish 97 = .ok (.aload_n 0, 1) := dk_42 (dk_at dksX9_dish_4 1 rfl rfl)
theorem dX9_dish_98 : decode cX9_dish 98 = .ok (.getfield 7, 3) := dk_180 0 7 (dk_at dksX9_dish_4 2 rfl rfl)
theorem dX9_dish_101 : decode cX9_dish 101 = .ok (.bipush 31, 2) := dk_16 31 (dk_at dksX9_dish_4 5 rfl rfl)
theorem dX9_dish_103 : decode cX9_dish 103 = .ok (.iload_n 1, 1) := dk_27 (dk_at dksX9_dish_4 7 rfl rfl)
theorem dX9_dish_104 : decode cX9_dish 104 = .ok (.iadd, 1) := dk_96 (dk_at dksX9_dish_4 8 rfl rfl)
theorem dX9_dish_105 : decode cX9_dish 105 = .ok (.iaload, 1) := dk_46 (dk_at dksX9_dish_4 9 rfl rfl)
theorem dX9_dish_106 : decode cX9_dish 106 = .ok (.invokestatic 158, 3) := dk_184 0 158 (dk_at dksX9_dish_4 10 rfl rfl)
theorem dX9_dish_109 : decode cX9_dish 109 = .ok (.ifCond .eq 7, 3) := dk_153 0 7 (dk_at dksX9_dish_4 13 rfl rfl)
theorem dX9_dish_112 : decode cX9_dish 112 = .ok (.iconst 1, 1) := dk_4 (dk_at dksX9_dish_4 16 rfl rfl)
theorem dX9_dish_113 : decode cX9_dish 113 = .ok (.goto 4, 3) := dk_167 0 4 (dk_at dksX9_dish_4 17 rfl rfl)
theorem dX9_dish_116 : decode cX9_dish 116 = .ok (.iconst 0, 1) := dk_3 (dk_at dksX9_dish_4 20 rfl rfl)
theorem dX9_dish_117 : decode cX9_dish 117 = .ok (.ireturn, 1) := dk_172 (dk_at dksX9_dish_4 21 rfl rfl)
theorem dX9_dish_118 : decode cX9_dish 118 = .ok (.ldc 61, 2) := dk_18 61 (dk_at dksX9_dish_4 22 rfl rfl)
theorem dX9_dish_120 : decode cX9_dish 120 = .ok (.ireturn, 1) := dk_172 (dk_at dksX9_dish_5 0 rfl rfl)
abbrev cX9_isGood : ByteArray := prog_16_method_37_code
def yX9_isGood : MethodName := ⟨RX9, "isGood", "(II)Z"⟩
def dkwX9_isGood_1 : List UInt8 := [161, 0, 7, 4, 167, 0, 4, 3, 172]
abbrev dktX9_isGood_1 : List UInt8 := dkwX9_isGood_1 ++ []
def dkwX9_isGood_0 : List UInt8 := [26, 7, 161, 0, 17, 27, 16, 10, 163, 0, 7, 4, 167, 0, 18, 3, 167, 0, 14, 27, 16, 20]
abbrev dktX9_isGood_0 : List UInt8 := dkwX9_isGood_0 ++ dktX9_isGood_1
theorem dksX9_isGood_0 : cX9_isGood.data.toList.drop 0 = dktX9_isGood_0 := by decide +kernel
theorem dksX9_isGood_1 : cX9_isGood.data.toList.drop 22 = dktX9_isGood_1 := dk_seg dksX9_isGood_0 22 rfl rfl
theorem dX9_isGood_0 : decode cX9_isGood 0 = .ok (.iload_n 0, 1) := dk_26 (dk_at dksX9_isGood_0 0 rfl rfl)
theorem dX9_isGood_1 : decode cX9_isGood 1 = .ok (.iconst 4, 1) := dk_7 (dk_at dksX9_isGood_0 1 rfl rfl)
theorem dX9_isGood_2 : decode cX9_isGood 2 = .ok (.if_icmp .lt 17, 3) := dk_161 0 17 (dk_at dksX9_isGood_0 2 rfl rfl)
theorem dX9_isGood_5 : decode cX9_isGood 5 = .ok (.iload_n 1, 1) := dk_27 (dk_at dksX9_isGood_0 5 rfl rfl)
theorem dX9_isGood_6 : decode cX9_isGood 6 = .ok (.bipush 10, 2) := dk_16 10 (dk_at dksX9_isGood_0 6 rfl rfl)
theorem dX9_isGood_8 : decode cX9_isGood 8 = .ok (.if_icmp .gt 7, 3) := dk_163 0 7 (dk_at dksX9_isGood_0 8 rfl rfl)
theorem dX9_isGood_11 : decode cX9_isGood 11 = .ok (.iconst 1, 1) := dk_4 (dk_at dksX9_isGood_0 11 rfl rfl)
theorem dX9_isGood_12 : decode cX9_isGood 12 = .ok (.goto 18, 3) := dk_167 0 18 (dk_at dksX9_isGood_0 12 rfl rfl)
theorem dX9_isGood_15 : decode cX9_isGood 15 = .ok (.iconst 0, 1) := dk_3 (dk_at dksX9_isGood_0 15 rfl rfl)
theorem dX9_isGood_16 : decode cX9_isGood 16 = .ok (.goto 14, 3) := dk_167 0 14 (dk_at dksX9_isGood_0 16 rfl rfl)
theorem dX9_isGood_19 : decode cX9_isGood 19 = .ok (.iload_n 1, 1) := dk_27 (dk_at dksX9_isGood_0 19 rfl rfl)
theorem dX9_isGood_20 : decode cX9_isGood 20 = .ok (.bipush 20, 2) := dk_16 20 (dk_at dksX9_isGood_0 20 rfl rfl)
theorem dX9_isGood_22 : decode cX9_isGood 22 = .ok (.if_icmp .lt 7, 3) := dk_161 0 7 (dk_at dksX9_isGood_1 0 rfl rfl)
theorem dX9_isGood_25 : decode cX9_isGood 25 = .ok (.iconst 1, 1) := dk_4 (dk_at dksX9_isGood_1 3 rfl rfl)
theorem dX9_isGood_26 : decode cX9_isGood 26 = .ok (.goto 4, 3) := dk_167 0 4 (dk_at dksX9_isGood_1 4 rfl rfl)
theorem dX9_isGood_29 : decode cX9_isGood 29 = .ok (.iconst 0, 1) := dk_3 (dk_at dksX9_isGood_1 7 rfl rfl)
theorem dX9_isGood_30 : decode cX9_isGood 30 = .ok (.ireturn, 1) := dk_172 (dk_at dksX9_isGood_1 8 rfl rfl)
abbrev cX9_car : ByteArray := prog_16_method_50_code
def yX9_car : MethodName := ⟨RX9, "car", "(I)I"⟩
def dkwX9_car_4 : List UInt8 := [172, 42, 3, 182, 0, 140, 172, 42, 3, 42, 3, 182, 0, 130, 182, 0, 136, 172, 18, 61, 172]
abbrev dktX9_car_4 : List UInt8 := dkwX9_car_4 ++ []
def dkwX9_car_3 : List UInt8 := [180, 0, 7, 5, 46, 172, 42, 180, 0, 7, 6, 46, 172, 42, 3, 182, 0, 130, 172, 42, 3, 182, 0, 173]
abbrev dktX9_car_3 : List UInt8 := dkwX9_car_3 ++ dktX9_car_4
def dkwX9_car_2 : List UInt8 := [42, 180, 0, 7, 4, 46, 172, 42, 180, 0, 7, 7, 46, 172, 42, 180, 0, 7, 8, 46, 172, 42]
abbrev dktX9_car_2 : List UInt8 := dkwX9_car_2 ++ dktX9_car_3
def dkwX9_car_1 : List UInt8 := [170, 0, 0, 0, 113, 0, 0, 0, 0, 0, 0, 0, 8, 0, 0, 0, 49, 0, 0, 0, 56, 0, 0, 0, 63, 0, 0, 0, 70, 0, 0, 0, 77, 0, 0, 0, 84, 0, 0, 0, 90, 0, 0, 0, 96, 0, 0, 0, 102]
abbrev dktX9_car_1 : List UInt8 := dkwX9_car_1 ++ dktX9_car_2
def dkwX9_car_0 : List UInt8 := [42, 182, 0, 162, 154, 0, 6, 18, 161, 172, 27]
abbrev dktX9_car_0 : List UInt8 := dkwX9_car_0 ++ dktX9_car_1
theorem dksX9_car_0 : cX9_car.data.toList.drop 0 = dktX9_car_0 := by decide +kernel
theorem dksX9_car_1 : cX9_car.data.toList.drop 11 = dktX9_car_1 := dk_seg dksX9_car_0 11 rfl rfl
theorem dksX9_car_2 : cX9_car.data.toList.drop 60 = dktX9_car_2 := dk_seg dksX9_car_1 49 rfl rfl
theorem dksX9_car_3 : cX9_car.data.toList.drop 82 = dktX9_car_3 := dk_seg dksX9_car_2 22 rfl rfl
theorem dksX9_car_4 : cX9_car.data.toList.drop 106 = dktX9_car_4 := dk_seg dksX9_car_3 24 rfl rfl
theorem dX9_car_0 : decode cX9_car 0 = .ok (.aload_n 0, 1) := dk_42 (dk_at dksX9_car_0 0 rfl rfl)
theorem dX9_car_1 : decode cX9_car 1 = .ok (.invokevirtual 162, 3) := dk_182 0 162 (dk_at dksX9_car_0 1 rfl rfl)
theorem dX9_car_4 : decode cX9_car 4 = .ok (.ifCond .ne 6, 3) := dk_154 0 6 (dk_at dksX9_car_0 4 rfl rfl)
theorem dX9_car_7 : decode cX9_car 7 = .ok (.ldc 161, 2) := dk_18 161 (dk_at dksX9_car_0 7 rfl rfl)
theorem dX9_car_9 : decode cX9_car 9 = .ok (.ireturn, 1) := dk_172 (dk_at dksX9_car_0 9 rfl rfl)
theorem dX9_car_10 : decode cX9_car 10 = .ok (.iload_n 1, 1) := dk_27 (dk_at dksX9_car_0 10 rfl rfl)
theorem dX9_car_11 : decode cX9_car 11 = .ok (.tableswitch 113 0 8 #[49, 56, 63, 70, 77, 84, 90, 96, 102], 49) := by decide +kernel
theorem dX9_car_60 : decode cX9_car 60 = .ok (.aload_n 0, 1) := dk_42 (dk_at dksX9_car_2 0 rfl rfl)
theorem dX9_car_61 : decode cX9_car 61 = .ok (.getfield 7, 3) := dk_180 0 7 (dk_at dksX9_car_2 1 rfl rfl)
theorem dX9_car_64 : decode cX9_car 64 = .ok (.iconst 1, 1) := dk_4 (dk_at dksX9_car_2 4 rfl rfl)
theorem dX9_car_65 : decode cX9_car 65 = .ok (.iaload, 1) := dk_46 (dk_at dksX9_car_2 5 rfl rfl)
theorem dX9_car_66 : decode cX9_car 66 = .ok (.ireturn, 1) := dk_172 (dk_at dksX9_car_2 6 rfl rfl)
theorem dX9_car_67 : decode cX9_car 67 = .ok (.aload_n 0, 1) := dk_42 (dk_at dksX9_car_2 7 rfl rfl)
theorem dX9_car_68 : decode cX9_car 68 = .ok (.getfield 7, 3) := dk_180 0 7 (dk_at dksX9_car_2 8 rfl rfl)
theorem dX9_car_71 : decode cX9_car 71 = .ok (.iconst 4, 1) := dk_7 (dk_at dksX9_car_2 11 rfl rfl)
theorem dX9_car_72 : decode cX9_car 72 = .ok (.iaload, 1) := dk_46 (dk_at dksX9_car_2 12 rfl rfl)
theorem dX9_car_73 : decode cX9_car 73 = .ok (.ireturn, 1) := dk_172 (dk_at dksX9_car_2 13 rfl rfl)
theorem dX9_car_74 : decode cX9_car 74 = .ok (.aload_n 0, 1) := dk_42 (dk_at dksX9_car_2 14 rfl rfl)
theorem dX9_car_75 : decode cX9_car 75 = .ok (.getfield 7, 3) := dk_180 0 7 (dk_at dksX9_car_2 15 rfl rfl)
theorem dX9_car_78 : decode cX9_car 78 = .ok (.iconst 5, 1) := dk_8 (dk_at dksX9_car_2 18 rfl rfl)
theorem dX9_car_79 : decode cX9_car 79 = .ok (.iaload, 1) := dk_46 (dk_at dksX9_car_2 19 rfl rfl)
theorem dX9_car_80 : decode cX9_car 80 = .ok (.ireturn, 1) := dk_172 (dk_at dksX9_car_2 20 rfl rfl)
theorem dX9_car_81 : decode cX9_car 81 = .ok (.aload_n 0, 1) := dk_42 (dk_at dksX9_car_2 21 rfl rfl)
theorem dX9_car_82 : decode cX9_car 82 = .ok (.getfield 7, 3) := dk_180 0 7 (dk_at dksX9_car_3 0 rfl rfl)
theorem dX9_car_85 : decode cX9_car 85 = .ok (.iconst 2, 1) := dk_5 (dk_at dksX9_car_3 3 rfl rfl)
theorem dX9_car_86 : decode cX9_car 86 = .ok (.iaload, 1) := dk_46 (dk_at dksX9_car_3 4 rfl rfl)
theorem dX9_car_87 : decode cX9_car 87 = .ok (.ireturn, 1) := dk_172 (dk_at dksX9_car_3 5 rfl rfl)
theorem dX9_car_88 : decode cX9_car 88 = .ok (.aload_n 0, 1) := dk_42 (dk_at dksX9_car_3 6 rfl rfl)
theorem dX9_car_89 : decode cX9_car 89 = .ok (.getfield 7, 3) := dk_180 0 7 (dk_at dksX9_car_3 7 rfl rfl)
theorem dX9_car_92 : decode cX9_car 92 = .ok (.iconst 3, 1) := dk_6 (dk_at dksX9_car_3 10 rfl rfl)
theorem dX9_car_93 : decode cX9_car 93 = .ok (.iaload, 1) := dk_46 (dk_at dksX9_car_3 11 rfl rfl)
theorem dX9_car_94 : decode cX9_car 94 = .ok (.ireturn, 1) := dk_172 (dk_at dksX9_car_3 12 rfl rfl)
theorem dX9_car_95 : decode cX9_car 95 = .ok (.aload_n 0, 1) := dk_42 (dk_at dksX9_car_3 13 rfl rfl)
theorem dX9_car_96 : decode cX9_car 96 = .ok (.iconst 0, 1) := dk_3 (dk_at dksX9_car_3 14 rfl rfl)
theorem dX9_car_97 : decode cX9_car 97 = .ok (.invokevirtual 130, 3) := dk_182 0 130 (dk_at dksX9_car_3 15 rfl rfl)
theorem dX9_car_100 : decode cX9_car 100 = .ok (.ireturn, 1) := dk_172 (dk_at dksX9_car_3 18 rfl rfl)
theorem dX9_car_101 : decode cX9_car 101 = .ok (.aload_n 0, 1) := dk_42 (dk_at dksX9_car_3 19 rfl rfl)
theorem dX9_car_102 : decode cX9_car 102 = .ok (.iconst 0, 1) := dk_3 (dk_at dksX9_car_3 20 rfl rfl)
theorem dX9_car_103 : decode cX9_car 103 = .ok (.invokevirtual 173, 3) := dk_182 0 173 (dk_at dksX9_car_3 21 rfl rfl)
theorem dX9_car_106 : decode cX9_car 106 = .ok (.ireturn, 1) := dk_172 (dk_at dksX9_car_4 0 rfl rfl)
theorem dX9_car_107 : decode cX9_car 107 = .ok (.aload_n 0, 1) := dk_42 (dk_at dksX9_car_4 1 rfl rfl)
theorem dX9_car_108 : decode cX9_car 108 = .ok (.iconst 0, 1) := dk_3 (dk_at dksX9_car_4 2 rfl rfl)
theorem dX9_car_109 : decode cX9_car 109 = .ok (.invokevirtual 140, 3) := dk_182 0 140 (dk_at dksX9_car_4 3 rfl rfl)
theorem dX9_car_112 : decode cX9_car 112 = .ok (.ireturn, 1) := dk_172 (dk_at dksX9_car_4 6 rfl rfl)
theorem dX9_car_113 : decode cX9_car 113 = .ok (.aload_n 0, 1) := dk_42 (dk_at dksX9_car_4 7 rfl rfl)
theorem dX9_car_114 : decode cX9_car 114 = .ok (.iconst 0, 1) := dk_3 (dk_at dksX9_car_4 8 rfl rfl)
theorem dX9_car_115 : decode cX9_car 115 = .ok (.aload_n 0, 1) := dk_42 (dk_at dksX9_car_4 9 rfl rfl)
theorem dX9_car_116 : decode cX9_car 116 = .ok (.iconst 0, 1) := dk_3 (dk_at dksX9_car_4 10 rfl rfl)
theorem dX9_car_117 : decode cX9_car 117 = .ok (.invokevirtual 130, 3) := dk_182 0 130 (dk_at dksX9_car_4 11 rfl rfl)
theorem dX9_car_120 : decode cX9_car 120 = .ok (.invokevirtual 136, 3) := dk_182 0 136 (dk_at dksX9_car_4 14 rfl rfl)
theorem dX9_car_123 : decode cX9_car 123 = .ok (.ireturn, 1) := dk_172 (dk_at dksX9_car_4 17 rfl rfl)
theorem dX9_car_124 : decode cX9_car 124 = .ok (.ldc 61, 2) := dk_18 61 (dk_at dksX9_car_4 18 rfl rfl)
theorem dX9_car_126 : decode cX9_car 126 = .ok (.ireturn, 1) := dk_172 (dk_at dksX9_car_4 20 rfl rfl)
abbrev cX9_ahead : ByteArray := prog_16_method_53_code
def yX9_ahead : MethodName := ⟨RX9, "ahead", "(III)I"⟩
def dkwX9_ahead_3 : List UInt8 := [16, 25, 96, 27, 96, 46, 172]
abbrev dktX9_ahead_3 : List UInt8 := dkwX9_ahead_3 ++ []
def dkwX9_ahead_2 : List UInt8 := [180, 0, 7, 16, 43, 29, 154, 0, 8, 16, 13, 167, 0, 15, 29, 4, 160, 0, 8, 16, 31, 167, 0, 5]
abbrev dktX9_ahead_2 : List UInt8 := dkwX9_ahead_2 ++ dktX9_ahead_3
def dkwX9_ahead_1 : List UInt8 := [20, 0, 59, 184, 0, 44, 154, 0, 6, 18, 61, 172, 42, 182, 0, 192, 42, 28, 182, 0, 195, 42]
abbrev dktX9_ahead_1 : List UInt8 := dkwX9_ahead_1 ++ dktX9_ahead_2
def dkwX9_ahead_0 : List UInt8 := [42, 27, 182, 0, 183, 153, 0, 27, 28, 133, 9, 20, 0, 186, 184, 0, 44, 153, 0, 15, 29, 133, 9]
abbrev dktX9_ahead_0 : List UInt8 := dkwX9_ahead_0 ++ dktX9_ahead_1
theorem dksX9_ahead_0 : cX9_ahead.data.toList.drop 0 = dktX9_ahead_0 := by decide +kernel
theorem dksX9_ahead_1 : cX9_ahead.data.toList.drop 23 = dktX9_ahead_1 := dk_seg dksX9_ahead_0 23 rfl rfl
theorem dksX9_ahead_2 : cX9_ahead.data.toList.drop 45 = dktX9_ahead_2 := dk_seg dksX9_ahead_1 22 rfl rfl
theorem dksX9_ahead_3 : cX9_ahead.data.toList.drop 69 = dktX9_ahead_3 := dk_seg dksX9_ahead_2 24 rfl rfl
theorem dX9_ahead_0 : decode cX9_ahead 0 = .ok (.aload_n 0, 1) := dk_42 (dk_at dksX9_ahead_0 0 rfl rfl)
theorem dX9_ahead_1 : decode cX9_ahead 1 = .ok (.iload_n 1, 1) := dk_27 (dk_at dksX9_ahead_0 1 rfl rfl)
theorem dX9_ahead_2 : decode cX9_ahead 2 = .ok (.invokevirtual 183, 3) := dk_182 0 183 (dk_at dksX9_ahead_0 2 rfl rfl)
theorem dX9_ahead_5 : decode cX9_ahead 5 = .ok (.ifCond .eq 27, 3) := dk_153 0 27 (dk_at dksX9_ahead_0 5 rfl rfl)
theorem dX9_ahead_8 : decode cX9_ahead 8 = .ok (.iload_n 2, 1) := dk_28 (dk_at dksX9_ahead_0 8 rfl rfl)
theorem dX9_ahead_9 : decode cX9_ahead 9 = .ok (.i2l, 1) := dk_133 (dk_at dksX9_ahead_0 9 rfl rfl)
theorem dX9_ahead_10 : decode cX9_ahead 10 = .ok (.lconst 0, 1) := dk_9 (dk_at dksX9_ahead_0 10 rfl rfl)
theorem dX9_ahead_11 : decode cX9_ahead 11 = .ok (.ldc2_w 186, 3) := dk_20 0 186 (dk_at dksX9_ahead_0 11 rfl rfl)
theorem dX9_ahead_14 : decode cX9_ahead 14 = .ok (.invokestatic 44, 3) := dk_184 0 44 (dk_at dksX9_ahead_0 14 rfl rfl)
theorem dX9_ahead_17 : decode cX9_ahead 17 = .ok (.ifCond .eq 15, 3) := dk_153 0 15 (dk_at dksX9_ahead_0 17 rfl rfl)
theorem dX9_ahead_20 : decode cX9_ahead 20 = .ok (.iload_n 3, 1) := dk_29 (dk_at dksX9_ahead_0 20 rfl rfl)
theorem dX9_ahead_21 : decode cX9_ahead 21 = .ok (.i2l, 1) := dk_133 (dk_at dksX9_ahead_0 21 rfl rfl)
theorem dX9_ahead_22 : decode cX9_ahead 22 = .ok (.lconst 0, 1) := dk_9 (dk_at dksX9_ahead_0 22 rfl rfl)
theorem dX9_ahead_23 : decode cX9_ahead 23 = .ok (.ldc2_w 59, 3) := dk_20 0 59 (dk_at dksX9_ahead_1 0 rfl rfl)
theorem dX9_ahead_26 : decode cX9_ahead 26 = .ok (.invokestatic 44, 3) := dk_184 0 44 (dk_at dksX9_ahead_1 3 rfl rfl)
theorem dX9_ahead_29 : decode cX9_ahead 29 = .ok (.ifCond .ne 6, 3) := dk_154 0 6 (dk_at dksX9_ahead_1 6 rfl rfl)
theorem dX9_ahead_32 : decode cX9_ahead 32 = .ok (.ldc 61, 2) := dk_18 61 (dk_at dksX9_ahead_1 9 rfl rfl)
theorem dX9_ahead_34 : decode cX9_ahead 34 = .ok (.ireturn, 1) := dk_172 (dk_at dksX9_ahead_1 11 rfl rfl)
theorem dX9_ahead_35 : decode cX9_ahead 35 = .ok (.aload_n 0, 1) := dk_42 (dk_at dksX9_ahead_1 12 rfl rfl)
theorem dX9_ahead_36 : decode cX9_ahead 36 = .ok (.invokevirtual 192, 3) := dk_182 0 192 (dk_at dksX9_ahead_1 13 rfl rfl)
theorem dX9_ahead_39 : decode cX9_ahead 39 = .ok (.aload_n 0, 1) := dk_42 (dk_at dksX9_ahead_1 16 rfl rfl)
theorem dX9_ahead_40 : decode cX9_ahead 40 = .ok (.iload_n 2, 1) := dk_28 (dk_at dksX9_ahead_1 17 rfl rfl)
theorem dX9_ahead_41 : decode cX9_ahead 41 = .ok (.invokevirtual 195, 3) := dk_182 0 195 (dk_at dksX9_ahead_1 18 rfl rfl)
theorem dX9_ahead_44 : decode cX9_ahead 44 = .ok (.aload_n 0, 1) := dk_42 (dk_at dksX9_ahead_1 21 rfl rfl)
theorem dX9_ahead_45 : decode cX9_ahead 45 = .ok (.getfield 7, 3) := dk_180 0 7 (dk_at dksX9_ahead_2 0 rfl rfl)
theorem dX9_ahead_48 : decode cX9_ahead 48 = .ok (.bipush 43, 2) := dk_16 43 (dk_at dksX9_ahead_2 3 rfl rfl)
theorem dX9_ahead_50 : decode cX9_ahead 50 = .ok (.iload_n 3, 1) := dk_29 (dk_at dksX9_ahead_2 5 rfl rfl)
theorem dX9_ahead_51 : decode cX9_ahead 51 = .ok (.ifCond .ne 8, 3) := dk_154 0 8 (dk_at dksX9_ahead_2 6 rfl rfl)
theorem dX9_ahead_54 : decode cX9_ahead 54 = .ok (.bipush 13, 2) := dk_16 13 (dk_at dksX9_ahead_2 9 rfl rfl)
theorem dX9_ahead_56 : decode cX9_ahead 56 = .ok (.goto 15, 3) := dk_167 0 15 (dk_at dksX9_ahead_2 11 rfl rfl)
theorem dX9_ahead_59 : decode cX9_ahead 59 = .ok (.iload_n 3, 1) := dk_29 (dk_at dksX9_ahead_2 14 rfl rfl)
theorem dX9_ahead_60 : decode cX9_ahead 60 = .ok (.iconst 1, 1) := dk_4 (dk_at dksX9_ahead_2 15 rfl rfl)
theorem dX9_ahead_61 : decode cX9_ahead 61 = .ok (.if_icmp .ne 8, 3) := dk_160 0 8 (dk_at dksX9_ahead_2 16 rfl rfl)
theorem dX9_ahead_64 : decode cX9_ahead 64 = .ok (.bipush 31, 2) := dk_16 31 (dk_at dksX9_ahead_2 19 rfl rfl)
theorem dX9_ahead_66 : decode cX9_ahead 66 = .ok (.goto 5, 3) := dk_167 0 5 (dk_at dksX9_ahead_2 21 rfl rfl)
theorem dX9_ahead_69 : decode cX9_ahead 69 = .ok (.bipush 25, 2) := dk_16 25 (dk_at dksX9_ahead_3 0 rfl rfl)
theorem dX9_ahead_71 : decode cX9_ahead 71 = .ok (.iadd, 1) := dk_96 (dk_at dksX9_ahead_3 2 rfl rfl)
theorem dX9_ahead_72 : decode cX9_ahead 72 = .ok (.iload_n 1, 1) := dk_27 (dk_at dksX9_ahead_3 3 rfl rfl)
theorem dX9_ahead_73 : decode cX9_ahead 73 = .ok (.iadd, 1) := dk_96 (dk_at dksX9_ahead_3 4 rfl rfl)
theorem dX9_ahead_74 : decode cX9_ahead 74 = .ok (.iaload, 1) := dk_46 (dk_at dksX9_ahead_3 5 rfl rfl)
theorem dX9_ahead_75 : decode cX9_ahead 75 = .ok (.ireturn, 1) := dk_172 (dk_at dksX9_ahead_3 6 rfl rfl)
abbrev cX9_tries : ByteArray := prog_16_method_51_code
def yX9_tries : MethodName := ⟨RX9, "tries", "()V"⟩
def dkwX9_tries_0 : List UInt8 := [42, 3, 16, 43, 182, 0, 120, 177]
abbrev dktX9_tries_0 : List UInt8 := dkwX9_tries_0 ++ []
theorem dksX9_tries_0 : cX9_tries.data.toList.drop 0 = dktX9_tries_0 := by decide +kernel
theorem dX9_tries_0 : decode cX9_tries 0 = .ok (.aload_n 0, 1) := dk_42 (dk_at dksX9_tries_0 0 rfl rfl)
theorem dX9_tries_1 : decode cX9_tries 1 = .ok (.iconst 0, 1) := dk_3 (dk_at dksX9_tries_0 1 rfl rfl)
theorem dX9_tries_2 : decode cX9_tries 2 = .ok (.bipush 43, 2) := dk_16 43 (dk_at dksX9_tries_0 2 rfl rfl)
theorem dX9_tries_4 : decode cX9_tries 4 = .ok (.invokevirtual 120, 3) := dk_182 0 120 (dk_at dksX9_tries_0 4 rfl rfl)
theorem dX9_tries_7 : decode cX9_tries 7 = .ok (.return_, 1) := dk_177 (dk_at dksX9_tries_0 7 rfl rfl)
abbrev cX9_goesOn : ByteArray := prog_16_method_52_code
def yX9_goesOn : MethodName := ⟨RX9, "goesOn", "(I)V"⟩
def dkwX9_goesOn_0 : List UInt8 := [3, 61, 28, 27, 162, 0, 15, 42, 16, 43, 182, 0, 170, 132, 2, 1, 167, 255, 242, 177]
abbrev dktX9_goesOn_0 : List UInt8 := dkwX9_goesOn_0 ++ []
theorem dksX9_goesOn_0 : cX9_goesOn.data.toList.drop 0 = dktX9_goesOn_0 := by decide +kernel
theorem dX9_goesOn_0 : decode cX9_goesOn 0 = .ok (.iconst 0, 1) := dk_3 (dk_at dksX9_goesOn_0 0 rfl rfl)
theorem dX9_goesOn_1 : decode cX9_goesOn 1 = .ok (.istore_n 2, 1) := dk_61 (dk_at dksX9_goesOn_0 1 rfl rfl)
theorem dX9_goesOn_2 : decode cX9_goesOn 2 = .ok (.iload_n 2, 1) := dk_28 (dk_at dksX9_goesOn_0 2 rfl rfl)
theorem dX9_goesOn_3 : decode cX9_goesOn 3 = .ok (.iload_n 1, 1) := dk_27 (dk_at dksX9_goesOn_0 3 rfl rfl)
theorem dX9_goesOn_4 : decode cX9_goesOn 4 = .ok (.if_icmp .ge 15, 3) := dk_162 0 15 (dk_at dksX9_goesOn_0 4 rfl rfl)
theorem dX9_goesOn_7 : decode cX9_goesOn 7 = .ok (.aload_n 0, 1) := dk_42 (dk_at dksX9_goesOn_0 7 rfl rfl)
theorem dX9_goesOn_8 : decode cX9_goesOn 8 = .ok (.bipush 43, 2) := dk_16 43 (dk_at dksX9_goesOn_0 8 rfl rfl)
theorem dX9_goesOn_10 : decode cX9_goesOn 10 = .ok (.invokevirtual 170, 3) := dk_182 0 170 (dk_at dksX9_goesOn_0 10 rfl rfl)
theorem dX9_goesOn_13 : decode cX9_goesOn 13 = .ok (.iinc 2 1, 3) := dk_132 2 1 (dk_at dksX9_goesOn_0 13 rfl rfl)
theorem dX9_goesOn_16 : decode cX9_goesOn 16 = .ok (.goto (-14), 3) := dk_167 255 242 (dk_at dksX9_goesOn_0 16 rfl rfl)
theorem dX9_goesOn_19 : decode cX9_goesOn 19 = .ok (.return_, 1) := dk_177 (dk_at dksX9_goesOn_0 19 rfl rfl)
abbrev cX9_later : ByteArray := prog_16_method_54_code
def yX9_later : MethodName := ⟨RX9, "later", "(I)I"⟩
def dkwX9_later_1 : List UInt8 := [172, 42, 182, 0, 192, 42, 27, 182, 0, 195, 42, 180, 0, 7, 16, 47, 46, 172]
abbrev dktX9_later_1 : List UInt8 := dkwX9_later_1 ++ []
def dkwX9_later_0 : List UInt8 := [42, 182, 0, 162, 154, 0, 6, 18, 161, 172, 27, 133, 9, 20, 0, 186, 184, 0, 44, 154, 0, 6, 18, 61]
abbrev dktX9_later_0 : List UInt8 := dkwX9_later_0 ++ dktX9_later_1
theorem dksX9_later_0 : cX9_later.data.toList.drop 0 = dktX9_later_0 := by decide +kernel
theorem dksX9_later_1 : cX9_later.data.toList.drop 24 = dktX9_later_1 := dk_seg dksX9_later_0 24 rfl rfl
theorem dX9_later_0 : decode cX9_later 0 = .ok (.aload_n 0, 1) := dk_42 (dk_at dksX9_later_0 0 rfl rfl)
theorem dX9_later_1 : decode cX9_later 1 = .ok (.invokevirtual 162, 3) := dk_182 0 162 (dk_at dksX9_later_0 1 rfl rfl)
theorem dX9_later_4 : decode cX9_later 4 = .ok (.ifCond .ne 6, 3) := dk_154 0 6 (dk_at dksX9_later_0 4 rfl rfl)
theorem dX9_later_7 : decode cX9_later 7 = .ok (.ldc 161, 2) := dk_18 161 (dk_at dksX9_later_0 7 rfl rfl)
theorem dX9_later_9 : decode cX9_later 9 = .ok (.ireturn, 1) := dk_172 (dk_at dksX9_later_0 9 rfl rfl)
theorem dX9_later_10 : decode cX9_later 10 = .ok (.iload_n 1, 1) := dk_27 (dk_at dksX9_later_0 10 rfl rfl)
theorem dX9_later_11 : decode cX9_later 11 = .ok (.i2l, 1) := dk_133 (dk_at dksX9_later_0 11 rfl rfl)
theorem dX9_later_12 : decode cX9_later 12 = .ok (.lconst 0, 1) := dk_9 (dk_at dksX9_later_0 12 rfl rfl)
theorem dX9_later_13 : decode cX9_later 13 = .ok (.ldc2_w 186, 3) := dk_20 0 186 (dk_at dksX9_later_0 13 rfl rfl)
theorem dX9_later_16 : decode cX9_later 16 = .ok (.invokestatic 44, 3) := dk_184 0 44 (dk_at dksX9_later_0 16 rfl rfl)
theorem dX9_later_19 : decode cX9_later 19 = .ok (.ifCond .ne 6, 3) := dk_154 0 6 (dk_at dksX9_later_0 19 rfl rfl)
theorem dX9_later_22 : decode cX9_later 22 = .ok (.ldc 61, 2) := dk_18 61 (dk_at dksX9_later_0 22 rfl rfl)
theorem dX9_later_24 : decode cX9_later 24 = .ok (.ireturn, 1) := dk_172 (dk_at dksX9_later_1 0 rfl rfl)
theorem dX9_later_25 : decode cX9_later 25 = .ok (.aload_n 0, 1) := dk_42 (dk_at dksX9_later_1 1 rfl rfl)
theorem dX9_later_26 : decode cX9_later 26 = .ok (.invokevirtual 192, 3) := dk_182 0 192 (dk_at dksX9_later_1 2 rfl rfl)
theorem dX9_later_29 : decode cX9_later 29 = .ok (.aload_n 0, 1) := dk_42 (dk_at dksX9_later_1 5 rfl rfl)
theorem dX9_later_30 : decode cX9_later 30 = .ok (.iload_n 1, 1) := dk_27 (dk_at dksX9_later_1 6 rfl rfl)
theorem dX9_later_31 : decode cX9_later 31 = .ok (.invokevirtual 195, 3) := dk_182 0 195 (dk_at dksX9_later_1 7 rfl rfl)
theorem dX9_later_34 : decode cX9_later 34 = .ok (.aload_n 0, 1) := dk_42 (dk_at dksX9_later_1 10 rfl rfl)
theorem dX9_later_35 : decode cX9_later 35 = .ok (.getfield 7, 3) := dk_180 0 7 (dk_at dksX9_later_1 11 rfl rfl)
theorem dX9_later_38 : decode cX9_later 38 = .ok (.bipush 47, 2) := dk_16 47 (dk_at dksX9_later_1 14 rfl rfl)
theorem dX9_later_40 : decode cX9_later 40 = .ok (.iaload, 1) := dk_46 (dk_at dksX9_later_1 16 rfl rfl)
theorem dX9_later_41 : decode cX9_later 41 = .ok (.ireturn, 1) := dk_172 (dk_at dksX9_later_1 17 rfl rfl)
abbrev cX9_when : ByteArray := prog_16_method_56_code
def yX9_when : MethodName := ⟨RX9, "when", "(I)I"⟩
def dkwX9_when_0 : List UInt8 := [42, 27, 182, 0, 183, 153, 0, 13, 42, 4, 27, 120, 182, 0, 199, 167, 0, 5, 18, 61, 172]
abbrev dktX9_when_0 : List UInt8 := dkwX9_when_0 ++ []
theorem dksX9_when_0 : cX9_when.data.toList.drop 0 = dktX9_when_0 := by decide +kernel
theorem dX9_when_0 : decode cX9_when 0 = .ok (.aload_n 0, 1) := dk_42 (dk_at dksX9_when_0 0 rfl rfl)
theorem dX9_when_1 : decode cX9_when 1 = .ok (.iload_n 1, 1) := dk_27 (dk_at dksX9_when_0 1 rfl rfl)
theorem dX9_when_2 : decode cX9_when 2 = .ok (.invokevirtual 183, 3) := dk_182 0 183 (dk_at dksX9_when_0 2 rfl rfl)
theorem dX9_when_5 : decode cX9_when 5 = .ok (.ifCond .eq 13, 3) := dk_153 0 13 (dk_at dksX9_when_0 5 rfl rfl)
theorem dX9_when_8 : decode cX9_when 8 = .ok (.aload_n 0, 1) := dk_42 (dk_at dksX9_when_0 8 rfl rfl)
theorem dX9_when_9 : decode cX9_when 9 = .ok (.iconst 1, 1) := dk_4 (dk_at dksX9_when_0 9 rfl rfl)
theorem dX9_when_10 : decode cX9_when 10 = .ok (.iload_n 1, 1) := dk_27 (dk_at dksX9_when_0 10 rfl rfl)
theorem dX9_when_11 : decode cX9_when 11 = .ok (.ishl, 1) := dk_120 (dk_at dksX9_when_0 11 rfl rfl)
theorem dX9_when_12 : decode cX9_when 12 = .ok (.invokevirtual 199, 3) := dk_182 0 199 (dk_at dksX9_when_0 12 rfl rfl)
theorem dX9_when_15 : decode cX9_when 15 = .ok (.goto 5, 3) := dk_167 0 5 (dk_at dksX9_when_0 15 rfl rfl)
theorem dX9_when_18 : decode cX9_when 18 = .ok (.ldc 61, 2) := dk_18 61 (dk_at dksX9_when_0 18 rfl rfl)
theorem dX9_when_20 : decode cX9_when 20 = .ok (.ireturn, 1) := dk_172 (dk_at dksX9_when_0 20 rfl rfl)
abbrev cX9_allServed : ByteArray := prog_16_method_55_code
def yX9_allServed : MethodName := ⟨RX9, "allServed", "(I)I"⟩
def dkwX9_allServed_1 : List UInt8 := [28, 172, 42, 16, 43, 182, 0, 170, 132, 2, 1, 167, 255, 227, 18, 198, 172]
abbrev dktX9_allServed_1 : List UInt8 := dkwX9_allServed_1 ++ []
def dkwX9_allServed_0 : List UInt8 := [42, 182, 0, 192, 3, 61, 28, 16, 60, 163, 0, 29, 42, 16, 43, 182, 0, 173, 27, 126, 27, 160, 0, 5]
abbrev dktX9_allServed_0 : List UInt8 := dkwX9_allServed_0 ++ dktX9_allServed_1
theorem dksX9_allServed_0 : cX9_allServed.data.toList.drop 0 = dktX9_allServed_0 := by decide +kernel
theorem dksX9_allServed_1 : cX9_allServed.data.toList.drop 24 = dktX9_allServed_1 := dk_seg dksX9_allServed_0 24 rfl rfl
theorem dX9_allServed_0 : decode cX9_allServed 0 = .ok (.aload_n 0, 1) := dk_42 (dk_at dksX9_allServed_0 0 rfl rfl)
theorem dX9_allServed_1 : decode cX9_allServed 1 = .ok (.invokevirtual 192, 3) := dk_182 0 192 (dk_at dksX9_allServed_0 1 rfl rfl)
theorem dX9_allServed_4 : decode cX9_allServed 4 = .ok (.iconst 0, 1) := dk_3 (dk_at dksX9_allServed_0 4 rfl rfl)
theorem dX9_allServed_5 : decode cX9_allServed 5 = .ok (.istore_n 2, 1) := dk_61 (dk_at dksX9_allServed_0 5 rfl rfl)
theorem dX9_allServed_6 : decode cX9_allServed 6 = .ok (.iload_n 2, 1) := dk_28 (dk_at dksX9_allServed_0 6 rfl rfl)
theorem dX9_allServed_7 : decode cX9_allServed 7 = .ok (.bipush 60, 2) := dk_16 60 (dk_at dksX9_allServed_0 7 rfl rfl)
theorem dX9_allServed_9 : decode cX9_allServed 9 = .ok (.if_icmp .gt 29, 3) := dk_163 0 29 (dk_at dksX9_allServed_0 9 rfl rfl)
theorem dX9_allServed_12 : decode cX9_allServed 12 = .ok (.aload_n 0, 1) := dk_42 (dk_at dksX9_allServed_0 12 rfl rfl)
theorem dX9_allServed_13 : decode cX9_allServed 13 = .ok (.bipush 43, 2) := dk_16 43 (dk_at dksX9_allServed_0 13 rfl rfl)
theorem dX9_allServed_15 : decode cX9_allServed 15 = .ok (.invokevirtual 173, 3) := dk_182 0 173 (dk_at dksX9_allServed_0 15 rfl rfl)
theorem dX9_allServed_18 : decode cX9_allServed 18 = .ok (.iload_n 1, 1) := dk_27 (dk_at dksX9_allServed_0 18 rfl rfl)
theorem dX9_allServed_19 : decode cX9_allServed 19 = .ok (.iand, 1) := dk_126 (dk_at dksX9_allServed_0 19 rfl rfl)
theorem dX9_allServed_20 : decode cX9_allServed 20 = .ok (.iload_n 1, 1) := dk_27 (dk_at dksX9_allServed_0 20 rfl rfl)
theorem dX9_allServed_21 : decode cX9_allServed 21 = .ok (.if_icmp .ne 5, 3) := dk_160 0 5 (dk_at dksX9_allServed_0 21 rfl rfl)
theorem dX9_allServed_24 : decode cX9_allServed 24 = .ok (.iload_n 2, 1) := dk_28 (dk_at dksX9_allServed_1 0 rfl rfl)
theorem dX9_allServed_25 : decode cX9_allServed 25 = .ok (.ireturn, 1) := dk_172 (dk_at dksX9_allServed_1 1 rfl rfl)
theorem dX9_allServed_26 : decode cX9_allServed 26 = .ok (.aload_n 0, 1) := dk_42 (dk_at dksX9_allServed_1 2 rfl rfl)
theorem dX9_allServed_27 : decode cX9_allServed 27 = .ok (.bipush 43, 2) := dk_16 43 (dk_at dksX9_allServed_1 3 rfl rfl)
theorem dX9_allServed_29 : decode cX9_allServed 29 = .ok (.invokevirtual 170, 3) := dk_182 0 170 (dk_at dksX9_allServed_1 5 rfl rfl)
theorem dX9_allServed_32 : decode cX9_allServed 32 = .ok (.iinc 2 1, 3) := dk_132 2 1 (dk_at dksX9_allServed_1 8 rfl rfl)
theorem dX9_allServed_35 : decode cX9_allServed 35 = .ok (.goto (-29), 3) := dk_167 255 227 (dk_at dksX9_allServed_1 11 rfl rfl)
theorem dX9_allServed_38 : decode cX9_allServed 38 = .ok (.ldc 198, 2) := dk_18 198 (dk_at dksX9_allServed_1 14 rfl rfl)
theorem dX9_allServed_40 : decode cX9_allServed 40 = .ok (.ireturn, 1) := dk_172 (dk_at dksX9_allServed_1 16 rfl rfl)
abbrev cX9_done : ByteArray := prog_16_method_57_code
def yX9_done : MethodName := ⟨RX9, "done", "()I"⟩
def dkwX9_done_1 : List UInt8 := [18, 161, 172]
abbrev dktX9_done_1 : List UInt8 := dkwX9_done_1 ++ []
def dkwX9_done_0 : List UInt8 := [42, 182, 0, 162, 153, 0, 20, 42, 4, 42, 180, 0, 7, 3, 46, 120, 4, 100, 182, 0, 199, 167, 0, 5]
abbrev dktX9_done_0 : List UInt8 := dkwX9_done_0 ++ dktX9_done_1
theorem dksX9_done_0 : cX9_done.data.toList.drop 0 = dktX9_done_0 := by decide +kernel
theorem dksX9_done_1 : cX9_done.data.toList.drop 24 = dktX9_done_1 := dk_seg dksX9_done_0 24 rfl rfl
theorem dX9_done_0 : decode cX9_done 0 = .ok (.aload_n 0, 1) := dk_42 (dk_at dksX9_done_0 0 rfl rfl)
theorem dX9_done_1 : decode cX9_done 1 = .ok (.invokevirtual 162, 3) := dk_182 0 162 (dk_at dksX9_done_0 1 rfl rfl)
theorem dX9_done_4 : decode cX9_done 4 = .ok (.ifCond .eq 20, 3) := dk_153 0 20 (dk_at dksX9_done_0 4 rfl rfl)
theorem dX9_done_7 : decode cX9_done 7 = .ok (.aload_n 0, 1) := dk_42 (dk_at dksX9_done_0 7 rfl rfl)
theorem dX9_done_8 : decode cX9_done 8 = .ok (.iconst 1, 1) := dk_4 (dk_at dksX9_done_0 8 rfl rfl)
theorem dX9_done_9 : decode cX9_done 9 = .ok (.aload_n 0, 1) := dk_42 (dk_at dksX9_done_0 9 rfl rfl)
theorem dX9_done_10 : decode cX9_done 10 = .ok (.getfield 7, 3) := dk_180 0 7 (dk_at dksX9_done_0 10 rfl rfl)
theorem dX9_done_13 : decode cX9_done 13 = .ok (.iconst 0, 1) := dk_3 (dk_at dksX9_done_0 13 rfl rfl)
theorem dX9_done_14 : decode cX9_done 14 = .ok (.iaload, 1) := dk_46 (dk_at dksX9_done_0 14 rfl rfl)
theorem dX9_done_15 : decode cX9_done 15 = .ok (.ishl, 1) := dk_120 (dk_at dksX9_done_0 15 rfl rfl)
theorem dX9_done_16 : decode cX9_done 16 = .ok (.iconst 1, 1) := dk_4 (dk_at dksX9_done_0 16 rfl rfl)
theorem dX9_done_17 : decode cX9_done 17 = .ok (.isub, 1) := dk_100 (dk_at dksX9_done_0 17 rfl rfl)
theorem dX9_done_18 : decode cX9_done 18 = .ok (.invokevirtual 199, 3) := dk_182 0 199 (dk_at dksX9_done_0 18 rfl rfl)
theorem dX9_done_21 : decode cX9_done 21 = .ok (.goto 5, 3) := dk_167 0 5 (dk_at dksX9_done_0 21 rfl rfl)
theorem dX9_done_24 : decode cX9_done 24 = .ok (.ldc 161, 2) := dk_18 161 (dk_at dksX9_done_1 0 rfl rfl)
theorem dX9_done_26 : decode cX9_done 26 = .ok (.ireturn, 1) := dk_172 (dk_at dksX9_done_1 2 rfl rfl)
abbrev cX9_fine : ByteArray := prog_16_method_58_code
def yX9_fine : MethodName := ⟨RX9, "fine", "(I)I"⟩
def dkwX9_fine_1 : List UInt8 := [172, 42, 182, 0, 192, 42, 27, 182, 0, 195, 42, 16, 43, 182, 0, 202, 172]
abbrev dktX9_fine_1 : List UInt8 := dkwX9_fine_1 ++ []
def dkwX9_fine_0 : List UInt8 := [42, 182, 0, 162, 154, 0, 6, 18, 161, 172, 27, 133, 9, 20, 0, 186, 184, 0, 44, 154, 0, 6, 18, 61]
abbrev dktX9_fine_0 : List UInt8 := dkwX9_fine_0 ++ dktX9_fine_1
theorem dksX9_fine_0 : cX9_fine.data.toList.drop 0 = dktX9_fine_0 := by decide +kernel
theorem dksX9_fine_1 : cX9_fine.data.toList.drop 24 = dktX9_fine_1 := dk_seg dksX9_fine_0 24 rfl rfl
theorem dX9_fine_0 : decode cX9_fine 0 = .ok (.aload_n 0, 1) := dk_42 (dk_at dksX9_fine_0 0 rfl rfl)
theorem dX9_fine_1 : decode cX9_fine 1 = .ok (.invokevirtual 162, 3) := dk_182 0 162 (dk_at dksX9_fine_0 1 rfl rfl)
theorem dX9_fine_4 : decode cX9_fine 4 = .ok (.ifCond .ne 6, 3) := dk_154 0 6 (dk_at dksX9_fine_0 4 rfl rfl)
theorem dX9_fine_7 : decode cX9_fine 7 = .ok (.ldc 161, 2) := dk_18 161 (dk_at dksX9_fine_0 7 rfl rfl)
theorem dX9_fine_9 : decode cX9_fine 9 = .ok (.ireturn, 1) := dk_172 (dk_at dksX9_fine_0 9 rfl rfl)
theorem dX9_fine_10 : decode cX9_fine 10 = .ok (.iload_n 1, 1) := dk_27 (dk_at dksX9_fine_0 10 rfl rfl)
theorem dX9_fine_11 : decode cX9_fine 11 = .ok (.i2l, 1) := dk_133 (dk_at dksX9_fine_0 11 rfl rfl)
theorem dX9_fine_12 : decode cX9_fine 12 = .ok (.lconst 0, 1) := dk_9 (dk_at dksX9_fine_0 12 rfl rfl)
theorem dX9_fine_13 : decode cX9_fine 13 = .ok (.ldc2_w 186, 3) := dk_20 0 186 (dk_at dksX9_fine_0 13 rfl rfl)
theorem dX9_fine_16 : decode cX9_fine 16 = .ok (.invokestatic 44, 3) := dk_184 0 44 (dk_at dksX9_fine_0 16 rfl rfl)
theorem dX9_fine_19 : decode cX9_fine 19 = .ok (.ifCond .ne 6, 3) := dk_154 0 6 (dk_at dksX9_fine_0 19 rfl rfl)
theorem dX9_fine_22 : decode cX9_fine 22 = .ok (.ldc 61, 2) := dk_18 61 (dk_at dksX9_fine_0 22 rfl rfl)
theorem dX9_fine_24 : decode cX9_fine 24 = .ok (.ireturn, 1) := dk_172 (dk_at dksX9_fine_1 0 rfl rfl)
theorem dX9_fine_25 : decode cX9_fine 25 = .ok (.aload_n 0, 1) := dk_42 (dk_at dksX9_fine_1 1 rfl rfl)
theorem dX9_fine_26 : decode cX9_fine 26 = .ok (.invokevirtual 192, 3) := dk_182 0 192 (dk_at dksX9_fine_1 2 rfl rfl)
theorem dX9_fine_29 : decode cX9_fine 29 = .ok (.aload_n 0, 1) := dk_42 (dk_at dksX9_fine_1 5 rfl rfl)
theorem dX9_fine_30 : decode cX9_fine 30 = .ok (.iload_n 1, 1) := dk_27 (dk_at dksX9_fine_1 6 rfl rfl)
theorem dX9_fine_31 : decode cX9_fine 31 = .ok (.invokevirtual 195, 3) := dk_182 0 195 (dk_at dksX9_fine_1 7 rfl rfl)
theorem dX9_fine_34 : decode cX9_fine 34 = .ok (.aload_n 0, 1) := dk_42 (dk_at dksX9_fine_1 10 rfl rfl)
theorem dX9_fine_35 : decode cX9_fine 35 = .ok (.bipush 43, 2) := dk_16 43 (dk_at dksX9_fine_1 11 rfl rfl)
theorem dX9_fine_37 : decode cX9_fine 37 = .ok (.invokevirtual 202, 3) := dk_182 0 202 (dk_at dksX9_fine_1 13 rfl rfl)
theorem dX9_fine_40 : decode cX9_fine 40 = .ok (.ireturn, 1) := dk_172 (dk_at dksX9_fine_1 16 rfl rfl)
abbrev cX9_fineOf : ByteArray := prog_16_method_38_code
def yX9_fineOf : MethodName := ⟨RX9, "fineOf", "(I)I"⟩
def dkwX9_fineOf_3 : List UInt8 := [132, 3, 1, 167, 255, 187, 28, 172]
abbrev dktX9_fineOf_3 : List UInt8 := dkwX9_fineOf_3 ++ []
def dkwX9_fineOf_2 : List UInt8 := [27, 16, 31, 96, 29, 96, 46, 184, 0, 158, 153, 0, 9, 4, 29, 120, 167, 0, 4, 3, 128, 61]
abbrev dktX9_fineOf_2 : List UInt8 := dkwX9_fineOf_2 ++ dktX9_fineOf_3
def dkwX9_fineOf_1 : List UInt8 := [96, 29, 96, 46, 16, 11, 160, 0, 37, 42, 180, 0, 7, 27, 16, 7, 96, 29, 96, 46, 42, 180, 0, 7]
abbrev dktX9_fineOf_1 : List UInt8 := dkwX9_fineOf_1 ++ dktX9_fineOf_2
def dkwX9_fineOf_0 : List UInt8 := [3, 61, 3, 62, 29, 42, 180, 0, 7, 27, 3, 96, 46, 162, 0, 63, 28, 42, 180, 0, 7, 27, 16, 13]
abbrev dktX9_fineOf_0 : List UInt8 := dkwX9_fineOf_0 ++ dktX9_fineOf_1
theorem dksX9_fineOf_0 : cX9_fineOf.data.toList.drop 0 = dktX9_fineOf_0 := by decide +kernel
theorem dksX9_fineOf_1 : cX9_fineOf.data.toList.drop 24 = dktX9_fineOf_1 := dk_seg dksX9_fineOf_0 24 rfl rfl
theorem dksX9_fineOf_2 : cX9_fineOf.data.toList.drop 48 = dktX9_fineOf_2 := dk_seg dksX9_fineOf_1 24 rfl rfl
theorem dksX9_fineOf_3 : cX9_fineOf.data.toList.drop 70 = dktX9_fineOf_3 := dk_seg dksX9_fineOf_2 22 rfl rfl
theorem dX9_fineOf_0 : decode cX9_fineOf 0 = .ok (.iconst 0, 1) := dk_3 (dk_at dksX9_fineOf_0 0 rfl rfl)
theorem dX9_fineOf_1 : decode cX9_fineOf 1 = .ok (.istore_n 2, 1) := dk_61 (dk_at dksX9_fineOf_0 1 rfl rfl)
theorem dX9_fineOf_2 : decode cX9_fineOf 2 = .ok (.iconst 0, 1) := dk_3 (dk_at dksX9_fineOf_0 2 rfl rfl)
theorem dX9_fineOf_3 : decode cX9_fineOf 3 = .ok (.istore_n 3, 1) := dk_62 (dk_at dksX9_fineOf_0 3 rfl rfl)
theorem dX9_fineOf_4 : decode cX9_fineOf 4 = .ok (.iload_n 3, 1) := dk_29 (dk_at dksX9_fineOf_0 4 rfl rfl)
theorem dX9_fineOf_5 : decode cX9_fineOf 5 = .ok (.aload_n 0, 1) := dk_42 (dk_at dksX9_fineOf_0 5 rfl rfl)
theorem dX9_fineOf_6 : decode cX9_fineOf 6 = .ok (.getfield 7, 3) := dk_180 0 7 (dk_at dksX9_fineOf_0 6 rfl rfl)
theorem dX9_fineOf_9 : decode cX9_fineOf 9 = .ok (.iload_n 1, 1) := dk_27 (dk_at dksX9_fineOf_0 9 rfl rfl)
theorem dX9_fineOf_10 : decode cX9_fineOf 10 = .ok (.iconst 0, 1) := dk_3 (dk_at dksX9_fineOf_0 10 rfl rfl)
theorem dX9_fineOf_11 : decode cX9_fineOf 11 = .ok (.iadd, 1) := dk_96 (dk_at dksX9_fineOf_0 11 rfl rfl)
theorem dX9_fineOf_12 : decode cX9_fineOf 12 = .ok (.iaload, 1) := dk_46 (dk_at dksX9_fineOf_0 12 rfl rfl)
theorem dX9_fineOf_13 : decode cX9_fineOf 13 = .ok (.if_icmp .ge 63, 3) := dk_162 0 63 (dk_at dksX9_fineOf_0 13 rfl rfl)
theorem dX9_fineOf_16 : decode cX9_fineOf 16 = .ok (.iload_n 2, 1) := dk_28 (dk_at dksX9_fineOf_0 16 rfl rfl)
theorem dX9_fineOf_17 : decode cX9_fineOf 17 = .ok (.aload_n 0, 1) := dk_42 (dk_at dksX9_fineOf_0 17 rfl rfl)
theorem dX9_fineOf_18 : decode cX9_fineOf 18 = .ok (.getfield 7, 3) := dk_180 0 7 (dk_at dksX9_fineOf_0 18 rfl rfl)
theorem dX9_fineOf_21 : decode cX9_fineOf 21 = .ok (.iload_n 1, 1) := dk_27 (dk_at dksX9_fineOf_0 21 rfl rfl)
theorem dX9_fineOf_22 : decode cX9_fineOf 22 = .ok (.bipush 13, 2) := dk_16 13 (dk_at dksX9_fineOf_0 22 rfl rfl)
theorem dX9_fineOf_24 : decode cX9_fineOf 24 = .ok (.iadd, 1) := dk_96 (dk_at dksX9_fineOf_1 0 rfl rfl)
theorem dX9_fineOf_25 : decode cX9_fineOf 25 = .ok (.iload_n 3, 1) := dk_29 (dk_at dksX9_fineOf_1 1 rfl rfl)
theorem dX9_fineOf_26 : decode cX9_fineOf 26 = .ok (.iadd, 1) := dk_96 (dk_at dksX9_fineOf_1 2 rfl rfl)
theorem dX9_fineOf_27 : decode cX9_fineOf 27 = .ok (.iaload, 1) := dk_46 (dk_at dksX9_fineOf_1 3 rfl rfl)
theorem dX9_fineOf_28 : decode cX9_fineOf 28 = .ok (.bipush 11, 2) := dk_16 11 (dk_at dksX9_fineOf_1 4 rfl rfl)
theorem dX9_fineOf_30 : decode cX9_fineOf 30 = .ok (.if_icmp .ne 37, 3) := dk_160 0 37 (dk_at dksX9_fineOf_1 6 rfl rfl)
theorem dX9_fineOf_33 : decode cX9_fineOf 33 = .ok (.aload_n 0, 1) := dk_42 (dk_at dksX9_fineOf_1 9 rfl rfl)
theorem dX9_fineOf_34 : decode cX9_fineOf 34 = .ok (.getfield 7, 3) := dk_180 0 7 (dk_at dksX9_fineOf_1 10 rfl rfl)
theorem dX9_fineOf_37 : decode cX9_fineOf 37 = .ok (.iload_n 1, 1) := dk_27 (dk_at dksX9_fineOf_1 13 rfl rfl)
theorem dX9_fineOf_38 : decode cX9_fineOf 38 = .ok (.bipush 7, 2) := dk_16 7 (dk_at dksX9_fineOf_1 14 rfl rfl)
theorem dX9_fineOf_40 : decode cX9_fineOf 40 = .ok (.iadd, 1) := dk_96 (dk_at dksX9_fineOf_1 16 rfl rfl)
theorem dX9_fineOf_41 : decode cX9_fineOf 41 = .ok (.iload_n 3, 1) := dk_29 (dk_at dksX9_fineOf_1 17 rfl rfl)
theorem dX9_fineOf_42 : decode cX9_fineOf 42 = .ok (.iadd, 1) := dk_96 (dk_at dksX9_fineOf_1 18 rfl rfl)
theorem dX9_fineOf_43 : decode cX9_fineOf 43 = .ok (.iaload, 1) := dk_46 (dk_at dksX9_fineOf_1 19 rfl rfl)
theorem dX9_fineOf_44 : decode cX9_fineOf 44 = .ok (.aload_n 0, 1) := dk_42 (dk_at dksX9_fineOf_1 20 rfl rfl)
theorem dX9_fineOf_45 : decode cX9_fineOf 45 = .ok (.getfield 7, 3) := dk_180 0 7 (dk_at dksX9_fineOf_1 21 rfl rfl)
theorem dX9_fineOf_48 : decode cX9_fineOf 48 = .ok (.iload_n 1, 1) := dk_27 (dk_at dksX9_fineOf_2 0 rfl rfl)
theorem dX9_fineOf_49 : decode cX9_fineOf 49 = .ok (.bipush 31, 2) := dk_16 31 (dk_at dksX9_fineOf_2 1 rfl rfl)
theorem dX9_fineOf_51 : decode cX9_fineOf 51 = .ok (.iadd, 1) := dk_96 (dk_at dksX9_fineOf_2 3 rfl rfl)
theorem dX9_fineOf_52 : decode cX9_fineOf 52 = .ok (.iload_n 3, 1) := dk_29 (dk_at dksX9_fineOf_2 4 rfl rfl)
theorem dX9_fineOf_53 : decode cX9_fineOf 53 = .ok (.iadd, 1) := dk_96 (dk_at dksX9_fineOf_2 5 rfl rfl)
theorem dX9_fineOf_54 : decode cX9_fineOf 54 = .ok (.iaload, 1) := dk_46 (dk_at dksX9_fineOf_2 6 rfl rfl)
theorem dX9_fineOf_55 : decode cX9_fineOf 55 = .ok (.invokestatic 158, 3) := dk_184 0 158 (dk_at dksX9_fineOf_2 7 rfl rfl)
theorem dX9_fineOf_58 : decode cX9_fineOf 58 = .ok (.ifCond .eq 9, 3) := dk_153 0 9 (dk_at dksX9_fineOf_2 10 rfl rfl)
theorem dX9_fineOf_61 : decode cX9_fineOf 61 = .ok (.iconst 1, 1) := dk_4 (dk_at dksX9_fineOf_2 13 rfl rfl)
theorem dX9_fineOf_62 : decode cX9_fineOf 62 = .ok (.iload_n 3, 1) := dk_29 (dk_at dksX9_fineOf_2 14 rfl rfl)
theorem dX9_fineOf_63 : decode cX9_fineOf 63 = .ok (.ishl, 1) := dk_120 (dk_at dksX9_fineOf_2 15 rfl rfl)
theorem dX9_fineOf_64 : decode cX9_fineOf 64 = .ok (.goto 4, 3) := dk_167 0 4 (dk_at dksX9_fineOf_2 16 rfl rfl)
theorem dX9_fineOf_67 : decode cX9_fineOf 67 = .ok (.iconst 0, 1) := dk_3 (dk_at dksX9_fineOf_2 19 rfl rfl)
theorem dX9_fineOf_68 : decode cX9_fineOf 68 = .ok (.ior, 1) := dk_128 (dk_at dksX9_fineOf_2 20 rfl rfl)
theorem dX9_fineOf_69 : decode cX9_fineOf 69 = .ok (.istore_n 2, 1) := dk_61 (dk_at dksX9_fineOf_2 21 rfl rfl)
theorem dX9_fineOf_70 : decode cX9_fineOf 70 = .ok (.iinc 3 1, 3) := dk_132 3 1 (dk_at dksX9_fineOf_3 0 rfl rfl)
theorem dX9_fineOf_73 : decode cX9_fineOf 73 = .ok (.goto (-69), 3) := dk_167 255 187 (dk_at dksX9_fineOf_3 3 rfl rfl)
theorem dX9_fineOf_76 : decode cX9_fineOf 76 = .ok (.iload_n 2, 1) := dk_28 (dk_at dksX9_fineOf_3 6 rfl rfl)
theorem dX9_fineOf_77 : decode cX9_fineOf 77 = .ok (.ireturn, 1) := dk_172 (dk_at dksX9_fineOf_3 7 rfl rfl)
abbrev cX9_site : ByteArray := prog_16_method_59_code
def yX9_site : MethodName := ⟨RX9, "site", "(II)I"⟩
def dkwX9_site_5 : List UInt8 := [167, 255, 183, 28, 154, 0, 7, 29, 167, 0, 5, 21, 4, 172]
abbrev dktX9_site_5 : List UInt8 := dkwX9_site_5 ++ []
def dkwX9_site_4 : List UInt8 := [167, 0, 4, 29, 62, 21, 6, 21, 4, 164, 0, 8, 21, 6, 167, 0, 5, 21, 4, 54, 4, 132, 5, 1]
abbrev dktX9_site_4 : List UInt8 := dkwX9_site_4 ++ dktX9_site_5
def dkwX9_site_3 : List UInt8 := [182, 0, 195, 42, 16, 43, 182, 0, 202, 184, 0, 133, 54, 6, 21, 6, 21, 4, 164, 0, 8, 21, 5]
abbrev dktX9_site_3 : List UInt8 := dkwX9_site_3 ++ dktX9_site_4
def dkwX9_site_2 : List UInt8 := [180, 0, 7, 4, 46, 162, 0, 68, 42, 182, 0, 192, 42, 180, 0, 7, 16, 47, 21, 5, 79, 42, 27]
abbrev dktX9_site_2 : List UInt8 := dkwX9_site_2 ++ dktX9_site_3
def dkwX9_site_1 : List UInt8 := [9, 10, 184, 0, 44, 154, 0, 6, 18, 61, 172, 3, 62, 2, 54, 4, 3, 54, 5, 21, 5, 42]
abbrev dktX9_site_1 : List UInt8 := dkwX9_site_1 ++ dktX9_site_2
def dkwX9_site_0 : List UInt8 := [42, 182, 0, 162, 154, 0, 6, 18, 161, 172, 27, 133, 10, 20, 0, 179, 184, 0, 44, 153, 0, 13, 28, 133]
abbrev dktX9_site_0 : List UInt8 := dkwX9_site_0 ++ dktX9_site_1
theorem dksX9_site_0 : cX9_site.data.toList.drop 0 = dktX9_site_0 := by decide +kernel
theorem dksX9_site_1 : cX9_site.data.toList.drop 24 = dktX9_site_1 := dk_seg dksX9_site_0 24 rfl rfl
theorem dksX9_site_2 : cX9_site.data.toList.drop 46 = dktX9_site_2 := dk_seg dksX9_site_1 22 rfl rfl
theorem dksX9_site_3 : cX9_site.data.toList.drop 69 = dktX9_site_3 := dk_seg dksX9_site_2 23 rfl rfl
theorem dksX9_site_4 : cX9_site.data.toList.drop 92 = dktX9_site_4 := dk_seg dksX9_site_3 23 rfl rfl
theorem dksX9_site_5 : cX9_site.data.toList.drop 116 = dktX9_site_5 := dk_seg dksX9_site_4 24 rfl rfl
theorem dX9_site_0 : decode cX9_site 0 = .ok (.aload_n 0, 1) := dk_42 (dk_at dksX9_site_0 0 rfl rfl)
theorem dX9_site_1 : decode cX9_site 1 = .ok (.invokevirtual 162, 3) := dk_182 0 162 (dk_at dksX9_site_0 1 rfl rfl)
theorem dX9_site_4 : decode cX9_site 4 = .ok (.ifCond .ne 6, 3) := dk_154 0 6 (dk_at dksX9_site_0 4 rfl rfl)
theorem dX9_site_7 : decode cX9_site 7 = .ok (.ldc 161, 2) := dk_18 161 (dk_at dksX9_site_0 7 rfl rfl)
theorem dX9_site_9 : decode cX9_site 9 = .ok (.ireturn, 1) := dk_172 (dk_at dksX9_site_0 9 rfl rfl)
theorem dX9_site_10 : decode cX9_site 10 = .ok (.iload_n 1, 1) := dk_27 (dk_at dksX9_site_0 10 rfl rfl)
theorem dX9_site_11 : decode cX9_site 11 = .ok (.i2l, 1) := dk_133 (dk_at dksX9_site_0 11 rfl rfl)
theorem dX9_site_12 : decode cX9_site 12 = .ok (.lconst 1, 1) := dk_10 (dk_at dksX9_site_0 12 rfl rfl)
theorem dX9_site_13 : decode cX9_site 13 = .ok (.ldc2_w 179, 3) := dk_20 0 179 (dk_at dksX9_site_0 13 rfl rfl)
theorem dX9_site_16 : decode cX9_site 16 = .ok (.invokestatic 44, 3) := dk_184 0 44 (dk_at dksX9_site_0 16 rfl rfl)
theorem dX9_site_19 : decode cX9_site 19 = .ok (.ifCond .eq 13, 3) := dk_153 0 13 (dk_at dksX9_site_0 19 rfl rfl)
theorem dX9_site_22 : decode cX9_site 22 = .ok (.iload_n 2, 1) := dk_28 (dk_at dksX9_site_0 22 rfl rfl)
theorem dX9_site_23 : decode cX9_site 23 = .ok (.i2l, 1) := dk_133 (dk_at dksX9_site_0 23 rfl rfl)
theorem dX9_site_24 : decode cX9_site 24 = .ok (.lconst 0, 1) := dk_9 (dk_at dksX9_site_1 0 rfl rfl)
theorem dX9_site_25 : decode cX9_site 25 = .ok (.lconst 1, 1) := dk_10 (dk_at dksX9_site_1 1 rfl rfl)
theorem dX9_site_26 : decode cX9_site 26 = .ok (.invokestatic 44, 3) := dk_184 0 44 (dk_at dksX9_site_1 2 rfl rfl)
theorem dX9_site_29 : decode cX9_site 29 = .ok (.ifCond .ne 6, 3) := dk_154 0 6 (dk_at dksX9_site_1 5 rfl rfl)
theorem dX9_site_32 : decode cX9_site 32 = .ok (.ldc 61, 2) := dk_18 61 (dk_at dksX9_site_1 8 rfl rfl)
theorem dX9_site_34 : decode cX9_site 34 = .ok (.ireturn, 1) := dk_172 (dk_at dksX9_site_1 10 rfl rfl)
theorem dX9_site_35 : decode cX9_site 35 = .ok (.iconst 0, 1) := dk_3 (dk_at dksX9_site_1 11 rfl rfl)
theorem dX9_site_36 : decode cX9_site 36 = .ok (.istore_n 3, 1) := dk_62 (dk_at dksX9_site_1 12 rfl rfl)
theorem dX9_site_37 : decode cX9_site 37 = .ok (.iconst (-1), 1) := dk_2 (dk_at dksX9_site_1 13 rfl rfl)
theorem dX9_site_38 : decode cX9_site 38 = .ok (.istore 4, 2) := dk_54 4 (dk_at dksX9_site_1 14 rfl rfl)
theorem dX9_site_40 : decode cX9_site 40 = .ok (.iconst 0, 1) := dk_3 (dk_at dksX9_site_1 16 rfl rfl)
theorem dX9_site_41 : decode cX9_site 41 = .ok (.istore 5, 2) := dk_54 5 (dk_at dksX9_site_1 17 rfl rfl)
theorem dX9_site_43 : decode cX9_site 43 = .ok (.iload 5, 2) := dk_21 5 (dk_at dksX9_site_1 19 rfl rfl)
theorem dX9_site_45 : decode cX9_site 45 = .ok (.aload_n 0, 1) := dk_42 (dk_at dksX9_site_1 21 rfl rfl)
theorem dX9_site_46 : decode cX9_site 46 = .ok (.getfield 7, 3) := dk_180 0 7 (dk_at dksX9_site_2 0 rfl rfl)
theorem dX9_site_49 : decode cX9_site 49 = .ok (.iconst 1, 1) := dk_4 (dk_at dksX9_site_2 3 rfl rfl)
theorem dX9_site_50 : decode cX9_site 50 = .ok (.iaload, 1) := dk_46 (dk_at dksX9_site_2 4 rfl rfl)
theorem dX9_site_51 : decode cX9_site 51 = .ok (.if_icmp .ge 68, 3) := dk_162 0 68 (dk_at dksX9_site_2 5 rfl rfl)
theorem dX9_site_54 : decode cX9_site 54 = .ok (.aload_n 0, 1) := dk_42 (dk_at dksX9_site_2 8 rfl rfl)
theorem dX9_site_55 : decode cX9_site 55 = .ok (.invokevirtual 192, 3) := dk_182 0 192 (dk_at dksX9_site_2 9 rfl rfl)
theorem dX9_site_58 : decode cX9_site 58 = .ok (.aload_n 0, 1) := dk_42 (dk_at dksX9_site_2 12 rfl rfl)
theorem dX9_site_59 : decode cX9_site 59 = .ok (.getfield 7, 3) := dk_180 0 7 (dk_at dksX9_site_2 13 rfl rfl)
theorem dX9_site_62 : decode cX9_site 62 = .ok (.bipush 47, 2) := dk_16 47 (dk_at dksX9_site_2 16 rfl rfl)
theorem dX9_site_64 : decode cX9_site 64 = .ok (.iload 5, 2) := dk_21 5 (dk_at dksX9_site_2 18 rfl rfl)
theorem dX9_site_66 : decode cX9_site 66 = .ok (.iastore, 1) := dk_79 (dk_at dksX9_site_2 20 rfl rfl)
theorem dX9_site_67 : decode cX9_site 67 = .ok (.aload_n 0, 1) := dk_42 (dk_at dksX9_site_2 21 rfl rfl)
theorem dX9_site_68 : decode cX9_site 68 = .ok (.iload_n 1, 1) := dk_27 (dk_at dksX9_site_2 22 rfl rfl)
theorem dX9_site_69 : decode cX9_site 69 = .ok (.invokevirtual 195, 3) := dk_182 0 195 (dk_at dksX9_site_3 0 rfl rfl)
theorem dX9_site_72 : decode cX9_site 72 = .ok (.aload_n 0, 1) := dk_42 (dk_at dksX9_site_3 3 rfl rfl)
theorem dX9_site_73 : decode cX9_site 73 = .ok (.bipush 43, 2) := dk_16 43 (dk_at dksX9_site_3 4 rfl rfl)
theorem dX9_site_75 : decode cX9_site 75 = .ok (.invokevirtual 202, 3) := dk_182 0 202 (dk_at dksX9_site_3 6 rfl rfl)
theorem dX9_site_78 : decode cX9_site 78 = .ok (.invokestatic 133, 3) := dk_184 0 133 (dk_at dksX9_site_3 9 rfl rfl)
theorem dX9_site_81 : decode cX9_site 81 = .ok (.istore 6, 2) := dk_54 6 (dk_at dksX9_site_3 12 rfl rfl)
theorem dX9_site_83 : decode cX9_site 83 = .ok (.iload 6, 2) := dk_21 6 (dk_at dksX9_site_3 14 rfl rfl)
theorem dX9_site_85 : decode cX9_site 85 = .ok (.iload 4, 2) := dk_21 4 (dk_at dksX9_site_3 16 rfl rfl)
theorem dX9_site_87 : decode cX9_site 87 = .ok (.if_icmp .le 8, 3) := dk_164 0 8 (dk_at dksX9_site_3 18 rfl rfl)
theorem dX9_site_90 : decode cX9_site 90 = .ok (.iload 5, 2) := dk_21 5 (dk_at dksX9_site_3 21 rfl rfl)
theorem dX9_site_92 : decode cX9_site 92 = .ok (.goto 4, 3) := dk_167 0 4 (dk_at dksX9_site_4 0 rfl rfl)
theorem dX9_site_95 : decode cX9_site 95 = .ok (.iload_n 3, 1) := dk_29 (dk_at dksX9_site_4 3 rfl rfl)
theorem dX9_site_96 : decode cX9_site 96 = .ok (.istore_n 3, 1) := dk_62 (dk_at dksX9_site_4 4 rfl rfl)
theorem dX9_site_97 : decode cX9_site 97 = .ok (.iload 6, 2) := dk_21 6 (dk_at dksX9_site_4 5 rfl rfl)
theorem dX9_site_99 : decode cX9_site 99 = .ok (.iload 4, 2) := dk_21 4 (dk_at dksX9_site_4 7 rfl rfl)
theorem dX9_site_101 : decode cX9_site 101 = .ok (.if_icmp .le 8, 3) := dk_164 0 8 (dk_at dksX9_site_4 9 rfl rfl)
theorem dX9_site_104 : decode cX9_site 104 = .ok (.iload 6, 2) := dk_21 6 (dk_at dksX9_site_4 12 rfl rfl)
theorem dX9_site_106 : decode cX9_site 106 = .ok (.goto 5, 3) := dk_167 0 5 (dk_at dksX9_site_4 14 rfl rfl)
theorem dX9_site_109 : decode cX9_site 109 = .ok (.iload 4, 2) := dk_21 4 (dk_at dksX9_site_4 17 rfl rfl)
theorem dX9_site_111 : decode cX9_site 111 = .ok (.istore 4, 2) := dk_54 4 (dk_at dksX9_site_4 19 rfl rfl)
theorem dX9_site_113 : decode cX9_site 113 = .ok (.iinc 5 1, 3) := dk_132 5 1 (dk_at dksX9_site_4 21 rfl rfl)
theorem dX9_site_116 : decode cX9_site 116 = .ok (.goto (-73), 3) := dk_167 255 183 (dk_at dksX9_site_5 0 rfl rfl)
theorem dX9_site_119 : decode cX9_site 119 = .ok (.iload_n 2, 1) := dk_28 (dk_at dksX9_site_5 3 rfl rfl)
theorem dX9_site_120 : decode cX9_site 120 = .ok (.ifCond .ne 7, 3) := dk_154 0 7 (dk_at dksX9_site_5 4 rfl rfl)
theorem dX9_site_123 : decode cX9_site 123 = .ok (.iload_n 3, 1) := dk_29 (dk_at dksX9_site_5 7 rfl rfl)
theorem dX9_site_124 : decode cX9_site 124 = .ok (.goto 5, 3) := dk_167 0 5 (dk_at dksX9_site_5 8 rfl rfl)
theorem dX9_site_127 : decode cX9_site 127 = .ok (.iload 4, 2) := dk_21 4 (dk_at dksX9_site_5 11 rfl rfl)
theorem dX9_site_129 : decode cX9_site 129 = .ok (.ireturn, 1) := dk_172 (dk_at dksX9_site_5 13 rfl rfl)
abbrev cX9_need : ByteArray := prog_16_method_60_code
def yX9_need : MethodName := ⟨RX9, "need", "(II)I"⟩
def dkwX9_need_4 : List UInt8 := [3, 46, 120, 4, 100, 160, 0, 6, 21, 4, 172, 132, 4, 1, 167, 255, 197, 18, 198, 172]
abbrev dktX9_need_4 : List UInt8 := dkwX9_need_4 ++ []
def dkwX9_need_3 : List UInt8 := [167, 0, 4, 6, 96, 21, 4, 79, 42, 27, 182, 0, 195, 42, 16, 43, 182, 0, 173, 4, 42, 180, 0, 7]
abbrev dktX9_need_3 : List UInt8 := dkwX9_need_3 ++ dktX9_need_4
def dkwX9_need_2 : List UInt8 := [54, 4, 21, 4, 29, 163, 0, 59, 42, 182, 0, 192, 42, 180, 0, 7, 16, 43, 28, 154, 0, 7, 5]
abbrev dktX9_need_2 : List UInt8 := dkwX9_need_2 ++ dktX9_need_3
def dkwX9_need_1 : List UInt8 := [9, 10, 184, 0, 44, 154, 0, 6, 18, 61, 172, 28, 154, 0, 7, 7, 167, 0, 5, 16, 40, 62, 4]
abbrev dktX9_need_1 : List UInt8 := dkwX9_need_1 ++ dktX9_need_2
def dkwX9_need_0 : List UInt8 := [42, 182, 0, 162, 154, 0, 6, 18, 161, 172, 27, 133, 10, 20, 0, 179, 184, 0, 44, 153, 0, 13, 28, 133]
abbrev dktX9_need_0 : List UInt8 := dkwX9_need_0 ++ dktX9_need_1
theorem dksX9_need_0 : cX9_need.data.toList.drop 0 = dktX9_need_0 := by decide +kernel
theorem dksX9_need_1 : cX9_need.data.toList.drop 24 = dktX9_need_1 := dk_seg dksX9_need_0 24 rfl rfl
theorem dksX9_need_2 : cX9_need.data.toList.drop 47 = dktX9_need_2 := dk_seg dksX9_need_1 23 rfl rfl
theorem dksX9_need_3 : cX9_need.data.toList.drop 70 = dktX9_need_3 := dk_seg dksX9_need_2 23 rfl rfl
theorem dksX9_need_4 : cX9_need.data.toList.drop 94 = dktX9_need_4 := dk_seg dksX9_need_3 24 rfl rfl
theorem dX9_need_0 : decode cX9_need 0 = .ok (.aload_n 0, 1) := dk_42 (dk_at dksX9_need_0 0 rfl rfl)
theorem dX9_need_1 : decode cX9_need 1 = .ok (.invokevirtual 162, 3) := dk_182 0 162 (dk_at dksX9_need_0 1 rfl rfl)
theorem dX9_need_4 : decode cX9_need 4 = .ok (.ifCond .ne 6, 3) := dk_154 0 6 (dk_at dksX9_need_0 4 rfl rfl)
theorem dX9_need_7 : decode cX9_need 7 = .ok (.ldc 161, 2) := dk_18 161 (dk_at dksX9_need_0 7 rfl rfl)
theorem dX9_need_9 : decode cX9_need 9 = .ok (.ireturn, 1) := dk_172 (dk_at dksX9_need_0 9 rfl rfl)
theorem dX9_need_10 : decode cX9_need 10 = .ok (.iload_n 1, 1) := dk_27 (dk_at dksX9_need_0 10 rfl rfl)
theorem dX9_need_11 : decode cX9_need 11 = .ok (.i2l, 1) := dk_133 (dk_at dksX9_need_0 11 rfl rfl)
theorem dX9_need_12 : decode cX9_need 12 = .ok (.lconst 1, 1) := dk_10 (dk_at dksX9_need_0 12 rfl rfl)
theorem dX9_need_13 : decode cX9_need 13 = .ok (.ldc2_w 179, 3) := dk_20 0 179 (dk_at dksX9_need_0 13 rfl rfl)
theorem dX9_need_16 : decode cX9_need 16 = .ok (.invokestatic 44, 3) := dk_184 0 44 (dk_at dksX9_need_0 16 rfl rfl)
theorem dX9_need_19 : decode cX9_need 19 = .ok (.ifCond .eq 13, 3) := dk_153 0 13 (dk_at dksX9_need_0 19 rfl rfl)
theorem dX9_need_22 : decode cX9_need 22 = .ok (.iload_n 2, 1) := dk_28 (dk_at dksX9_need_0 22 rfl rfl)
theorem dX9_need_23 : decode cX9_need 23 = .ok (.i2l, 1) := dk_133 (dk_at dksX9_need_0 23 rfl rfl)
theorem dX9_need_24 : decode cX9_need 24 = .ok (.lconst 0, 1) := dk_9 (dk_at dksX9_need_1 0 rfl rfl)
theorem dX9_need_25 : decode cX9_need 25 = .ok (.lconst 1, 1) := dk_10 (dk_at dksX9_need_1 1 rfl rfl)
theorem dX9_need_26 : decode cX9_need 26 = .ok (.invokestatic 44, 3) := dk_184 0 44 (dk_at dksX9_need_1 2 rfl rfl)
theorem dX9_need_29 : decode cX9_need 29 = .ok (.ifCond .ne 6, 3) := dk_154 0 6 (dk_at dksX9_need_1 5 rfl rfl)
theorem dX9_need_32 : decode cX9_need 32 = .ok (.ldc 61, 2) := dk_18 61 (dk_at dksX9_need_1 8 rfl rfl)
theorem dX9_need_34 : decode cX9_need 34 = .ok (.ireturn, 1) := dk_172 (dk_at dksX9_need_1 10 rfl rfl)
theorem dX9_need_35 : decode cX9_need 35 = .ok (.iload_n 2, 1) := dk_28 (dk_at dksX9_need_1 11 rfl rfl)
theorem dX9_need_36 : decode cX9_need 36 = .ok (.ifCond .ne 7, 3) := dk_154 0 7 (dk_at dksX9_need_1 12 rfl rfl)
theorem dX9_need_39 : decode cX9_need 39 = .ok (.iconst 4, 1) := dk_7 (dk_at dksX9_need_1 15 rfl rfl)
theorem dX9_need_40 : decode cX9_need 40 = .ok (.goto 5, 3) := dk_167 0 5 (dk_at dksX9_need_1 16 rfl rfl)
theorem dX9_need_43 : decode cX9_need 43 = .ok (.bipush 40, 2) := dk_16 40 (dk_at dksX9_need_1 19 rfl rfl)
theorem dX9_need_45 : decode cX9_need 45 = .ok (.istore_n 3, 1) := dk_62 (dk_at dksX9_need_1 21 rfl rfl)
theorem dX9_need_46 : decode cX9_need 46 = .ok (.iconst 1, 1) := dk_4 (dk_at dksX9_need_1 22 rfl rfl)
theorem dX9_need_47 : decode cX9_need 47 = .ok (.istore 4, 2) := dk_54 4 (dk_at dksX9_need_2 0 rfl rfl)
theorem dX9_need_49 : decode cX9_need 49 = .ok (.iload 4, 2) := dk_21 4 (dk_at dksX9_need_2 2 rfl rfl)
theorem dX9_need_51 : decode cX9_need 51 = .ok (.iload_n 3, 1) := dk_29 (dk_at dksX9_need_2 4 rfl rfl)
theorem dX9_need_52 : decode cX9_need 52 = .ok (.if_icmp .gt 59, 3) := dk_163 0 59 (dk_at dksX9_need_2 5 rfl rfl)
theorem dX9_need_55 : decode cX9_need 55 = .ok (.aload_n 0, 1) := dk_42 (dk_at dksX9_need_2 8 rfl rfl)
theorem dX9_need_56 : decode cX9_need 56 = .ok (.invokevirtual 192, 3) := dk_182 0 192 (dk_at dksX9_need_2 9 rfl rfl)
theorem dX9_need_59 : decode cX9_need 59 = .ok (.aload_n 0, 1) := dk_42 (dk_at dksX9_need_2 12 rfl rfl)
theorem dX9_need_60 : decode cX9_need 60 = .ok (.getfield 7, 3) := dk_180 0 7 (dk_at dksX9_need_2 13 rfl rfl)
theorem dX9_need_63 : decode cX9_need 63 = .ok (.bipush 43, 2) := dk_16 43 (dk_at dksX9_need_2 16 rfl rfl)
theorem dX9_need_65 : decode cX9_need 65 = .ok (.iload_n 2, 1) := dk_28 (dk_at dksX9_need_2 18 rfl rfl)
theorem dX9_need_66 : decode cX9_need 66 = .ok (.ifCond .ne 7, 3) := dk_154 0 7 (dk_at dksX9_need_2 19 rfl rfl)
theorem dX9_need_69 : decode cX9_need 69 = .ok (.iconst 2, 1) := dk_5 (dk_at dksX9_need_2 22 rfl rfl)
theorem dX9_need_70 : decode cX9_need 70 = .ok (.goto 4, 3) := dk_167 0 4 (dk_at dksX9_need_3 0 rfl rfl)
theorem dX9_need_73 : decode cX9_need 73 = .ok (.iconst 3, 1) := dk_6 (dk_at dksX9_need_3 3 rfl rfl)
theorem dX9_need_74 : decode cX9_need 74 = .ok (.iadd, 1) := dk_96 (dk_at dksX9_need_3 4 rfl rfl)
theorem dX9_need_75 : decode cX9_need 75 = .ok (.iload 4, 2) := dk_21 4 (dk_at dksX9_need_3 5 rfl rfl)
theorem dX9_need_77 : decode cX9_need 77 = .ok (.iastore, 1) := dk_79 (dk_at dksX9_need_3 7 rfl rfl)
theorem dX9_need_78 : decode cX9_need 78 = .ok (.aload_n 0, 1) := dk_42 (dk_at dksX9_need_3 8 rfl rfl)
theorem dX9_need_79 : decode cX9_need 79 = .ok (.iload_n 1, 1) := dk_27 (dk_at dksX9_need_3 9 rfl rfl)
theorem dX9_need_80 : decode cX9_need 80 = .ok (.invokevirtual 195, 3) := dk_182 0 195 (dk_at dksX9_need_3 10 rfl rfl)
theorem dX9_need_83 : decode cX9_need 83 = .ok (.aload_n 0, 1) := dk_42 (dk_at dksX9_need_3 13 rfl rfl)
theorem dX9_need_84 : decode cX9_need 84 = .ok (.bipush 43, 2) := dk_16 43 (dk_at dksX9_need_3 14 rfl rfl)
theorem dX9_need_86 : decode cX9_need 86 = .ok (.invokevirtual 173, 3) := dk_182 0 173 (dk_at dksX9_need_3 16 rfl rfl)
theorem dX9_need_89 : decode cX9_need 89 = .ok (.iconst 1, 1) := dk_4 (dk_at dksX9_need_3 19 rfl rfl)
theorem dX9_need_90 : decode cX9_need 90 = .ok (.aload_n 0, 1) := dk_42 (dk_at dksX9_need_3 20 rfl rfl)
theorem dX9_need_91 : decode cX9_need 91 = .ok (.getfield 7, 3) := dk_180 0 7 (dk_at dksX9_need_3 21 rfl rfl)
theorem dX9_need_94 : decode cX9_need 94 = .ok (.iconst 0, 1) := dk_3 (dk_at dksX9_need_4 0 rfl rfl)
theorem dX9_need_95 : decode cX9_need 95 = .ok (.iaload, 1) := dk_46 (dk_at dksX9_need_4 1 rfl rfl)
theorem dX9_need_96 : decode cX9_need 96 = .ok (.ishl, 1) := dk_120 (dk_at dksX9_need_4 2 rfl rfl)
theorem dX9_need_97 : decode cX9_need 97 = .ok (.iconst 1, 1) := dk_4 (dk_at dksX9_need_4 3 rfl rfl)
theorem dX9_need_98 : decode cX9_need 98 = .ok (.isub, 1) := dk_100 (dk_at dksX9_need_4 4 rfl rfl)
theorem dX9_need_99 : decode cX9_need 99 = .ok (.if_icmp .ne 6, 3) := dk_160 0 6 (dk_at dksX9_need_4 5 rfl rfl)
theorem dX9_need_102 : decode cX9_need 102 = .ok (.iload 4, 2) := dk_21 4 (dk_at dksX9_need_4 8 rfl rfl)
theorem dX9_need_104 : decode cX9_need 104 = .ok (.ireturn, 1) := dk_172 (dk_at dksX9_need_4 10 rfl rfl)
theorem dX9_need_105 : decode cX9_need 105 = .ok (.iinc 4 1, 3) := dk_132 4 1 (dk_at dksX9_need_4 11 rfl rfl)
theorem dX9_need_108 : decode cX9_need 108 = .ok (.goto (-59), 3) := dk_167 255 197 (dk_at dksX9_need_4 14 rfl rfl)
theorem dX9_need_111 : decode cX9_need 111 = .ok (.ldc 198, 2) := dk_18 198 (dk_at dksX9_need_4 17 rfl rfl)
theorem dX9_need_113 : decode cX9_need 113 = .ok (.ireturn, 1) := dk_172 (dk_at dksX9_need_4 19 rfl rfl)
abbrev cX9_ranks : ByteArray := prog_16_method_63_code
def yX9_ranks : MethodName := ⟨RX9, "ranks", "(II)I"⟩
def dkwX9_ranks_2 : List UInt8 := [180, 0, 7, 3, 46, 162, 0, 12, 42, 180, 0, 31, 28, 46, 167, 0, 5, 18, 198, 172]
abbrev dktX9_ranks_2 : List UInt8 := dkwX9_ranks_2 ++ []
def dkwX9_ranks_1 : List UInt8 := [162, 0, 6, 18, 61, 172, 42, 27, 182, 0, 209, 62, 28, 156, 0, 7, 29, 167, 0, 24, 28, 42]
abbrev dktX9_ranks_1 : List UInt8 := dkwX9_ranks_1 ++ dktX9_ranks_2
def dkwX9_ranks_0 : List UInt8 := [42, 182, 0, 162, 154, 0, 6, 18, 161, 172, 27, 133, 10, 20, 0, 179, 184, 0, 44, 153, 0, 8, 28, 2]
abbrev dktX9_ranks_0 : List UInt8 := dkwX9_ranks_0 ++ dktX9_ranks_1
theorem dksX9_ranks_0 : cX9_ranks.data.toList.drop 0 = dktX9_ranks_0 := by decide +kernel
theorem dksX9_ranks_1 : cX9_ranks.data.toList.drop 24 = dktX9_ranks_1 := dk_seg dksX9_ranks_0 24 rfl rfl
theorem dksX9_ranks_2 : cX9_ranks.data.toList.drop 46 = dktX9_ranks_2 := dk_seg dksX9_ranks_1 22 rfl rfl
theorem dX9_ranks_0 : decode cX9_ranks 0 = .ok (.aload_n 0, 1) := dk_42 (dk_at dksX9_ranks_0 0 rfl rfl)
theorem dX9_ranks_1 : decode cX9_ranks 1 = .ok (.invokevirtual 162, 3) := dk_182 0 162 (dk_at dksX9_ranks_0 1 rfl rfl)
theorem dX9_ranks_4 : decode cX9_ranks 4 = .ok (.ifCond .ne 6, 3) := dk_154 0 6 (dk_at dksX9_ranks_0 4 rfl rfl)
theorem dX9_ranks_7 : decode cX9_ranks 7 = .ok (.ldc 161, 2) := dk_18 161 (dk_at dksX9_ranks_0 7 rfl rfl)
theorem dX9_ranks_9 : decode cX9_ranks 9 = .ok (.ireturn, 1) := dk_172 (dk_at dksX9_ranks_0 9 rfl rfl)
theorem dX9_ranks_10 : decode cX9_ranks 10 = .ok (.iload_n 1, 1) := dk_27 (dk_at dksX9_ranks_0 10 rfl rfl)
theorem dX9_ranks_11 : decode cX9_ranks 11 = .ok (.i2l, 1) := dk_133 (dk_at dksX9_ranks_0 11 rfl rfl)
theorem dX9_ranks_12 : decode cX9_ranks 12 = .ok (.lconst 1, 1) := dk_10 (dk_at dksX9_ranks_0 12 rfl rfl)
theorem dX9_ranks_13 : decode cX9_ranks 13 = .ok (.ldc2_w 179, 3) := dk_20 0 179 (dk_at dksX9_ranks_0 13 rfl rfl)
theorem dX9_ranks_16 : decode cX9_ranks 16 = .ok (.invokestatic 44, 3) := dk_184 0 44 (dk_at dksX9_ranks_0 16 rfl rfl)
theorem dX9_ranks_19 : decode cX9_ranks 19 = .ok (.ifCond .eq 8, 3) := dk_153 0 8 (dk_at dksX9_ranks_0 19 rfl rfl)
theorem dX9_ranks_22 : decode cX9_ranks 22 = .ok (.iload_n 2, 1) := dk_28 (dk_at dksX9_ranks_0 22 rfl rfl)
theorem dX9_ranks_23 : decode cX9_ranks 23 = .ok (.iconst (-1), 1) := dk_2 (dk_at dksX9_ranks_0 23 rfl rfl)
theorem dX9_ranks_24 : decode cX9_ranks 24 = .ok (.if_icmp .ge 6, 3) := dk_162 0 6 (dk_at dksX9_ranks_1 0 rfl rfl)
theorem dX9_ranks_27 : decode cX9_ranks 27 = .ok (.ldc 61, 2) := dk_18 61 (dk_at dksX9_ranks_1 3 rfl rfl)
theorem dX9_ranks_29 : decode cX9_ranks 29 = .ok (.ireturn, 1) := dk_172 (dk_at dksX9_ranks_1 5 rfl rfl)
theorem dX9_ranks_30 : decode cX9_ranks 30 = .ok (.aload_n 0, 1) := dk_42 (dk_at dksX9_ranks_1 6 rfl rfl)
theorem dX9_ranks_31 : decode cX9_ranks 31 = .ok (.iload_n 1, 1) := dk_27 (dk_at dksX9_ranks_1 7 rfl rfl)
theorem dX9_ranks_32 : decode cX9_ranks 32 = .ok (.invokevirtual 209, 3) := dk_182 0 209 (dk_at dksX9_ranks_1 8 rfl rfl)
theorem dX9_ranks_35 : decode cX9_ranks 35 = .ok (.istore_n 3, 1) := dk_62 (dk_at dksX9_ranks_1 11 rfl rfl)
theorem dX9_ranks_36 : decode cX9_ranks 36 = .ok (.iload_n 2, 1) := dk_28 (dk_at dksX9_ranks_1 12 rfl rfl)
theorem dX9_ranks_37 : decode cX9_ranks 37 = .ok (.ifCond .ge 7, 3) := dk_156 0 7 (dk_at dksX9_ranks_1 13 rfl rfl)
theorem dX9_ranks_40 : decode cX9_ranks 40 = .ok (.iload_n 3, 1) := dk_29 (dk_at dksX9_ranks_1 16 rfl rfl)
theorem dX9_ranks_41 : decode cX9_ranks 41 = .ok (.goto 24, 3) := dk_167 0 24 (dk_at dksX9_ranks_1 17 rfl rfl)
theorem dX9_ranks_44 : decode cX9_ranks 44 = .ok (.iload_n 2, 1) := dk_28 (dk_at dksX9_ranks_1 20 rfl rfl)
theorem dX9_ranks_45 : decode cX9_ranks 45 = .ok (.aload_n 0, 1) := dk_42 (dk_at dksX9_ranks_1 21 rfl rfl)
theorem dX9_ranks_46 : decode cX9_ranks 46 = .ok (.getfield 7, 3) := dk_180 0 7 (dk_at dksX9_ranks_2 0 rfl rfl)
theorem dX9_ranks_49 : decode cX9_ranks 49 = .ok (.iconst 0, 1) := dk_3 (dk_at dksX9_ranks_2 3 rfl rfl)
theorem dX9_ranks_50 : decode cX9_ranks 50 = .ok (.iaload, 1) := dk_46 (dk_at dksX9_ranks_2 4 rfl rfl)
theorem dX9_ranks_51 : decode cX9_ranks 51 = .ok (.if_icmp .ge 12, 3) := dk_162 0 12 (dk_at dksX9_ranks_2 5 rfl rfl)
theorem dX9_ranks_54 : decode cX9_ranks 54 = .ok (.aload_n 0, 1) := dk_42 (dk_at dksX9_ranks_2 8 rfl rfl)
theorem dX9_ranks_55 : decode cX9_ranks 55 = .ok (.getfield 31, 3) := dk_180 0 31 (dk_at dksX9_ranks_2 9 rfl rfl)
theorem dX9_ranks_58 : decode cX9_ranks 58 = .ok (.iload_n 2, 1) := dk_28 (dk_at dksX9_ranks_2 12 rfl rfl)
theorem dX9_ranks_59 : decode cX9_ranks 59 = .ok (.iaload, 1) := dk_46 (dk_at dksX9_ranks_2 13 rfl rfl)
theorem dX9_ranks_60 : decode cX9_ranks 60 = .ok (.goto 5, 3) := dk_167 0 5 (dk_at dksX9_ranks_2 14 rfl rfl)
theorem dX9_ranks_63 : decode cX9_ranks 63 = .ok (.ldc 198, 2) := dk_18 198 (dk_at dksX9_ranks_2 17 rfl rfl)
theorem dX9_ranks_65 : decode cX9_ranks 65 = .ok (.ireturn, 1) := dk_172 (dk_at dksX9_ranks_2 19 rfl rfl)
abbrev cX9_bestRanks : ByteArray := prog_16_method_62_code
def yX9_bestRanks : MethodName := ⟨RX9, "bestRanks", "(I)I"⟩
def dkwX9_bestRanks_8 : List UInt8 := [42, 180, 0, 7, 3, 46, 162, 0, 10, 42, 180, 0, 28, 29, 2, 79, 167, 255, 62, 28, 172]
abbrev dktX9_bestRanks_8 : List UInt8 := dkwX9_bestRanks_8 ++ []
def dkwX9_bestRanks_7 : List UInt8 := [21, 5, 79, 29, 21, 5, 42, 180, 0, 7, 3, 46, 160, 0, 7, 2, 167, 0, 4, 4, 96, 62, 21, 5]
abbrev dktX9_bestRanks_7 : List UInt8 := dkwX9_bestRanks_7 ++ dktX9_bestRanks_8
def dkwX9_bestRanks_6 : List UInt8 := [162, 0, 19, 21, 4, 21, 5, 184, 0, 127, 153, 0, 9, 132, 5, 1, 167, 255, 232, 42, 180, 0, 28, 29]
abbrev dktX9_bestRanks_6 : List UInt8 := dkwX9_bestRanks_6 ++ dktX9_bestRanks_7
def dkwX9_bestRanks_5 : List UInt8 := [132, 3, 255, 167, 0, 85, 42, 180, 0, 28, 29, 46, 4, 96, 54, 5, 21, 5, 42, 180, 0, 7, 3, 46]
abbrev dktX9_bestRanks_5 : List UInt8 := dkwX9_bestRanks_5 ++ dktX9_bestRanks_6
def dkwX9_bestRanks_4 : List UInt8 := [21, 6, 46, 79, 132, 6, 1, 167, 255, 222, 21, 5, 28, 162, 0, 8, 21, 5, 167, 0, 4, 28, 61]
abbrev dktX9_bestRanks_4 : List UInt8 := dkwX9_bestRanks_4 ++ dktX9_bestRanks_5
def dkwX9_bestRanks_3 : List UInt8 := [180, 0, 7, 3, 46, 162, 0, 29, 21, 5, 28, 162, 0, 23, 42, 180, 0, 31, 21, 6, 42, 180, 0, 28]
abbrev dktX9_bestRanks_3 : List UInt8 := dkwX9_bestRanks_3 ++ dktX9_bestRanks_4
def dkwX9_bestRanks_2 : List UInt8 := [29, 42, 180, 0, 7, 3, 46, 160, 0, 69, 42, 27, 182, 0, 206, 54, 5, 3, 54, 6, 21, 6, 42]
abbrev dktX9_bestRanks_2 : List UInt8 := dkwX9_bestRanks_2 ++ dktX9_bestRanks_3
def dkwX9_bestRanks_1 : List UInt8 := [29, 162, 0, 23, 21, 4, 4, 42, 180, 0, 28, 21, 5, 46, 120, 128, 54, 4, 132, 5, 1, 167, 255, 233]
abbrev dktX9_bestRanks_1 : List UInt8 := dkwX9_bestRanks_1 ++ dktX9_bestRanks_2
def dkwX9_bestRanks_0 : List UInt8 := [18, 205, 61, 3, 62, 42, 180, 0, 28, 3, 2, 79, 29, 155, 0, 196, 3, 54, 4, 3, 54, 5, 21, 5]
abbrev dktX9_bestRanks_0 : List UInt8 := dkwX9_bestRanks_0 ++ dktX9_bestRanks_1
theorem dksX9_bestRanks_0 : cX9_bestRanks.data.toList.drop 0 = dktX9_bestRanks_0 := by decide +kernel
theorem dksX9_bestRanks_1 : cX9_bestRanks.data.toList.drop 24 = dktX9_bestRanks_1 := dk_seg dksX9_bestRanks_0 24 rfl rfl
theorem dksX9_bestRanks_2 : cX9_bestRanks.data.toList.drop 48 = dktX9_bestRanks_2 := dk_seg dksX9_bestRanks_1 24 rfl rfl
theorem dksX9_bestRanks_3 : cX9_bestRanks.data.toList.drop 71 = dktX9_bestRanks_3 := dk_seg dksX9_bestRanks_2 23 rfl rfl
theorem dksX9_bestRanks_4 : cX9_bestRanks.data.toList.drop 95 = dktX9_bestRanks_4 := dk_seg dksX9_bestRanks_3 24 rfl rfl
theorem dksX9_bestRanks_5 : cX9_bestRanks.data.toList.drop 118 = dktX9_bestRanks_5 := dk_seg dksX9_bestRanks_4 23 rfl rfl
theorem dksX9_bestRanks_6 : cX9_bestRanks.data.toList.drop 142 = dktX9_bestRanks_6 := dk_seg dksX9_bestRanks_5 24 rfl rfl
theorem dksX9_bestRanks_7 : cX9_bestRanks.data.toList.drop 166 = dktX9_bestRanks_7 := dk_seg dksX9_bestRanks_6 24 rfl rfl
theorem dksX9_bestRanks_8 : cX9_bestRanks.data.toList.drop 190 = dktX9_bestRanks_8 := dk_seg dksX9_bestRanks_7 24 rfl rfl
theorem dX9_bestRanks_0 : decode cX9_bestRanks 0 = .ok (.ldc 205, 2) := dk_18 205 (dk_at dksX9_bestRanks_0 0 rfl rfl)
theorem dX9_bestRanks_2 : decode cX9_bestRanks 2 = .ok (.istore_n 2, 1) := dk_61 (dk_at dksX9_bestRanks_0 2 rfl rfl)
theorem dX9_bestRanks_3 : decode cX9_bestRanks 3 = .ok (.iconst 0, 1) := dk_3 (dk_at dksX9_bestRanks_0 3 rfl rfl)
theorem dX9_bestRanks_4 : decode cX9_bestRanks 4 = .ok (.istore_n 3, 1) := dk_62 (dk_at dksX9_bestRanks_0 4 rfl rfl)
theorem dX9_bestRanks_5 : decode cX9_bestRanks 5 = .ok (.aload_n 0, 1) := dk_42 (dk_at dksX9_bestRanks_0 5 rfl rfl)
theorem dX9_bestRanks_6 : decode cX9_bestRanks 6 = .ok (.getfield 28, 3) := dk_180 0 28 (dk_at dksX9_bestRanks_0 6 rfl rfl)
theorem dX9_bestRanks_9 : decode cX9_bestRanks 9 = .ok (.iconst 0, 1) := dk_3 (dk_at dksX9_bestRanks_0 9 rfl rfl)
theorem dX9_bestRanks_10 : decode cX9_bestRanks 10 = .ok (.iconst (-1), 1) := dk_2 (dk_at dksX9_bestRanks_0 10 rfl rfl)
theorem dX9_bestRanks_11 : decode cX9_bestRanks 11 = .ok (.iastore, 1) := dk_79 (dk_at dksX9_bestRanks_0 11 rfl rfl)
theorem dX9_bestRanks_12 : decode cX9_bestRanks 12 = .ok (.iload_n 3, 1) := dk_29 (dk_at dksX9_bestRanks_0 12 rfl rfl)
theorem dX9_bestRanks_13 : decode cX9_bestRanks 13 = .ok (.ifCond .lt 196, 3) := dk_155 0 196 (dk_at dksX9_bestRanks_0 13 rfl rfl)
theorem dX9_bestRanks_16 : decode cX9_bestRanks 16 = .ok (.iconst 0, 1) := dk_3 (dk_at dksX9_bestRanks_0 16 rfl rfl)
theorem dX9_bestRanks_17 : decode cX9_bestRanks 17 = .ok (.istore 4, 2) := dk_54 4 (dk_at dksX9_bestRanks_0 17 rfl rfl)
theorem dX9_bestRanks_19 : decode cX9_bestRanks 19 = .ok (.iconst 0, 1) := dk_3 (dk_at dksX9_bestRanks_0 19 rfl rfl)
theorem dX9_bestRanks_20 : decode cX9_bestRanks 20 = .ok (.istore 5, 2) := dk_54 5 (dk_at dksX9_bestRanks_0 20 rfl rfl)
theorem dX9_bestRanks_22 : decode cX9_bestRanks 22 = .ok (.iload 5, 2) := dk_21 5 (dk_at dksX9_bestRanks_0 22 rfl rfl)
theorem dX9_bestRanks_24 : decode cX9_bestRanks 24 = .ok (.iload_n 3, 1) := dk_29 (dk_at dksX9_bestRanks_1 0 rfl rfl)
theorem dX9_bestRanks_25 : decode cX9_bestRanks 25 = .ok (.if_icmp .ge 23, 3) := dk_162 0 23 (dk_at dksX9_bestRanks_1 1 rfl rfl)
theorem dX9_bestRanks_28 : decode cX9_bestRanks 28 = .ok (.iload 4, 2) := dk_21 4 (dk_at dksX9_bestRanks_1 4 rfl rfl)
theorem dX9_bestRanks_30 : decode cX9_bestRanks 30 = .ok (.iconst 1, 1) := dk_4 (dk_at dksX9_bestRanks_1 6 rfl rfl)
theorem dX9_bestRanks_31 : decode cX9_bestRanks 31 = .ok (.aload_n 0, 1) := dk_42 (dk_at dksX9_bestRanks_1 7 rfl rfl)
theorem dX9_bestRanks_32 : decode cX9_bestRanks 32 = .ok (.getfield 28, 3) := dk_180 0 28 (dk_at dksX9_bestRanks_1 8 rfl rfl)
theorem dX9_bestRanks_35 : decode cX9_bestRanks 35 = .ok (.iload 5, 2) := dk_21 5 (dk_at dksX9_bestRanks_1 11 rfl rfl)
theorem dX9_bestRanks_37 : decode cX9_bestRanks 37 = .ok (.iaload, 1) := dk_46 (dk_at dksX9_bestRanks_1 13 rfl rfl)
theorem dX9_bestRanks_38 : decode cX9_bestRanks 38 = .ok (.ishl, 1) := dk_120 (dk_at dksX9_bestRanks_1 14 rfl rfl)
theorem dX9_bestRanks_39 : decode cX9_bestRanks 39 = .ok (.ior, 1) := dk_128 (dk_at dksX9_bestRanks_1 15 rfl rfl)
theorem dX9_bestRanks_40 : decode cX9_bestRanks 40 = .ok (.istore 4, 2) := dk_54 4 (dk_at dksX9_bestRanks_1 16 rfl rfl)
theorem dX9_bestRanks_42 : decode cX9_bestRanks 42 = .ok (.iinc 5 1, 3) := dk_132 5 1 (dk_at dksX9_bestRanks_1 18 rfl rfl)
theorem dX9_bestRanks_45 : decode cX9_bestRanks 45 = .ok (.goto (-23), 3) := dk_167 255 233 (dk_at dksX9_bestRanks_1 21 rfl rfl)
theorem dX9_bestRanks_48 : decode cX9_bestRanks 48 = .ok (.iload_n 3, 1) := dk_29 (dk_at dksX9_bestRanks_2 0 rfl rfl)
theorem dX9_bestRanks_49 : decode cX9_bestRanks 49 = .ok (.aload_n 0, 1) := dk_42 (dk_at dksX9_bestRanks_2 1 rfl rfl)
theorem dX9_bestRanks_50 : decode cX9_bestRanks 50 = .ok (.getfield 7, 3) := dk_180 0 7 (dk_at dksX9_bestRanks_2 2 rfl rfl)
theorem dX9_bestRanks_53 : decode cX9_bestRanks 53 = .ok (.iconst 0, 1) := dk_3 (dk_at dksX9_bestRanks_2 5 rfl rfl)
theorem dX9_bestRanks_54 : decode cX9_bestRanks 54 = .ok (.iaload, 1) := dk_46 (dk_at dksX9_bestRanks_2 6 rfl rfl)
theorem dX9_bestRanks_55 : decode cX9_bestRanks 55 = .ok (.if_icmp .ne 69, 3) := dk_160 0 69 (dk_at dksX9_bestRanks_2 7 rfl rfl)
theorem dX9_bestRanks_58 : decode cX9_bestRanks 58 = .ok (.aload_n 0, 1) := dk_42 (dk_at dksX9_bestRanks_2 10 rfl rfl)
theorem dX9_bestRanks_59 : decode cX9_bestRanks 59 = .ok (.iload_n 1, 1) := dk_27 (dk_at dksX9_bestRanks_2 11 rfl rfl)
theorem dX9_bestRanks_60 : decode cX9_bestRanks 60 = .ok (.invokevirtual 206, 3) := dk_182 0 206 (dk_at dksX9_bestRanks_2 12 rfl rfl)
theorem dX9_bestRanks_63 : decode cX9_bestRanks 63 = .ok (.istore 5, 2) := dk_54 5 (dk_at dksX9_bestRanks_2 15 rfl rfl)
theorem dX9_bestRanks_65 : decode cX9_bestRanks 65 = .ok (.iconst 0, 1) := dk_3 (dk_at dksX9_bestRanks_2 17 rfl rfl)
theorem dX9_bestRanks_66 : decode cX9_bestRanks 66 = .ok (.istore 6, 2) := dk_54 6 (dk_at dksX9_bestRanks_2 18 rfl rfl)
theorem dX9_bestRanks_68 : decode cX9_bestRanks 68 = .ok (.iload 6, 2) := dk_21 6 (dk_at dksX9_bestRanks_2 20 rfl rfl)
theorem dX9_bestRanks_70 : decode cX9_bestRanks 70 = .ok (.aload_n 0, 1) := dk_42 (dk_at dksX9_bestRanks_2 22 rfl rfl)
theorem dX9_bestRanks_71 : decode cX9_bestRanks 71 = .ok (.getfield 7, 3) := dk_180 0 7 (dk_at dksX9_bestRanks_3 0 rfl rfl)
theorem dX9_bestRanks_74 : decode cX9_bestRanks 74 = .ok (.iconst 0, 1) := dk_3 (dk_at dksX9_bestRanks_3 3 rfl rfl)
theorem dX9_bestRanks_75 : decode cX9_bestRanks 75 = .ok (.iaload, 1) := dk_46 (dk_at dksX9_bestRanks_3 4 rfl rfl)
theorem dX9_bestRanks_76 : decode cX9_bestRanks 76 = .ok (.if_icmp .ge 29, 3) := dk_162 0 29 (dk_at dksX9_bestRanks_3 5 rfl rfl)
theorem dX9_bestRanks_79 : decode cX9_bestRanks 79 = .ok (.iload 5, 2) := dk_21 5 (dk_at dksX9_bestRanks_3 8 rfl rfl)
theorem dX9_bestRanks_81 : decode cX9_bestRanks 81 = .ok (.iload_n 2, 1) := dk_28 (dk_at dksX9_bestRanks_3 10 rfl rfl)
theorem dX9_bestRanks_82 : decode cX9_bestRanks 82 = .ok (.if_icmp .ge 23, 3) := dk_162 0 23 (dk_at dksX9_bestRanks_3 11 rfl rfl)
theorem dX9_bestRanks_85 : decode cX9_bestRanks 85 = .ok (.aload_n 0, 1) := dk_42 (dk_at dksX9_bestRanks_3 14 rfl rfl)
theorem dX9_bestRanks_86 : decode cX9_bestRanks 86 = .ok (.getfield 31, 3) := dk_180 0 31 (dk_at dksX9_bestRanks_3 15 rfl rfl)
theorem dX9_bestRanks_89 : decode cX9_bestRanks 89 = .ok (.iload 6, 2) := dk_21 6 (dk_at dksX9_bestRanks_3 18 rfl rfl)
theorem dX9_bestRanks_91 : decode cX9_bestRanks 91 = .ok (.aload_n 0, 1) := dk_42 (dk_at dksX9_bestRanks_3 20 rfl rfl)
theorem dX9_bestRanks_92 : decode cX9_bestRanks 92 = .ok (.getfield 28, 3) := dk_180 0 28 (dk_at dksX9_bestRanks_3 21 rfl rfl)
theorem dX9_bestRanks_95 : decode cX9_bestRanks 95 = .ok (.iload 6, 2) := dk_21 6 (dk_at dksX9_bestRanks_4 0 rfl rfl)
theorem dX9_bestRanks_97 : decode cX9_bestRanks 97 = .ok (.iaload, 1) := dk_46 (dk_at dksX9_bestRanks_4 2 rfl rfl)
theorem dX9_bestRanks_98 : decode cX9_bestRanks 98 = .ok (.iastore, 1) := dk_79 (dk_at dksX9_bestRanks_4 3 rfl rfl)
theorem dX9_bestRanks_99 : decode cX9_bestRanks 99 = .ok (.iinc 6 1, 3) := dk_132 6 1 (dk_at dksX9_bestRanks_4 4 rfl rfl)
theorem dX9_bestRanks_102 : decode cX9_bestRanks 102 = .ok (.goto (-34), 3) := dk_167 255 222 (dk_at dksX9_bestRanks_4 7 rfl rfl)
theorem dX9_bestRanks_105 : decode cX9_bestRanks 105 = .ok (.iload 5, 2) := dk_21 5 (dk_at dksX9_bestRanks_4 10 rfl rfl)
theorem dX9_bestRanks_107 : decode cX9_bestRanks 107 = .ok (.iload_n 2, 1) := dk_28 (dk_at dksX9_bestRanks_4 12 rfl rfl)
theorem dX9_bestRanks_108 : decode cX9_bestRanks 108 = .ok (.if_icmp .ge 8, 3) := dk_162 0 8 (dk_at dksX9_bestRanks_4 13 rfl rfl)
theorem dX9_bestRanks_111 : decode cX9_bestRanks 111 = .ok (.iload 5, 2) := dk_21 5 (dk_at dksX9_bestRanks_4 16 rfl rfl)
theorem dX9_bestRanks_113 : decode cX9_bestRanks 113 = .ok (.goto 4, 3) := dk_167 0 4 (dk_at dksX9_bestRanks_4 18 rfl rfl)
theorem dX9_bestRanks_116 : decode cX9_bestRanks 116 = .ok (.iload_n 2, 1) := dk_28 (dk_at dksX9_bestRanks_4 21 rfl rfl)
theorem dX9_bestRanks_117 : decode cX9_bestRanks 117 = .ok (.istore_n 2, 1) := dk_61 (dk_at dksX9_bestRanks_4 22 rfl rfl)
theorem dX9_bestRanks_118 : decode cX9_bestRanks 118 = .ok (.iinc 3 (-1), 3) := dk_132 3 255 (dk_at dksX9_bestRanks_5 0 rfl rfl)
theorem dX9_bestRanks_121 : decode cX9_bestRanks 121 = .ok (.goto 85, 3) := dk_167 0 85 (dk_at dksX9_bestRanks_5 3 rfl rfl)
theorem dX9_bestRanks_124 : decode cX9_bestRanks 124 = .ok (.aload_n 0, 1) := dk_42 (dk_at dksX9_bestRanks_5 6 rfl rfl)
theorem dX9_bestRanks_125 : decode cX9_bestRanks 125 = .ok (.getfield 28, 3) := dk_180 0 28 (dk_at dksX9_bestRanks_5 7 rfl rfl)
theorem dX9_bestRanks_128 : decode cX9_bestRanks 128 = .ok (.iload_n 3, 1) := dk_29 (dk_at dksX9_bestRanks_5 10 rfl rfl)
theorem dX9_bestRanks_129 : decode cX9_bestRanks 129 = .ok (.iaload, 1) := dk_46 (dk_at dksX9_bestRanks_5 11 rfl rfl)
theorem dX9_bestRanks_130 : decode cX9_bestRanks 130 = .ok (.iconst 1, 1) := dk_4 (dk_at dksX9_bestRanks_5 12 rfl rfl)
theorem dX9_bestRanks_131 : decode cX9_bestRanks 131 = .ok (.iadd, 1) := dk_96 (dk_at dksX9_bestRanks_5 13 rfl rfl)
theorem dX9_bestRanks_132 : decode cX9_bestRanks 132 = .ok (.istore 5, 2) := dk_54 5 (dk_at dksX9_bestRanks_5 14 rfl rfl)
theorem dX9_bestRanks_134 : decode cX9_bestRanks 134 = .ok (.iload 5, 2) := dk_21 5 (dk_at dksX9_bestRanks_5 16 rfl rfl)
theorem dX9_bestRanks_136 : decode cX9_bestRanks 136 = .ok (.aload_n 0, 1) := dk_42 (dk_at dksX9_bestRanks_5 18 rfl rfl)
theorem dX9_bestRanks_137 : decode cX9_bestRanks 137 = .ok (.getfield 7, 3) := dk_180 0 7 (dk_at dksX9_bestRanks_5 19 rfl rfl)
theorem dX9_bestRanks_140 : decode cX9_bestRanks 140 = .ok (.iconst 0, 1) := dk_3 (dk_at dksX9_bestRanks_5 22 rfl rfl)
theorem dX9_bestRanks_141 : decode cX9_bestRanks 141 = .ok (.iaload, 1) := dk_46 (dk_at dksX9_bestRanks_5 23 rfl rfl)
theorem dX9_bestRanks_142 : decode cX9_bestRanks 142 = .ok (.if_icmp .ge 19, 3) := dk_162 0 19 (dk_at dksX9_bestRanks_6 0 rfl rfl)
theorem dX9_bestRanks_145 : decode cX9_bestRanks 145 = .ok (.iload 4, 2) := dk_21 4 (dk_at dksX9_bestRanks_6 3 rfl rfl)
theorem dX9_bestRanks_147 : decode cX9_bestRanks 147 = .ok (.iload 5, 2) := dk_21 5 (dk_at dksX9_bestRanks_6 5 rfl rfl)
theorem dX9_bestRanks_149 : decode cX9_bestRanks 149 = .ok (.invokestatic 127, 3) := dk_184 0 127 (dk_at dksX9_bestRanks_6 7 rfl rfl)
theorem dX9_bestRanks_152 : decode cX9_bestRanks 152 = .ok (.ifCond .eq 9, 3) := dk_153 0 9 (dk_at dksX9_bestRanks_6 10 rfl rfl)
theorem dX9_bestRanks_155 : decode cX9_bestRanks 155 = .ok (.iinc 5 1, 3) := dk_132 5 1 (dk_at dksX9_bestRanks_6 13 rfl rfl)
theorem dX9_bestRanks_158 : decode cX9_bestRanks 158 = .ok (.goto (-24), 3) := dk_167 255 232 (dk_at dksX9_bestRanks_6 16 rfl rfl)
theorem dX9_bestRanks_161 : decode cX9_bestRanks 161 = .ok (.aload_n 0, 1) := dk_42 (dk_at dksX9_bestRanks_6 19 rfl rfl)
theorem dX9_bestRanks_162 : decode cX9_bestRanks 162 = .ok (.getfield 28, 3) := dk_180 0 28 (dk_at dksX9_bestRanks_6 20 rfl rfl)
theorem dX9_bestRanks_165 : decode cX9_bestRanks 165 = .ok (.iload_n 3, 1) := dk_29 (dk_at dksX9_bestRanks_6 23 rfl rfl)
theorem dX9_bestRanks_166 : decode cX9_bestRanks 166 = .ok (.iload 5, 2) := dk_21 5 (dk_at dksX9_bestRanks_7 0 rfl rfl)
theorem dX9_bestRanks_168 : decode cX9_bestRanks 168 = .ok (.iastore, 1) := dk_79 (dk_at dksX9_bestRanks_7 2 rfl rfl)
theorem dX9_bestRanks_169 : decode cX9_bestRanks 169 = .ok (.iload_n 3, 1) := dk_29 (dk_at dksX9_bestRanks_7 3 rfl rfl)
theorem dX9_bestRanks_170 : decode cX9_bestRanks 170 = .ok (.iload 5, 2) := dk_21 5 (dk_at dksX9_bestRanks_7 4 rfl rfl)
theorem dX9_bestRanks_172 : decode cX9_bestRanks 172 = .ok (.aload_n 0, 1) := dk_42 (dk_at dksX9_bestRanks_7 6 rfl rfl)
theorem dX9_bestRanks_173 : decode cX9_bestRanks 173 = .ok (.getfield 7, 3) := dk_180 0 7 (dk_at dksX9_bestRanks_7 7 rfl rfl)
theorem dX9_bestRanks_176 : decode cX9_bestRanks 176 = .ok (.iconst 0, 1) := dk_3 (dk_at dksX9_bestRanks_7 10 rfl rfl)
theorem dX9_bestRanks_177 : decode cX9_bestRanks 177 = .ok (.iaload, 1) := dk_46 (dk_at dksX9_bestRanks_7 11 rfl rfl)
theorem dX9_bestRanks_178 : decode cX9_bestRanks 178 = .ok (.if_icmp .ne 7, 3) := dk_160 0 7 (dk_at dksX9_bestRanks_7 12 rfl rfl)
theorem dX9_bestRanks_181 : decode cX9_bestRanks 181 = .ok (.iconst (-1), 1) := dk_2 (dk_at dksX9_bestRanks_7 15 rfl rfl)
theorem dX9_bestRanks_182 : decode cX9_bestRanks 182 = .ok (.goto 4, 3) := dk_167 0 4 (dk_at dksX9_bestRanks_7 16 rfl rfl)
theorem dX9_bestRanks_185 : decode cX9_bestRanks 185 = .ok (.iconst 1, 1) := dk_4 (dk_at dksX9_bestRanks_7 19 rfl rfl)
theorem dX9_bestRanks_186 : decode cX9_bestRanks 186 = .ok (.iadd, 1) := dk_96 (dk_at dksX9_bestRanks_7 20 rfl rfl)
theorem dX9_bestRanks_187 : decode cX9_bestRanks 187 = .ok (.istore_n 3, 1) := dk_62 (dk_at dksX9_bestRanks_7 21 rfl rfl)
theorem dX9_bestRanks_188 : decode cX9_bestRanks 188 = .ok (.iload 5, 2) := dk_21 5 (dk_at dksX9_bestRanks_7 22 rfl rfl)
theorem dX9_bestRanks_190 : decode cX9_bestRanks 190 = .ok (.aload_n 0, 1) := dk_42 (dk_at dksX9_bestRanks_8 0 rfl rfl)
theorem dX9_bestRanks_191 : decode cX9_bestRanks 191 = .ok (.getfield 7, 3) := dk_180 0 7 (dk_at dksX9_bestRanks_8 1 rfl rfl)
theorem dX9_bestRanks_194 : decode cX9_bestRanks 194 = .ok (.iconst 0, 1) := dk_3 (dk_at dksX9_bestRanks_8 4 rfl rfl)
theorem dX9_bestRanks_195 : decode cX9_bestRanks 195 = .ok (.iaload, 1) := dk_46 (dk_at dksX9_bestRanks_8 5 rfl rfl)
theorem dX9_bestRanks_196 : decode cX9_bestRanks 196 = .ok (.if_icmp .ge 10, 3) := dk_162 0 10 (dk_at dksX9_bestRanks_8 6 rfl rfl)
theorem dX9_bestRanks_199 : decode cX9_bestRanks 199 = .ok (.aload_n 0, 1) := dk_42 (dk_at dksX9_bestRanks_8 9 rfl rfl)
theorem dX9_bestRanks_200 : decode cX9_bestRanks 200 = .ok (.getfield 28, 3) := dk_180 0 28 (dk_at dksX9_bestRanks_8 10 rfl rfl)
theorem dX9_bestRanks_203 : decode cX9_bestRanks 203 = .ok (.iload_n 3, 1) := dk_29 (dk_at dksX9_bestRanks_8 13 rfl rfl)
theorem dX9_bestRanks_204 : decode cX9_bestRanks 204 = .ok (.iconst (-1), 1) := dk_2 (dk_at dksX9_bestRanks_8 14 rfl rfl)
theorem dX9_bestRanks_205 : decode cX9_bestRanks 205 = .ok (.iastore, 1) := dk_79 (dk_at dksX9_bestRanks_8 15 rfl rfl)
theorem dX9_bestRanks_206 : decode cX9_bestRanks 206 = .ok (.goto (-194), 3) := dk_167 255 62 (dk_at dksX9_bestRanks_8 16 rfl rfl)
theorem dX9_bestRanks_209 : decode cX9_bestRanks 209 = .ok (.iload_n 2, 1) := dk_28 (dk_at dksX9_bestRanks_8 19 rfl rfl)
theorem dX9_bestRanks_210 : decode cX9_bestRanks 210 = .ok (.ireturn, 1) := dk_172 (dk_at dksX9_bestRanks_8 20 rfl rfl)
abbrev cX9_waitsBy : ByteArray := prog_16_method_61_code
def yX9_waitsBy : MethodName := ⟨RX9, "waitsBy", "(I)I"⟩
def dkwX9_waitsBy_3 : List UInt8 := [132, 3, 1, 167, 255, 223, 28, 172]
abbrev dktX9_waitsBy_3 : List UInt8 := dkwX9_waitsBy_3 ++ []
def dkwX9_waitsBy_2 : List UInt8 := [180, 0, 7, 3, 46, 42, 16, 43, 182, 0, 173, 184, 0, 133, 100, 96, 61, 42, 16, 43, 182, 0, 170]
abbrev dktX9_waitsBy_2 : List UInt8 := dkwX9_waitsBy_2 ++ dktX9_waitsBy_3
def dkwX9_waitsBy_1 : List UInt8 := [42, 180, 0, 28, 28, 46, 79, 132, 2, 1, 167, 255, 228, 3, 61, 3, 62, 29, 27, 163, 0, 34, 28, 42]
abbrev dktX9_waitsBy_1 : List UInt8 := dkwX9_waitsBy_1 ++ dktX9_waitsBy_2
def dkwX9_waitsBy_0 : List UInt8 := [42, 182, 0, 192, 3, 61, 28, 42, 180, 0, 7, 3, 46, 162, 0, 24, 42, 180, 0, 7, 16, 80, 28, 96]
abbrev dktX9_waitsBy_0 : List UInt8 := dkwX9_waitsBy_0 ++ dktX9_waitsBy_1
theorem dksX9_waitsBy_0 : cX9_waitsBy.data.toList.drop 0 = dktX9_waitsBy_0 := by decide +kernel
theorem dksX9_waitsBy_1 : cX9_waitsBy.data.toList.drop 24 = dktX9_waitsBy_1 := dk_seg dksX9_waitsBy_0 24 rfl rfl
theorem dksX9_waitsBy_2 : cX9_waitsBy.data.toList.drop 48 = dktX9_waitsBy_2 := dk_seg dksX9_waitsBy_1 24 rfl rfl
theorem dksX9_waitsBy_3 : cX9_waitsBy.data.toList.drop 71 = dktX9_waitsBy_3 := dk_seg dksX9_waitsBy_2 23 rfl rfl
theorem dX9_waitsBy_0 : decode cX9_waitsBy 0 = .ok (.aload_n 0, 1) := dk_42 (dk_at dksX9_waitsBy_0 0 rfl rfl)
theorem dX9_waitsBy_1 : decode cX9_waitsBy 1 = .ok (.invokevirtual 192, 3) := dk_182 0 192 (dk_at dksX9_waitsBy_0 1 rfl rfl)
theorem dX9_waitsBy_4 : decode cX9_waitsBy 4 = .ok (.iconst 0, 1) := dk_3 (dk_at dksX9_waitsBy_0 4 rfl rfl)
theorem dX9_waitsBy_5 : decode cX9_waitsBy 5 = .ok (.istore_n 2, 1) := dk_61 (dk_at dksX9_waitsBy_0 5 rfl rfl)
theorem dX9_waitsBy_6 : decode cX9_waitsBy 6 = .ok (.iload_n 2, 1) := dk_28 (dk_at dksX9_waitsBy_0 6 rfl rfl)
theorem dX9_waitsBy_7 : decode cX9_waitsBy 7 = .ok (.aload_n 0, 1) := dk_42 (dk_at dksX9_waitsBy_0 7 rfl rfl)
theorem dX9_waitsBy_8 : decode cX9_waitsBy 8 = .ok (.getfield 7, 3) := dk_180 0 7 (dk_at dksX9_waitsBy_0 8 rfl rfl)
theorem dX9_waitsBy_11 : decode cX9_waitsBy 11 = .ok (.iconst 0, 1) := dk_3 (dk_at dksX9_waitsBy_0 11 rfl rfl)
theorem dX9_waitsBy_12 : decode cX9_waitsBy 12 = .ok (.iaload, 1) := dk_46 (dk_at dksX9_waitsBy_0 12 rfl rfl)
theorem dX9_waitsBy_13 : decode cX9_waitsBy 13 = .ok (.if_icmp .ge 24, 3) := dk_162 0 24 (dk_at dksX9_waitsBy_0 13 rfl rfl)
theorem dX9_waitsBy_16 : decode cX9_waitsBy 16 = .ok (.aload_n 0, 1) := dk_42 (dk_at dksX9_waitsBy_0 16 rfl rfl)
theorem dX9_waitsBy_17 : decode cX9_waitsBy 17 = .ok (.getfield 7, 3) := dk_180 0 7 (dk_at dksX9_waitsBy_0 17 rfl rfl)
theorem dX9_waitsBy_20 : decode cX9_waitsBy 20 = .ok (.bipush 80, 2) := dk_16 80 (dk_at dksX9_waitsBy_0 20 rfl rfl)
theorem dX9_waitsBy_22 : decode cX9_waitsBy 22 = .ok (.iload_n 2, 1) := dk_28 (dk_at dksX9_waitsBy_0 22 rfl rfl)
theorem dX9_waitsBy_23 : decode cX9_waitsBy 23 = .ok (.iadd, 1) := dk_96 (dk_at dksX9_waitsBy_0 23 rfl rfl)
theorem dX9_waitsBy_24 : decode cX9_waitsBy 24 = .ok (.aload_n 0, 1) := dk_42 (dk_at dksX9_waitsBy_1 0 rfl rfl)
theorem dX9_waitsBy_25 : decode cX9_waitsBy 25 = .ok (.getfield 28, 3) := dk_180 0 28 (dk_at dksX9_waitsBy_1 1 rfl rfl)
theorem dX9_waitsBy_28 : decode cX9_waitsBy 28 = .ok (.iload_n 2, 1) := dk_28 (dk_at dksX9_waitsBy_1 4 rfl rfl)
theorem dX9_waitsBy_29 : decode cX9_waitsBy 29 = .ok (.iaload, 1) := dk_46 (dk_at dksX9_waitsBy_1 5 rfl rfl)
theorem dX9_waitsBy_30 : decode cX9_waitsBy 30 = .ok (.iastore, 1) := dk_79 (dk_at dksX9_waitsBy_1 6 rfl rfl)
theorem dX9_waitsBy_31 : decode cX9_waitsBy 31 = .ok (.iinc 2 1, 3) := dk_132 2 1 (dk_at dksX9_waitsBy_1 7 rfl rfl)
theorem dX9_waitsBy_34 : decode cX9_waitsBy 34 = .ok (.goto (-28), 3) := dk_167 255 228 (dk_at dksX9_waitsBy_1 10 rfl rfl)
theorem dX9_waitsBy_37 : decode cX9_waitsBy 37 = .ok (.iconst 0, 1) := dk_3 (dk_at dksX9_waitsBy_1 13 rfl rfl)
theorem dX9_waitsBy_38 : decode cX9_waitsBy 38 = .ok (.istore_n 2, 1) := dk_61 (dk_at dksX9_waitsBy_1 14 rfl rfl)
theorem dX9_waitsBy_39 : decode cX9_waitsBy 39 = .ok (.iconst 0, 1) := dk_3 (dk_at dksX9_waitsBy_1 15 rfl rfl)
theorem dX9_waitsBy_40 : decode cX9_waitsBy 40 = .ok (.istore_n 3, 1) := dk_62 (dk_at dksX9_waitsBy_1 16 rfl rfl)
theorem dX9_waitsBy_41 : decode cX9_waitsBy 41 = .ok (.iload_n 3, 1) := dk_29 (dk_at dksX9_waitsBy_1 17 rfl rfl)
theorem dX9_waitsBy_42 : decode cX9_waitsBy 42 = .ok (.iload_n 1, 1) := dk_27 (dk_at dksX9_waitsBy_1 18 rfl rfl)
theorem dX9_waitsBy_43 : decode cX9_waitsBy 43 = .ok (.if_icmp .gt 34, 3) := dk_163 0 34 (dk_at dksX9_waitsBy_1 19 rfl rfl)
theorem dX9_waitsBy_46 : decode cX9_waitsBy 46 = .ok (.iload_n 2, 1) := dk_28 (dk_at dksX9_waitsBy_1 22 rfl rfl)
theorem dX9_waitsBy_47 : decode cX9_waitsBy 47 = .ok (.aload_n 0, 1) := dk_42 (dk_at dksX9_waitsBy_1 23 rfl rfl)
theorem dX9_waitsBy_48 : decode cX9_waitsBy 48 = .ok (.getfield 7, 3) := dk_180 0 7 (dk_at dksX9_waitsBy_2 0 rfl rfl)
theorem dX9_waitsBy_51 : decode cX9_waitsBy 51 = .ok (.iconst 0, 1) := dk_3 (dk_at dksX9_waitsBy_2 3 rfl rfl)
theorem dX9_waitsBy_52 : decode cX9_waitsBy 52 = .ok (.iaload, 1) := dk_46 (dk_at dksX9_waitsBy_2 4 rfl rfl)
theorem dX9_waitsBy_53 : decode cX9_waitsBy 53 = .ok (.aload_n 0, 1) := dk_42 (dk_at dksX9_waitsBy_2 5 rfl rfl)
theorem dX9_waitsBy_54 : decode cX9_waitsBy 54 = .ok (.bipush 43, 2) := dk_16 43 (dk_at dksX9_waitsBy_2 6 rfl rfl)
theorem dX9_waitsBy_56 : decode cX9_waitsBy 56 = .ok (.invokevirtual 173, 3) := dk_182 0 173 (dk_at dksX9_waitsBy_2 8 rfl rfl)
theorem dX9_waitsBy_59 : decode cX9_waitsBy 59 = .ok (.invokestatic 133, 3) := dk_184 0 133 (dk_at dksX9_waitsBy_2 11 rfl rfl)
theorem dX9_waitsBy_62 : decode cX9_waitsBy 62 = .ok (.isub, 1) := dk_100 (dk_at dksX9_waitsBy_2 14 rfl rfl)
theorem dX9_waitsBy_63 : decode cX9_waitsBy 63 = .ok (.iadd, 1) := dk_96 (dk_at dksX9_waitsBy_2 15 rfl rfl)
theorem dX9_waitsBy_64 : decode cX9_waitsBy 64 = .ok (.istore_n 2, 1) := dk_61 (dk_at dksX9_waitsBy_2 16 rfl rfl)
theorem dX9_waitsBy_65 : decode cX9_waitsBy 65 = .ok (.aload_n 0, 1) := dk_42 (dk_at dksX9_waitsBy_2 17 rfl rfl)
theorem dX9_waitsBy_66 : decode cX9_waitsBy 66 = .ok (.bipush 43, 2) := dk_16 43 (dk_at dksX9_waitsBy_2 18 rfl rfl)
theorem dX9_waitsBy_68 : decode cX9_waitsBy 68 = .ok (.invokevirtual 170, 3) := dk_182 0 170 (dk_at dksX9_waitsBy_2 20 rfl rfl)
theorem dX9_waitsBy_71 : decode cX9_waitsBy 71 = .ok (.iinc 3 1, 3) := dk_132 3 1 (dk_at dksX9_waitsBy_3 0 rfl rfl)
theorem dX9_waitsBy_74 : decode cX9_waitsBy 74 = .ok (.goto (-33), 3) := dk_167 255 223 (dk_at dksX9_waitsBy_3 3 rfl rfl)
theorem dX9_waitsBy_77 : decode cX9_waitsBy 77 = .ok (.iload_n 2, 1) := dk_28 (dk_at dksX9_waitsBy_3 6 rfl rfl)
theorem dX9_waitsBy_78 : decode cX9_waitsBy 78 = .ok (.ireturn, 1) := dk_172 (dk_at dksX9_waitsBy_3 7 rfl rfl)
abbrev cX9_holds : ByteArray := prog_16_method_64_code
def yX9_holds : MethodName := ⟨RX9, "holds", "(I)I"⟩
def dkwX9_holds_6 : List UInt8 := [154, 0, 7, 28, 167, 0, 18, 27, 4, 160, 0, 7, 29, 167, 0, 9, 42, 3, 29, 182, 0, 136, 172]
abbrev dktX9_holds_6 : List UInt8 := dkwX9_holds_6 ++ []
def dkwX9_holds_5 : List UInt8 := [184, 0, 133, 29, 184, 0, 133, 164, 0, 8, 21, 4, 167, 0, 4, 29, 62, 132, 4, 1, 167, 255, 151, 27]
abbrev dktX9_holds_5 : List UInt8 := dkwX9_holds_5 ++ dktX9_holds_6
def dkwX9_holds_4 : List UInt8 := [29, 182, 0, 136, 54, 6, 21, 5, 21, 6, 163, 0, 22, 21, 5, 21, 6, 160, 0, 20, 21, 4]
abbrev dktX9_holds_4 : List UInt8 := dkwX9_holds_4 ++ dktX9_holds_5
def dkwX9_holds_3 : List UInt8 := [180, 0, 7, 5, 46, 163, 0, 58, 21, 5, 42, 180, 0, 7, 6, 46, 163, 0, 47, 132, 2, 1, 42, 3]
abbrev dktX9_holds_3 : List UInt8 := dkwX9_holds_3 ++ dktX9_holds_4
def dkwX9_holds_2 : List UInt8 := [21, 4, 182, 0, 136, 54, 5, 21, 4, 42, 3, 182, 0, 173, 126, 154, 0, 72, 21, 4, 184, 0, 133, 42]
abbrev dktX9_holds_2 : List UInt8 := dkwX9_holds_2 ++ dktX9_holds_3
def dkwX9_holds_1 : List UInt8 := [172, 3, 61, 3, 62, 3, 54, 4, 21, 4, 4, 42, 180, 0, 7, 3, 46, 120, 162, 0, 98, 42, 3]
abbrev dktX9_holds_1 : List UInt8 := dkwX9_holds_1 ++ dktX9_holds_2
def dkwX9_holds_0 : List UInt8 := [42, 182, 0, 162, 154, 0, 6, 18, 161, 172, 27, 133, 9, 20, 0, 59, 184, 0, 44, 154, 0, 6, 18, 61]
abbrev dktX9_holds_0 : List UInt8 := dkwX9_holds_0 ++ dktX9_holds_1
theorem dksX9_holds_0 : cX9_holds.data.toList.drop 0 = dktX9_holds_0 := by decide +kernel
theorem dksX9_holds_1 : cX9_holds.data.toList.drop 24 = dktX9_holds_1 := dk_seg dksX9_holds_0 24 rfl rfl
theorem dksX9_holds_2 : cX9_holds.data.toList.drop 47 = dktX9_holds_2 := dk_seg dksX9_holds_1 23 rfl rfl
theorem dksX9_holds_3 : cX9_holds.data.toList.drop 71 = dktX9_holds_3 := dk_seg dksX9_holds_2 24 rfl rfl
theorem dksX9_holds_4 : cX9_holds.data.toList.drop 95 = dktX9_holds_4 := dk_seg dksX9_holds_3 24 rfl rfl
theorem dksX9_holds_5 : cX9_holds.data.toList.drop 117 = dktX9_holds_5 := dk_seg dksX9_holds_4 22 rfl rfl
theorem dksX9_holds_6 : cX9_holds.data.toList.drop 141 = dktX9_holds_6 := dk_seg dksX9_holds_5 24 rfl rfl
theorem dX9_holds_0 : decode cX9_holds 0 = .ok (.aload_n 0, 1) := dk_42 (dk_at dksX9_holds_0 0 rfl rfl)
theorem dX9_holds_1 : decode cX9_holds 1 = .ok (.invokevirtual 162, 3) := dk_182 0 162 (dk_at dksX9_holds_0 1 rfl rfl)
theorem dX9_holds_4 : decode cX9_holds 4 = .ok (.ifCond .ne 6, 3) := dk_154 0 6 (dk_at dksX9_holds_0 4 rfl rfl)
theorem dX9_holds_7 : decode cX9_holds 7 = .ok (.ldc 161, 2) := dk_18 161 (dk_at dksX9_holds_0 7 rfl rfl)
theorem dX9_holds_9 : decode cX9_holds 9 = .ok (.ireturn, 1) := dk_172 (dk_at dksX9_holds_0 9 rfl rfl)
theorem dX9_holds_10 : decode cX9_holds 10 = .ok (.iload_n 1, 1) := dk_27 (dk_at dksX9_holds_0 10 rfl rfl)
theorem dX9_holds_11 : decode cX9_holds 11 = .ok (.i2l, 1) := dk_133 (dk_at dksX9_holds_0 11 rfl rfl)
theorem dX9_holds_12 : decode cX9_holds 12 = .ok (.lconst 0, 1) := dk_9 (dk_at dksX9_holds_0 12 rfl rfl)
theorem dX9_holds_13 : decode cX9_holds 13 = .ok (.ldc2_w 59, 3) := dk_20 0 59 (dk_at dksX9_holds_0 13 rfl rfl)
theorem dX9_holds_16 : decode cX9_holds 16 = .ok (.invokestatic 44, 3) := dk_184 0 44 (dk_at dksX9_holds_0 16 rfl rfl)
theorem dX9_holds_19 : decode cX9_holds 19 = .ok (.ifCond .ne 6, 3) := dk_154 0 6 (dk_at dksX9_holds_0 19 rfl rfl)
theorem dX9_holds_22 : decode cX9_holds 22 = .ok (.ldc 61, 2) := dk_18 61 (dk_at dksX9_holds_0 22 rfl rfl)
theorem dX9_holds_24 : decode cX9_holds 24 = .ok (.ireturn, 1) := dk_172 (dk_at dksX9_holds_1 0 rfl rfl)
theorem dX9_holds_25 : decode cX9_holds 25 = .ok (.iconst 0, 1) := dk_3 (dk_at dksX9_holds_1 1 rfl rfl)
theorem dX9_holds_26 : decode cX9_holds 26 = .ok (.istore_n 2, 1) := dk_61 (dk_at dksX9_holds_1 2 rfl rfl)
theorem dX9_holds_27 : decode cX9_holds 27 = .ok (.iconst 0, 1) := dk_3 (dk_at dksX9_holds_1 3 rfl rfl)
theorem dX9_holds_28 : decode cX9_holds 28 = .ok (.istore_n 3, 1) := dk_62 (dk_at dksX9_holds_1 4 rfl rfl)
theorem dX9_holds_29 : decode cX9_holds 29 = .ok (.iconst 0, 1) := dk_3 (dk_at dksX9_holds_1 5 rfl rfl)
theorem dX9_holds_30 : decode cX9_holds 30 = .ok (.istore 4, 2) := dk_54 4 (dk_at dksX9_holds_1 6 rfl rfl)
theorem dX9_holds_32 : decode cX9_holds 32 = .ok (.iload 4, 2) := dk_21 4 (dk_at dksX9_holds_1 8 rfl rfl)
theorem dX9_holds_34 : decode cX9_holds 34 = .ok (.iconst 1, 1) := dk_4 (dk_at dksX9_holds_1 10 rfl rfl)
theorem dX9_holds_35 : decode cX9_holds 35 = .ok (.aload_n 0, 1) := dk_42 (dk_at dksX9_holds_1 11 rfl rfl)
theorem dX9_holds_36 : decode cX9_holds 36 = .ok (.getfield 7, 3) := dk_180 0 7 (dk_at dksX9_holds_1 12 rfl rfl)
theorem dX9_holds_39 : decode cX9_holds 39 = .ok (.iconst 0, 1) := dk_3 (dk_at dksX9_holds_1 15 rfl rfl)
theorem dX9_holds_40 : decode cX9_holds 40 = .ok (.iaload, 1) := dk_46 (dk_at dksX9_holds_1 16 rfl rfl)
theorem dX9_holds_41 : decode cX9_holds 41 = .ok (.ishl, 1) := dk_120 (dk_at dksX9_holds_1 17 rfl rfl)
theorem dX9_holds_42 : decode cX9_holds 42 = .ok (.if_icmp .ge 98, 3) := dk_162 0 98 (dk_at dksX9_holds_1 18 rfl rfl)
theorem dX9_holds_45 : decode cX9_holds 45 = .ok (.aload_n 0, 1) := dk_42 (dk_at dksX9_holds_1 21 rfl rfl)
theorem dX9_holds_46 : decode cX9_holds 46 = .ok (.iconst 0, 1) := dk_3 (dk_at dksX9_holds_1 22 rfl rfl)
theorem dX9_holds_47 : decode cX9_holds 47 = .ok (.iload 4, 2) := dk_21 4 (dk_at dksX9_holds_2 0 rfl rfl)
theorem dX9_holds_49 : decode cX9_holds 49 = .ok (.invokevirtual 136, 3) := dk_182 0 136 (dk_at dksX9_holds_2 2 rfl rfl)
theorem dX9_holds_52 : decode cX9_holds 52 = .ok (.istore 5, 2) := dk_54 5 (dk_at dksX9_holds_2 5 rfl rfl)
theorem dX9_holds_54 : decode cX9_holds 54 = .ok (.iload 4, 2) := dk_21 4 (dk_at dksX9_holds_2 7 rfl rfl)
theorem dX9_holds_56 : decode cX9_holds 56 = .ok (.aload_n 0, 1) := dk_42 (dk_at dksX9_holds_2 9 rfl rfl)
theorem dX9_holds_57 : decode cX9_holds 57 = .ok (.iconst 0, 1) := dk_3 (dk_at dksX9_holds_2 10 rfl rfl)
theorem dX9_holds_58 : decode cX9_holds 58 = .ok (.invokevirtual 173, 3) := dk_182 0 173 (dk_at dksX9_holds_2 11 rfl rfl)
theorem dX9_holds_61 : decode cX9_holds 61 = .ok (.iand, 1) := dk_126 (dk_at dksX9_holds_2 14 rfl rfl)
theorem dX9_holds_62 : decode cX9_holds 62 = .ok (.ifCond .ne 72, 3) := dk_154 0 72 (dk_at dksX9_holds_2 15 rfl rfl)
theorem dX9_holds_65 : decode cX9_holds 65 = .ok (.iload 4, 2) := dk_21 4 (dk_at dksX9_holds_2 18 rfl rfl)
theorem dX9_holds_67 : decode cX9_holds 67 = .ok (.invokestatic 133, 3) := dk_184 0 133 (dk_at dksX9_holds_2 20 rfl rfl)
theorem dX9_holds_70 : decode cX9_holds 70 = .ok (.aload_n 0, 1) := dk_42 (dk_at dksX9_holds_2 23 rfl rfl)
theorem dX9_holds_71 : decode cX9_holds 71 = .ok (.getfield 7, 3) := dk_180 0 7 (dk_at dksX9_holds_3 0 rfl rfl)
theorem dX9_holds_74 : decode cX9_holds 74 = .ok (.iconst 2, 1) := dk_5 (dk_at dksX9_holds_3 3 rfl rfl)
theorem dX9_holds_75 : decode cX9_holds 75 = .ok (.iaload, 1) := dk_46 (dk_at dksX9_holds_3 4 rfl rfl)
theorem dX9_holds_76 : decode cX9_holds 76 = .ok (.if_icmp .gt 58, 3) := dk_163 0 58 (dk_at dksX9_holds_3 5 rfl rfl)
theorem dX9_holds_79 : decode cX9_holds 79 = .ok (.iload 5, 2) := dk_21 5 (dk_at dksX9_holds_3 8 rfl rfl)
theorem dX9_holds_81 : decode cX9_holds 81 = .ok (.aload_n 0, 1) := dk_42 (dk_at dksX9_holds_3 10 rfl rfl)
theorem dX9_holds_82 : decode cX9_holds 82 = .ok (.getfield 7, 3) := dk_180 0 7 (dk_at dksX9_holds_3 11 rfl rfl)
theorem dX9_holds_85 : decode cX9_holds 85 = .ok (.iconst 3, 1) := dk_6 (dk_at dksX9_holds_3 14 rfl rfl)
theorem dX9_holds_86 : decode cX9_holds 86 = .ok (.iaload, 1) := dk_46 (dk_at dksX9_holds_3 15 rfl rfl)
theorem dX9_holds_87 : decode cX9_holds 87 = .ok (.if_icmp .gt 47, 3) := dk_163 0 47 (dk_at dksX9_holds_3 16 rfl rfl)
theorem dX9_holds_90 : decode cX9_holds 90 = .ok (.iinc 2 1, 3) := dk_132 2 1 (dk_at dksX9_holds_3 19 rfl rfl)
theorem dX9_holds_93 : decode cX9_holds 93 = .ok (.aload_n 0, 1) := dk_42 (dk_at dksX9_holds_3 22 rfl rfl)
theorem dX9_holds_94 : decode cX9_holds 94 = .ok (.iconst 0, 1) := dk_3 (dk_at dksX9_holds_3 23 rfl rfl)
theorem dX9_holds_95 : decode cX9_holds 95 = .ok (.iload_n 3, 1) := dk_29 (dk_at dksX9_holds_4 0 rfl rfl)
theorem dX9_holds_96 : decode cX9_holds 96 = .ok (.invokevirtual 136, 3) := dk_182 0 136 (dk_at dksX9_holds_4 1 rfl rfl)
theorem dX9_holds_99 : decode cX9_holds 99 = .ok (.istore 6, 2) := dk_54 6 (dk_at dksX9_holds_4 4 rfl rfl)
theorem dX9_holds_101 : decode cX9_holds 101 = .ok (.iload 5, 2) := dk_21 5 (dk_at dksX9_holds_4 6 rfl rfl)
theorem dX9_holds_103 : decode cX9_holds 103 = .ok (.iload 6, 2) := dk_21 6 (dk_at dksX9_holds_4 8 rfl rfl)
theorem dX9_holds_105 : decode cX9_holds 105 = .ok (.if_icmp .gt 22, 3) := dk_163 0 22 (dk_at dksX9_holds_4 10 rfl rfl)
theorem dX9_holds_108 : decode cX9_holds 108 = .ok (.iload 5, 2) := dk_21 5 (dk_at dksX9_holds_4 13 rfl rfl)
theorem dX9_holds_110 : decode cX9_holds 110 = .ok (.iload 6, 2) := dk_21 6 (dk_at dksX9_holds_4 15 rfl rfl)
theorem dX9_holds_112 : decode cX9_holds 112 = .ok (.if_icmp .ne 20, 3) := dk_160 0 20 (dk_at dksX9_holds_4 17 rfl rfl)
theorem dX9_holds_115 : decode cX9_holds 115 = .ok (.iload 4, 2) := dk_21 4 (dk_at dksX9_holds_4 20 rfl rfl)
theorem dX9_holds_117 : decode cX9_holds 117 = .ok (.invokestatic 133, 3) := dk_184 0 133 (dk_at dksX9_holds_5 0 rfl rfl)
theorem dX9_holds_120 : decode cX9_holds 120 = .ok (.iload_n 3, 1) := dk_29 (dk_at dksX9_holds_5 3 rfl rfl)
theorem dX9_holds_121 : decode cX9_holds 121 = .ok (.invokestatic 133, 3) := dk_184 0 133 (dk_at dksX9_holds_5 4 rfl rfl)
theorem dX9_holds_124 : decode cX9_holds 124 = .ok (.if_icmp .le 8, 3) := dk_164 0 8 (dk_at dksX9_holds_5 7 rfl rfl)
theorem dX9_holds_127 : decode cX9_holds 127 = .ok (.iload 4, 2) := dk_21 4 (dk_at dksX9_holds_5 10 rfl rfl)
theorem dX9_holds_129 : decode cX9_holds 129 = .ok (.goto 4, 3) := dk_167 0 4 (dk_at dksX9_holds_5 12 rfl rfl)
theorem dX9_holds_132 : decode cX9_holds 132 = .ok (.iload_n 3, 1) := dk_29 (dk_at dksX9_holds_5 15 rfl rfl)
theorem dX9_holds_133 : decode cX9_holds 133 = .ok (.istore_n 3, 1) := dk_62 (dk_at dksX9_holds_5 16 rfl rfl)
theorem dX9_holds_134 : decode cX9_holds 134 = .ok (.iinc 4 1, 3) := dk_132 4 1 (dk_at dksX9_holds_5 17 rfl rfl)
theorem dX9_holds_137 : decode cX9_holds 137 = .ok (.goto (-105), 3) := dk_167 255 151 (dk_at dksX9_holds_5 20 rfl rfl)
theorem dX9_holds_140 : decode cX9_holds 140 = .ok (.iload_n 1, 1) := dk_27 (dk_at dksX9_holds_5 23 rfl rfl)
theorem dX9_holds_141 : decode cX9_holds 141 = .ok (.ifCond .ne 7, 3) := dk_154 0 7 (dk_at dksX9_holds_6 0 rfl rfl)
theorem dX9_holds_144 : decode cX9_holds 144 = .ok (.iload_n 2, 1) := dk_28 (dk_at dksX9_holds_6 3 rfl rfl)
theorem dX9_holds_145 : decode cX9_holds 145 = .ok (.goto 18, 3) := dk_167 0 18 (dk_at dksX9_holds_6 4 rfl rfl)
theorem dX9_holds_148 : decode cX9_holds 148 = .ok (.iload_n 1, 1) := dk_27 (dk_at dksX9_holds_6 7 rfl rfl)
theorem dX9_holds_149 : decode cX9_holds 149 = .ok (.iconst 1, 1) := dk_4 (dk_at dksX9_holds_6 8 rfl rfl)
theorem dX9_holds_150 : decode cX9_holds 150 = .ok (.if_icmp .ne 7, 3) := dk_160 0 7 (dk_at dksX9_holds_6 9 rfl rfl)
theorem dX9_holds_153 : decode cX9_holds 153 = .ok (.iload_n 3, 1) := dk_29 (dk_at dksX9_holds_6 12 rfl rfl)
theorem dX9_holds_154 : decode cX9_holds 154 = .ok (.goto 9, 3) := dk_167 0 9 (dk_at dksX9_holds_6 13 rfl rfl)
theorem dX9_holds_157 : decode cX9_holds 157 = .ok (.aload_n 0, 1) := dk_42 (dk_at dksX9_holds_6 16 rfl rfl)
theorem dX9_holds_158 : decode cX9_holds 158 = .ok (.iconst 0, 1) := dk_3 (dk_at dksX9_holds_6 17 rfl rfl)
theorem dX9_holds_159 : decode cX9_holds 159 = .ok (.iload_n 3, 1) := dk_29 (dk_at dksX9_holds_6 18 rfl rfl)
theorem dX9_holds_160 : decode cX9_holds 160 = .ok (.invokevirtual 136, 3) := dk_182 0 136 (dk_at dksX9_holds_6 19 rfl rfl)
theorem dX9_holds_163 : decode cX9_holds 163 = .ok (.ireturn, 1) := dk_172 (dk_at dksX9_holds_6 22 rfl rfl)
abbrev cX9_share : ByteArray := prog_16_method_65_code
def yX9_share : MethodName := ⟨RX9, "share", "(II)I"⟩
def dkwX9_share_7 : List UInt8 := [29, 108, 21, 5, 21, 4, 162, 0, 7, 4, 167, 0, 4, 3, 96, 172]
abbrev dktX9_share_7 : List UInt8 := dkwX9_share_7 ++ []
def dkwX9_share_6 : List UInt8 := [167, 0, 4, 3, 96, 54, 5, 132, 6, 1, 167, 255, 179, 28, 42, 180, 0, 7, 16, 31, 27, 96, 46, 104]
abbrev dktX9_share_6 : List UInt8 := dkwX9_share_6 ++ dktX9_share_7
def dkwX9_share_5 : List UInt8 := [21, 7, 104, 29, 108, 100, 54, 4, 21, 5, 21, 6, 27, 162, 0, 12, 21, 7, 158, 0, 7, 4]
abbrev dktX9_share_5 : List UInt8 := dkwX9_share_5 ++ dktX9_share_6
def dkwX9_share_4 : List UInt8 := [16, 11, 160, 0, 7, 3, 167, 0, 13, 42, 180, 0, 7, 16, 31, 21, 6, 96, 46, 54, 7, 21, 4, 28]
abbrev dktX9_share_4 : List UInt8 := dkwX9_share_4 ++ dktX9_share_5
def dkwX9_share_3 : List UInt8 := [54, 6, 21, 6, 42, 180, 0, 7, 3, 46, 162, 0, 72, 42, 180, 0, 7, 16, 13, 21, 6, 96, 46]
abbrev dktX9_share_3 : List UInt8 := dkwX9_share_3 ++ dktX9_share_4
def dkwX9_share_2 : List UInt8 := [159, 0, 15, 42, 180, 0, 7, 16, 31, 27, 96, 46, 154, 0, 5, 3, 172, 28, 54, 4, 3, 54, 5, 3]
abbrev dktX9_share_2 : List UInt8 := dkwX9_share_2 ++ dktX9_share_3
def dkwX9_share_1 : List UInt8 := [3, 182, 0, 214, 42, 3, 182, 0, 217, 100, 62, 42, 180, 0, 7, 16, 13, 27, 96, 46, 16, 11]
abbrev dktX9_share_1 : List UInt8 := dkwX9_share_1 ++ dktX9_share_2
def dkwX9_share_0 : List UInt8 := [42, 27, 182, 0, 183, 153, 0, 15, 28, 133, 9, 20, 0, 212, 184, 0, 44, 154, 0, 6, 18, 61, 172, 42]
abbrev dktX9_share_0 : List UInt8 := dkwX9_share_0 ++ dktX9_share_1
theorem dksX9_share_0 : cX9_share.data.toList.drop 0 = dktX9_share_0 := by decide +kernel
theorem dksX9_share_1 : cX9_share.data.toList.drop 24 = dktX9_share_1 := dk_seg dksX9_share_0 24 rfl rfl
theorem dksX9_share_2 : cX9_share.data.toList.drop 46 = dktX9_share_2 := dk_seg dksX9_share_1 22 rfl rfl
theorem dksX9_share_3 : cX9_share.data.toList.drop 70 = dktX9_share_3 := dk_seg dksX9_share_2 24 rfl rfl
theorem dksX9_share_4 : cX9_share.data.toList.drop 93 = dktX9_share_4 := dk_seg dksX9_share_3 23 rfl rfl
theorem dksX9_share_5 : cX9_share.data.toList.drop 117 = dktX9_share_5 := dk_seg dksX9_share_4 24 rfl rfl
theorem dksX9_share_6 : cX9_share.data.toList.drop 139 = dktX9_share_6 := dk_seg dksX9_share_5 22 rfl rfl
theorem dksX9_share_7 : cX9_share.data.toList.drop 163 = dktX9_share_7 := dk_seg dksX9_share_6 24 rfl rfl
theorem dX9_share_0 : decode cX9_share 0 = .ok (.aload_n 0, 1) := dk_42 (dk_at dksX9_share_0 0 rfl rfl)
theorem dX9_share_1 : decode cX9_share 1 = .ok (.iload_n 1, 1) := dk_27 (dk_at dksX9_share_0 1 rfl rfl)
theorem dX9_share_2 : decode cX9_share 2 = .ok (.invokevirtual 183, 3) := dk_182 0 183 (dk_at dksX9_share_0 2 rfl rfl)
theorem dX9_share_5 : decode cX9_share 5 = .ok (.ifCond .eq 15, 3) := dk_153 0 15 (dk_at dksX9_share_0 5 rfl rfl)
theorem dX9_share_8 : decode cX9_share 8 = .ok (.iload_n 2, 1) := dk_28 (dk_at dksX9_share_0 8 rfl rfl)
theorem dX9_share_9 : decode cX9_share 9 = .ok (.i2l, 1) := dk_133 (dk_at dksX9_share_0 9 rfl rfl)
theorem dX9_share_10 : decode cX9_share 10 = .ok (.lconst 0, 1) := dk_9 (dk_at dksX9_share_0 10 rfl rfl)
theorem dX9_share_11 : decode cX9_share 11 = .ok (.ldc2_w 212, 3) := dk_20 0 212 (dk_at dksX9_share_0 11 rfl rfl)
theorem dX9_share_14 : decode cX9_share 14 = .ok (.invokestatic 44, 3) := dk_184 0 44 (dk_at dksX9_share_0 14 rfl rfl)
theorem dX9_share_17 : decode cX9_share 17 = .ok (.ifCond .ne 6, 3) := dk_154 0 6 (dk_at dksX9_share_0 17 rfl rfl)
theorem dX9_share_20 : decode cX9_share 20 = .ok (.ldc 61, 2) := dk_18 61 (dk_at dksX9_share_0 20 rfl rfl)
theorem dX9_share_22 : decode cX9_share 22 = .ok (.ireturn, 1) := dk_172 (dk_at dksX9_share_0 22 rfl rfl)
theorem dX9_share_23 : decode cX9_share 23 = .ok (.aload_n 0, 1) := dk_42 (dk_at dksX9_share_0 23 rfl rfl)
theorem dX9_share_24 : decode cX9_share 24 = .ok (.iconst 0, 1) := dk_3 (dk_at dksX9_share_1 0 rfl rfl)
theorem dX9_share_25 : decode cX9_share 25 = .ok (.invokevirtual 214, 3) := dk_182 0 214 (dk_at dksX9_share_1 1 rfl rfl)
theorem dX9_share_28 : decode cX9_share 28 = .ok (.aload_n 0, 1) := dk_42 (dk_at dksX9_share_1 4 rfl rfl)
theorem dX9_share_29 : decode cX9_share 29 = .ok (.iconst 0, 1) := dk_3 (dk_at dksX9_share_1 5 rfl rfl)
theorem dX9_share_30 : decode cX9_share 30 = .ok (.invokevirtual 217, 3) := dk_182 0 217 (dk_at dksX9_share_1 6 rfl rfl)
theorem dX9_share_33 : decode cX9_share 33 = .ok (.isub, 1) := dk_100 (dk_at dksX9_share_1 9 rfl rfl)
theorem dX9_share_34 : decode cX9_share 34 = .ok (.istore_n 3, 1) := dk_62 (dk_at dksX9_share_1 10 rfl rfl)
theorem dX9_share_35 : decode cX9_share 35 = .ok (.aload_n 0, 1) := dk_42 (dk_at dksX9_share_1 11 rfl rfl)
theorem dX9_share_36 : decode cX9_share 36 = .ok (.getfield 7, 3) := dk_180 0 7 (dk_at dksX9_share_1 12 rfl rfl)
theorem dX9_share_39 : decode cX9_share 39 = .ok (.bipush 13, 2) := dk_16 13 (dk_at dksX9_share_1 15 rfl rfl)
theorem dX9_share_41 : decode cX9_share 41 = .ok (.iload_n 1, 1) := dk_27 (dk_at dksX9_share_1 17 rfl rfl)
theorem dX9_share_42 : decode cX9_share 42 = .ok (.iadd, 1) := dk_96 (dk_at dksX9_share_1 18 rfl rfl)
theorem dX9_share_43 : decode cX9_share 43 = .ok (.iaload, 1) := dk_46 (dk_at dksX9_share_1 19 rfl rfl)
theorem dX9_share_44 : decode cX9_share 44 = .ok (.bipush 11, 2) := dk_16 11 (dk_at dksX9_share_1 20 rfl rfl)
theorem dX9_share_46 : decode cX9_share 46 = .ok (.if_icmp .eq 15, 3) := dk_159 0 15 (dk_at dksX9_share_2 0 rfl rfl)
theorem dX9_share_49 : decode cX9_share 49 = .ok (.aload_n 0, 1) := dk_42 (dk_at dksX9_share_2 3 rfl rfl)
theorem dX9_share_50 : decode cX9_share 50 = .ok (.getfield 7, 3) := dk_180 0 7 (dk_at dksX9_share_2 4 rfl rfl)
theorem dX9_share_53 : decode cX9_share 53 = .ok (.bipush 31, 2) := dk_16 31 (dk_at dksX9_share_2 7 rfl rfl)
theorem dX9_share_55 : decode cX9_share 55 = .ok (.iload_n 1, 1) := dk_27 (dk_at dksX9_share_2 9 rfl rfl)
theorem dX9_share_56 : decode cX9_share 56 = .ok (.iadd, 1) := dk_96 (dk_at dksX9_share_2 10 rfl rfl)
theorem dX9_share_57 : decode cX9_share 57 = .ok (.iaload, 1) := dk_46 (dk_at dksX9_share_2 11 rfl rfl)
theorem dX9_share_58 : decode cX9_share 58 = .ok (.ifCond .ne 5, 3) := dk_154 0 5 (dk_at dksX9_share_2 12 rfl rfl)
theorem dX9_share_61 : decode cX9_share 61 = .ok (.iconst 0, 1) := dk_3 (dk_at dksX9_share_2 15 rfl rfl)
theorem dX9_share_62 : decode cX9_share 62 = .ok (.ireturn, 1) := dk_172 (dk_at dksX9_share_2 16 rfl rfl)
theorem dX9_share_63 : decode cX9_share 63 = .ok (.iload_n 2, 1) := dk_28 (dk_at dksX9_share_2 17 rfl rfl)
theorem dX9_share_64 : decode cX9_share 64 = .ok (.istore 4, 2) := dk_54 4 (dk_at dksX9_share_2 18 rfl rfl)
theorem dX9_share_66 : decode cX9_share 66 = .ok (.iconst 0, 1) := dk_3 (dk_at dksX9_share_2 20 rfl rfl)
theorem dX9_share_67 : decode cX9_share 67 = .ok (.istore 5, 2) := dk_54 5 (dk_at dksX9_share_2 21 rfl rfl)
theorem dX9_share_69 : decode cX9_share 69 = .ok (.iconst 0, 1) := dk_3 (dk_at dksX9_share_2 23 rfl rfl)
theorem dX9_share_70 : decode cX9_share 70 = .ok (.istore 6, 2) := dk_54 6 (dk_at dksX9_share_3 0 rfl rfl)
theorem dX9_share_72 : decode cX9_share 72 = .ok (.iload 6, 2) := dk_21 6 (dk_at dksX9_share_3 2 rfl rfl)
theorem dX9_share_74 : decode cX9_share 74 = .ok (.aload_n 0, 1) := dk_42 (dk_at dksX9_share_3 4 rfl rfl)
theorem dX9_share_75 : decode cX9_share 75 = .ok (.getfield 7, 3) := dk_180 0 7 (dk_at dksX9_share_3 5 rfl rfl)
theorem dX9_share_78 : decode cX9_share 78 = .ok (.iconst 0, 1) := dk_3 (dk_at dksX9_share_3 8 rfl rfl)
theorem dX9_share_79 : decode cX9_share 79 = .ok (.iaload, 1) := dk_46 (dk_at dksX9_share_3 9 rfl rfl)
theorem dX9_share_80 : decode cX9_share 80 = .ok (.if_icmp .ge 72, 3) := dk_162 0 72 (dk_at dksX9_share_3 10 rfl rfl)
theorem dX9_share_83 : decode cX9_share 83 = .ok (.aload_n 0, 1) := dk_42 (dk_at dksX9_share_3 13 rfl rfl)
theorem dX9_share_84 : decode cX9_share 84 = .ok (.getfield 7, 3) := dk_180 0 7 (dk_at dksX9_share_3 14 rfl rfl)
theorem dX9_share_87 : decode cX9_share 87 = .ok (.bipush 13, 2) := dk_16 13 (dk_at dksX9_share_3 17 rfl rfl)
theorem dX9_share_89 : decode cX9_share 89 = .ok (.iload 6, 2) := dk_21 6 (dk_at dksX9_share_3 19 rfl rfl)
theorem dX9_share_91 : decode cX9_share 91 = .ok (.iadd, 1) := dk_96 (dk_at dksX9_share_3 21 rfl rfl)
theorem dX9_share_92 : decode cX9_share 92 = .ok (.iaload, 1) := dk_46 (dk_at dksX9_share_3 22 rfl rfl)
theorem dX9_share_93 : decode cX9_share 93 = .ok (.bipush 11, 2) := dk_16 11 (dk_at dksX9_share_4 0 rfl rfl)
theorem dX9_share_95 : decode cX9_share 95 = .ok (.if_icmp .ne 7, 3) := dk_160 0 7 (dk_at dksX9_share_4 2 rfl rfl)
theorem dX9_share_98 : decode cX9_share 98 = .ok (.iconst 0, 1) := dk_3 (dk_at dksX9_share_4 5 rfl rfl)
theorem dX9_share_99 : decode cX9_share 99 = .ok (.goto 13, 3) := dk_167 0 13 (dk_at dksX9_share_4 6 rfl rfl)
theorem dX9_share_102 : decode cX9_share 102 = .ok (.aload_n 0, 1) := dk_42 (dk_at dksX9_share_4 9 rfl rfl)
theorem dX9_share_103 : decode cX9_share 103 = .ok (.getfield 7, 3) := dk_180 0 7 (dk_at dksX9_share_4 10 rfl rfl)
theorem dX9_share_106 : decode cX9_share 106 = .ok (.bipush 31, 2) := dk_16 31 (dk_at dksX9_share_4 13 rfl rfl)
theorem dX9_share_108 : decode cX9_share 108 = .ok (.iload 6, 2) := dk_21 6 (dk_at dksX9_share_4 15 rfl rfl)
theorem dX9_share_110 : decode cX9_share 110 = .ok (.iadd, 1) := dk_96 (dk_at dksX9_share_4 17 rfl rfl)
theorem dX9_share_111 : decode cX9_share 111 = .ok (.iaload, 1) := dk_46 (dk_at dksX9_share_4 18 rfl rfl)
theorem dX9_share_112 : decode cX9_share 112 = .ok (.istore 7, 2) := dk_54 7 (dk_at dksX9_share_4 19 rfl rfl)
theorem dX9_share_114 : decode cX9_share 114 = .ok (.iload 4, 2) := dk_21 4 (dk_at dksX9_share_4 21 rfl rfl)
theorem dX9_share_116 : decode cX9_share 116 = .ok (.iload_n 2, 1) := dk_28 (dk_at dksX9_share_4 23 rfl rfl)
theorem dX9_share_117 : decode cX9_share 117 = .ok (.iload 7, 2) := dk_21 7 (dk_at dksX9_share_5 0 rfl rfl)
theorem dX9_share_119 : decode cX9_share 119 = .ok (.imul, 1) := dk_104 (dk_at dksX9_share_5 2 rfl rfl)
theorem dX9_share_120 : decode cX9_share 120 = .ok (.iload_n 3, 1) := dk_29 (dk_at dksX9_share_5 3 rfl rfl)
theorem dX9_share_121 : decode cX9_share 121 = .ok (.idiv, 1) := dk_108 (dk_at dksX9_share_5 4 rfl rfl)
theorem dX9_share_122 : decode cX9_share 122 = .ok (.isub, 1) := dk_100 (dk_at dksX9_share_5 5 rfl rfl)
theorem dX9_share_123 : decode cX9_share 123 = .ok (.istore 4, 2) := dk_54 4 (dk_at dksX9_share_5 6 rfl rfl)
theorem dX9_share_125 : decode cX9_share 125 = .ok (.iload 5, 2) := dk_21 5 (dk_at dksX9_share_5 8 rfl rfl)
theorem dX9_share_127 : decode cX9_share 127 = .ok (.iload 6, 2) := dk_21 6 (dk_at dksX9_share_5 10 rfl rfl)
theorem dX9_share_129 : decode cX9_share 129 = .ok (.iload_n 1, 1) := dk_27 (dk_at dksX9_share_5 12 rfl rfl)
theorem dX9_share_130 : decode cX9_share 130 = .ok (.if_icmp .ge 12, 3) := dk_162 0 12 (dk_at dksX9_share_5 13 rfl rfl)
theorem dX9_share_133 : decode cX9_share 133 = .ok (.iload 7, 2) := dk_21 7 (dk_at dksX9_share_5 16 rfl rfl)
theorem dX9_share_135 : decode cX9_share 135 = .ok (.ifCond .le 7, 3) := dk_158 0 7 (dk_at dksX9_share_5 18 rfl rfl)
theorem dX9_share_138 : decode cX9_share 138 = .ok (.iconst 1, 1) := dk_4 (dk_at dksX9_share_5 21 rfl rfl)
theorem dX9_share_139 : decode cX9_share 139 = .ok (.goto 4, 3) := dk_167 0 4 (dk_at dksX9_share_6 0 rfl rfl)
theorem dX9_share_142 : decode cX9_share 142 = .ok (.iconst 0, 1) := dk_3 (dk_at dksX9_share_6 3 rfl rfl)
theorem dX9_share_143 : decode cX9_share 143 = .ok (.iadd, 1) := dk_96 (dk_at dksX9_share_6 4 rfl rfl)
theorem dX9_share_144 : decode cX9_share 144 = .ok (.istore 5, 2) := dk_54 5 (dk_at dksX9_share_6 5 rfl rfl)
theorem dX9_share_146 : decode cX9_share 146 = .ok (.iinc 6 1, 3) := dk_132 6 1 (dk_at dksX9_share_6 7 rfl rfl)
theorem dX9_share_149 : decode cX9_share 149 = .ok (.goto (-77), 3) := dk_167 255 179 (dk_at dksX9_share_6 10 rfl rfl)
theorem dX9_share_152 : decode cX9_share 152 = .ok (.iload_n 2, 1) := dk_28 (dk_at dksX9_share_6 13 rfl rfl)
theorem dX9_share_153 : decode cX9_share 153 = .ok (.aload_n 0, 1) := dk_42 (dk_at dksX9_share_6 14 rfl rfl)
theorem dX9_share_154 : decode cX9_share 154 = .ok (.getfield 7, 3) := dk_180 0 7 (dk_at dksX9_share_6 15 rfl rfl)
theorem dX9_share_157 : decode cX9_share 157 = .ok (.bipush 31, 2) := dk_16 31 (dk_at dksX9_share_6 18 rfl rfl)
theorem dX9_share_159 : decode cX9_share 159 = .ok (.iload_n 1, 1) := dk_27 (dk_at dksX9_share_6 20 rfl rfl)
theorem dX9_share_160 : decode cX9_share 160 = .ok (.iadd, 1) := dk_96 (dk_at dksX9_share_6 21 rfl rfl)
theorem dX9_share_161 : decode cX9_share 161 = .ok (.iaload, 1) := dk_46 (dk_at dksX9_share_6 22 rfl rfl)
theorem dX9_share_162 : decode cX9_share 162 = .ok (.imul, 1) := dk_104 (dk_at dksX9_share_6 23 rfl rfl)
theorem dX9_share_163 : decode cX9_share 163 = .ok (.iload_n 3, 1) := dk_29 (dk_at dksX9_share_7 0 rfl rfl)
theorem dX9_share_164 : decode cX9_share 164 = .ok (.idiv, 1) := dk_108 (dk_at dksX9_share_7 1 rfl rfl)
theorem dX9_share_165 : decode cX9_share 165 = .ok (.iload 5, 2) := dk_21 5 (dk_at dksX9_share_7 2 rfl rfl)
theorem dX9_share_167 : decode cX9_share 167 = .ok (.iload 4, 2) := dk_21 4 (dk_at dksX9_share_7 4 rfl rfl)
theorem dX9_share_169 : decode cX9_share 169 = .ok (.if_icmp .ge 7, 3) := dk_162 0 7 (dk_at dksX9_share_7 6 rfl rfl)
theorem dX9_share_172 : decode cX9_share 172 = .ok (.iconst 1, 1) := dk_4 (dk_at dksX9_share_7 9 rfl rfl)
theorem dX9_share_173 : decode cX9_share 173 = .ok (.goto 4, 3) := dk_167 0 4 (dk_at dksX9_share_7 10 rfl rfl)
theorem dX9_share_176 : decode cX9_share 176 = .ok (.iconst 0, 1) := dk_3 (dk_at dksX9_share_7 13 rfl rfl)
theorem dX9_share_177 : decode cX9_share 177 = .ok (.iadd, 1) := dk_96 (dk_at dksX9_share_7 14 rfl rfl)
theorem dX9_share_178 : decode cX9_share 178 = .ok (.ireturn, 1) := dk_172 (dk_at dksX9_share_7 15 rfl rfl)
abbrev cX9_heatOf : ByteArray := prog_16_method_40_code
def yX9_heatOf : MethodName := ⟨RX9, "heatOf", "(I)I"⟩
def dkwX9_heatOf_1 : List UInt8 := [96, 29, 96, 46, 96, 61, 132, 3, 1, 167, 255, 227, 28, 172]
abbrev dktX9_heatOf_1 : List UInt8 := dkwX9_heatOf_1 ++ []
def dkwX9_heatOf_0 : List UInt8 := [3, 61, 3, 62, 29, 42, 180, 0, 7, 27, 3, 96, 46, 162, 0, 23, 28, 42, 180, 0, 7, 27, 16, 31]
abbrev dktX9_heatOf_0 : List UInt8 := dkwX9_heatOf_0 ++ dktX9_heatOf_1
theorem dksX9_heatOf_0 : cX9_heatOf.data.toList.drop 0 = dktX9_heatOf_0 := by decide +kernel
theorem dksX9_heatOf_1 : cX9_heatOf.data.toList.drop 24 = dktX9_heatOf_1 := dk_seg dksX9_heatOf_0 24 rfl rfl
theorem dX9_heatOf_0 : decode cX9_heatOf 0 = .ok (.iconst 0, 1) := dk_3 (dk_at dksX9_heatOf_0 0 rfl rfl)
theorem dX9_heatOf_1 : decode cX9_heatOf 1 = .ok (.istore_n 2, 1) := dk_61 (dk_at dksX9_heatOf_0 1 rfl rfl)
theorem dX9_heatOf_2 : decode cX9_heatOf 2 = .ok (.iconst 0, 1) := dk_3 (dk_at dksX9_heatOf_0 2 rfl rfl)
theorem dX9_heatOf_3 : decode cX9_heatOf 3 = .ok (.istore_n 3, 1) := dk_62 (dk_at dksX9_heatOf_0 3 rfl rfl)
theorem dX9_heatOf_4 : decode cX9_heatOf 4 = .ok (.iload_n 3, 1) := dk_29 (dk_at dksX9_heatOf_0 4 rfl rfl)
theorem dX9_heatOf_5 : decode cX9_heatOf 5 = .ok (.aload_n 0, 1) := dk_42 (dk_at dksX9_heatOf_0 5 rfl rfl)
theorem dX9_heatOf_6 : decode cX9_heatOf 6 = .ok (.getfield 7, 3) := dk_180 0 7 (dk_at dksX9_heatOf_0 6 rfl rfl)
theorem dX9_heatOf_9 : decode cX9_heatOf 9 = .ok (.iload_n 1, 1) := dk_27 (dk_at dksX9_heatOf_0 9 rfl rfl)
theorem dX9_heatOf_10 : decode cX9_heatOf 10 = .ok (.iconst 0, 1) := dk_3 (dk_at dksX9_heatOf_0 10 rfl rfl)
theorem dX9_heatOf_11 : decode cX9_heatOf 11 = .ok (.iadd, 1) := dk_96 (dk_at dksX9_heatOf_0 11 rfl rfl)
theorem dX9_heatOf_12 : decode cX9_heatOf 12 = .ok (.iaload, 1) := dk_46 (dk_at dksX9_heatOf_0 12 rfl rfl)
theorem dX9_heatOf_13 : decode cX9_heatOf 13 = .ok (.if_icmp .ge 23, 3) := dk_162 0 23 (dk_at dksX9_heatOf_0 13 rfl rfl)
theorem dX9_heatOf_16 : decode cX9_heatOf 16 = .ok (.iload_n 2, 1) := dk_28 (dk_at dksX9_heatOf_0 16 rfl rfl)
theorem dX9_heatOf_17 : decode cX9_heatOf 17 = .ok (.aload_n 0, 1) := dk_42 (dk_at dksX9_heatOf_0 17 rfl rfl)
theorem dX9_heatOf_18 : decode cX9_heatOf 18 = .ok (.getfield 7, 3) := dk_180 0 7 (dk_at dksX9_heatOf_0 18 rfl rfl)
theorem dX9_heatOf_21 : decode cX9_heatOf 21 = .ok (.iload_n 1, 1) := dk_27 (dk_at dksX9_heatOf_0 21 rfl rfl)
theorem dX9_heatOf_22 : decode cX9_heatOf 22 = .ok (.bipush 31, 2) := dk_16 31 (dk_at dksX9_heatOf_0 22 rfl rfl)
theorem dX9_heatOf_24 : decode cX9_heatOf 24 = .ok (.iadd, 1) := dk_96 (dk_at dksX9_heatOf_1 0 rfl rfl)
theorem dX9_heatOf_25 : decode cX9_heatOf 25 = .ok (.iload_n 3, 1) := dk_29 (dk_at dksX9_heatOf_1 1 rfl rfl)
theorem dX9_heatOf_26 : decode cX9_heatOf 26 = .ok (.iadd, 1) := dk_96 (dk_at dksX9_heatOf_1 2 rfl rfl)
theorem dX9_heatOf_27 : decode cX9_heatOf 27 = .ok (.iaload, 1) := dk_46 (dk_at dksX9_heatOf_1 3 rfl rfl)
theorem dX9_heatOf_28 : decode cX9_heatOf 28 = .ok (.iadd, 1) := dk_96 (dk_at dksX9_heatOf_1 4 rfl rfl)
theorem dX9_heatOf_29 : decode cX9_heatOf 29 = .ok (.istore_n 2, 1) := dk_61 (dk_at dksX9_heatOf_1 5 rfl rfl)
theorem dX9_heatOf_30 : decode cX9_heatOf 30 = .ok (.iinc 3 1, 3) := dk_132 3 1 (dk_at dksX9_heatOf_1 6 rfl rfl)
theorem dX9_heatOf_33 : decode cX9_heatOf 33 = .ok (.goto (-29), 3) := dk_167 255 227 (dk_at dksX9_heatOf_1 9 rfl rfl)
theorem dX9_heatOf_36 : decode cX9_heatOf 36 = .ok (.iload_n 2, 1) := dk_28 (dk_at dksX9_heatOf_1 12 rfl rfl)
theorem dX9_heatOf_37 : decode cX9_heatOf 37 = .ok (.ireturn, 1) := dk_172 (dk_at dksX9_heatOf_1 13 rfl rfl)
abbrev cX9_heatServed : ByteArray := prog_16_method_39_code
def yX9_heatServed : MethodName := ⟨RX9, "heatServed", "(I)I"⟩
def dkwX9_heatServed_2 : List UInt8 := [96, 61, 132, 3, 1, 167, 255, 207, 28, 172]
abbrev dktX9_heatServed_2 : List UInt8 := dkwX9_heatServed_2 ++ []
def dkwX9_heatServed_1 : List UInt8 := [96, 29, 96, 46, 16, 11, 160, 0, 17, 42, 180, 0, 7, 27, 16, 31, 96, 29, 96, 46, 167, 0, 4, 3]
abbrev dktX9_heatServed_1 : List UInt8 := dkwX9_heatServed_1 ++ dktX9_heatServed_2
def dkwX9_heatServed_0 : List UInt8 := [3, 61, 3, 62, 29, 42, 180, 0, 7, 27, 3, 96, 46, 162, 0, 43, 28, 42, 180, 0, 7, 27, 16, 13]
abbrev dktX9_heatServed_0 : List UInt8 := dkwX9_heatServed_0 ++ dktX9_heatServed_1
theorem dksX9_heatServed_0 : cX9_heatServed.data.toList.drop 0 = dktX9_heatServed_0 := by decide +kernel
theorem dksX9_heatServed_1 : cX9_heatServed.data.toList.drop 24 = dktX9_heatServed_1 := dk_seg dksX9_heatServed_0 24 rfl rfl
theorem dksX9_heatServed_2 : cX9_heatServed.data.toList.drop 48 = dktX9_heatServed_2 := dk_seg dksX9_heatServed_1 24 rfl rfl
theorem dX9_heatServed_0 : decode cX9_heatServed 0 = .ok (.iconst 0, 1) := dk_3 (dk_at dksX9_heatServed_0 0 rfl rfl)
theorem dX9_heatServed_1 : decode cX9_heatServed 1 = .ok (.istore_n 2, 1) := dk_61 (dk_at dksX9_heatServed_0 1 rfl rfl)
theorem dX9_heatServed_2 : decode cX9_heatServed 2 = .ok (.iconst 0, 1) := dk_3 (dk_at dksX9_heatServed_0 2 rfl rfl)
theorem dX9_heatServed_3 : decode cX9_heatServed 3 = .ok (.istore_n 3, 1) := dk_62 (dk_at dksX9_heatServed_0 3 rfl rfl)
theorem dX9_heatServed_4 : decode cX9_heatServed 4 = .ok (.iload_n 3, 1) := dk_29 (dk_at dksX9_heatServed_0 4 rfl rfl)
theorem dX9_heatServed_5 : decode cX9_heatServed 5 = .ok (.aload_n 0, 1) := dk_42 (dk_at dksX9_heatServed_0 5 rfl rfl)
theorem dX9_heatServed_6 : decode cX9_heatServed 6 = .ok (.getfield 7, 3) := dk_180 0 7 (dk_at dksX9_heatServed_0 6 rfl rfl)
theorem dX9_heatServed_9 : decode cX9_heatServed 9 = .ok (.iload_n 1, 1) := dk_27 (dk_at dksX9_heatServed_0 9 rfl rfl)
theorem dX9_heatServed_10 : decode cX9_heatServed 10 = .ok (.iconst 0, 1) := dk_3 (dk_at dksX9_heatServed_0 10 rfl rfl)
theorem dX9_heatServed_11 : decode cX9_heatServed 11 = .ok (.iadd, 1) := dk_96 (dk_at dksX9_heatServed_0 11 rfl rfl)
theorem dX9_heatServed_12 : decode cX9_heatServed 12 = .ok (.iaload, 1) := dk_46 (dk_at dksX9_heatServed_0 12 rfl rfl)
theorem dX9_heatServed_13 : decode cX9_heatServed 13 = .ok (.if_icmp .ge 43, 3) := dk_162 0 43 (dk_at dksX9_heatServed_0 13 rfl rfl)
theorem dX9_heatServed_16 : decode cX9_heatServed 16 = .ok (.iload_n 2, 1) := dk_28 (dk_at dksX9_heatServed_0 16 rfl rfl)
theorem dX9_heatServed_17 : decode cX9_heatServed 17 = .ok (.aload_n 0, 1) := dk_42 (dk_at dksX9_heatServed_0 17 rfl rfl)
theorem dX9_heatServed_18 : decode cX9_heatServed 18 = .ok (.getfield 7, 3) := dk_180 0 7 (dk_at dksX9_heatServed_0 18 rfl rfl)
theorem dX9_heatServed_21 : decode cX9_heatServed 21 = .ok (.iload_n 1, 1) := dk_27 (dk_at dksX9_heatServed_0 21 rfl rfl)
theorem dX9_heatServed_22 : decode cX9_heatServed 22 = .ok (.bipush 13, 2) := dk_16 13 (dk_at dksX9_heatServed_0 22 rfl rfl)
theorem dX9_heatServed_24 : decode cX9_heatServed 24 = .ok (.iadd, 1) := dk_96 (dk_at dksX9_heatServed_1 0 rfl rfl)
theorem dX9_heatServed_25 : decode cX9_heatServed 25 = .ok (.iload_n 3, 1) := dk_29 (dk_at dksX9_heatServed_1 1 rfl rfl)
theorem dX9_heatServed_26 : decode cX9_heatServed 26 = .ok (.iadd, 1) := dk_96 (dk_at dksX9_heatServed_1 2 rfl rfl)
theorem dX9_heatServed_27 : decode cX9_heatServed 27 = .ok (.iaload, 1) := dk_46 (dk_at dksX9_heatServed_1 3 rfl rfl)
theorem dX9_heatServed_28 : decode cX9_heatServed 28 = .ok (.bipush 11, 2) := dk_16 11 (dk_at dksX9_heatServed_1 4 rfl rfl)
theorem dX9_heatServed_30 : decode cX9_heatServed 30 = .ok (.if_icmp .ne 17, 3) := dk_160 0 17 (dk_at dksX9_heatServed_1 6 rfl rfl)
theorem dX9_heatServed_33 : decode cX9_heatServed 33 = .ok (.aload_n 0, 1) := dk_42 (dk_at dksX9_heatServed_1 9 rfl rfl)
theorem dX9_heatServed_34 : decode cX9_heatServed 34 = .ok (.getfield 7, 3) := dk_180 0 7 (dk_at dksX9_heatServed_1 10 rfl rfl)
theorem dX9_heatServed_37 : decode cX9_heatServed 37 = .ok (.iload_n 1, 1) := dk_27 (dk_at dksX9_heatServed_1 13 rfl rfl)
theorem dX9_heatServed_38 : decode cX9_heatServed 38 = .ok (.bipush 31, 2) := dk_16 31 (dk_at dksX9_heatServed_1 14 rfl rfl)
theorem dX9_heatServed_40 : decode cX9_heatServed 40 = .ok (.iadd, 1) := dk_96 (dk_at dksX9_heatServed_1 16 rfl rfl)
theorem dX9_heatServed_41 : decode cX9_heatServed 41 = .ok (.iload_n 3, 1) := dk_29 (dk_at dksX9_heatServed_1 17 rfl rfl)
theorem dX9_heatServed_42 : decode cX9_heatServed 42 = .ok (.iadd, 1) := dk_96 (dk_at dksX9_heatServed_1 18 rfl rfl)
theorem dX9_heatServed_43 : decode cX9_heatServed 43 = .ok (.iaload, 1) := dk_46 (dk_at dksX9_heatServed_1 19 rfl rfl)
theorem dX9_heatServed_44 : decode cX9_heatServed 44 = .ok (.goto 4, 3) := dk_167 0 4 (dk_at dksX9_heatServed_1 20 rfl rfl)
theorem dX9_heatServed_47 : decode cX9_heatServed 47 = .ok (.iconst 0, 1) := dk_3 (dk_at dksX9_heatServed_1 23 rfl rfl)
theorem dX9_heatServed_48 : decode cX9_heatServed 48 = .ok (.iadd, 1) := dk_96 (dk_at dksX9_heatServed_2 0 rfl rfl)
theorem dX9_heatServed_49 : decode cX9_heatServed 49 = .ok (.istore_n 2, 1) := dk_61 (dk_at dksX9_heatServed_2 1 rfl rfl)
theorem dX9_heatServed_50 : decode cX9_heatServed 50 = .ok (.iinc 3 1, 3) := dk_132 3 1 (dk_at dksX9_heatServed_2 2 rfl rfl)
theorem dX9_heatServed_53 : decode cX9_heatServed 53 = .ok (.goto (-49), 3) := dk_167 255 207 (dk_at dksX9_heatServed_2 5 rfl rfl)
theorem dX9_heatServed_56 : decode cX9_heatServed 56 = .ok (.iload_n 2, 1) := dk_28 (dk_at dksX9_heatServed_2 8 rfl rfl)
theorem dX9_heatServed_57 : decode cX9_heatServed 57 = .ok (.ireturn, 1) := dk_172 (dk_at dksX9_heatServed_2 9 rfl rfl)
abbrev cX9_byTurns : ByteArray := prog_16_method_67_code
def yX9_byTurns : MethodName := ⟨RX9, "byTurns", "(II)I"⟩
def dkwX9_byTurns_10 : List UInt8 := [167, 255, 105, 42, 180, 0, 34, 42, 180, 0, 7, 7, 46, 46, 172]
abbrev dktX9_byTurns_10 : List UInt8 := dkwX9_byTurns_10 ++ []
def dkwX9_byTurns_9 : List UInt8 := [21, 8, 153, 0, 8, 21, 7, 167, 0, 5, 21, 5, 79, 132, 4, 1, 167, 255, 118, 132, 3, 255]
abbrev dktX9_byTurns_9 : List UInt8 := dkwX9_byTurns_9 ++ dktX9_byTurns_10
def dkwX9_byTurns_8 : List UInt8 := [21, 5, 162, 0, 7, 4, 167, 0, 4, 3, 54, 8, 42, 180, 0, 34, 16, 9, 29, 104, 21, 4, 96]
abbrev dktX9_byTurns_8 : List UInt8 := dkwX9_byTurns_8 ++ dktX9_byTurns_9
def dkwX9_byTurns_7 : List UInt8 := [29, 5, 112, 154, 0, 18, 21, 7, 21, 5, 164, 0, 7, 4, 167, 0, 19, 3, 167, 0, 15, 21, 7]
abbrev dktX9_byTurns_7 : List UInt8 := dkwX9_byTurns_7 ++ dktX9_byTurns_8
def dkwX9_byTurns_6 : List UInt8 := [153, 0, 20, 42, 180, 0, 34, 16, 9, 29, 4, 96, 104, 21, 6, 96, 46, 167, 0, 5, 21, 5, 54, 7]
abbrev dktX9_byTurns_6 : List UInt8 := dkwX9_byTurns_6 ++ dktX9_byTurns_7
def dkwX9_byTurns_5 : List UInt8 := [154, 0, 10, 21, 4, 4, 100, 167, 0, 7, 21, 4, 4, 96, 54, 6, 42, 21, 6, 182, 0, 176]
abbrev dktX9_byTurns_5 : List UInt8 := dkwX9_byTurns_5 ++ dktX9_byTurns_6
def dkwX9_byTurns_4 : List UInt8 := [162, 0, 133, 42, 180, 0, 34, 16, 9, 29, 4, 96, 104, 21, 4, 96, 46, 54, 5, 29, 5, 112]
abbrev dktX9_byTurns_4 : List UInt8 := dkwX9_byTurns_4 ++ dktX9_byTurns_5
def dkwX9_byTurns_3 : List UInt8 := [167, 255, 226, 27, 4, 100, 62, 29, 155, 0, 153, 3, 54, 4, 21, 4, 42, 180, 0, 7, 4, 46]
abbrev dktX9_byTurns_3 : List UInt8 := dkwX9_byTurns_3 ++ dktX9_byTurns_4
def dkwX9_byTurns_2 : List UInt8 := [162, 0, 26, 42, 180, 0, 34, 16, 9, 27, 104, 29, 96, 42, 29, 28, 182, 0, 222, 79, 132, 3, 1]
abbrev dktX9_byTurns_2 : List UInt8 := dkwX9_byTurns_2 ++ dktX9_byTurns_3
def dkwX9_byTurns_1 : List UInt8 := [10, 20, 0, 220, 184, 0, 44, 154, 0, 6, 18, 61, 172, 3, 62, 29, 42, 180, 0, 7, 4, 46]
abbrev dktX9_byTurns_1 : List UInt8 := dkwX9_byTurns_1 ++ dktX9_byTurns_2
def dkwX9_byTurns_0 : List UInt8 := [42, 182, 0, 162, 154, 0, 6, 18, 161, 172, 27, 133, 9, 20, 0, 181, 184, 0, 44, 153, 0, 15, 28, 133]
abbrev dktX9_byTurns_0 : List UInt8 := dkwX9_byTurns_0 ++ dktX9_byTurns_1
theorem dksX9_byTurns_0 : cX9_byTurns.data.toList.drop 0 = dktX9_byTurns_0 := by decide +kernel
theorem dksX9_byTurns_1 : cX9_byTurns.data.toList.drop 24 = dktX9_byTurns_1 := dk_seg dksX9_byTurns_0 24 rfl rfl
theorem dksX9_byTurns_2 : cX9_byTurns.data.toList.drop 46 = dktX9_byTurns_2 := dk_seg dksX9_byTurns_1 22 rfl rfl
theorem dksX9_byTurns_3 : cX9_byTurns.data.toList.drop 69 = dktX9_byTurns_3 := dk_seg dksX9_byTurns_2 23 rfl rfl
theorem dksX9_byTurns_4 : cX9_byTurns.data.toList.drop 91 = dktX9_byTurns_4 := dk_seg dksX9_byTurns_3 22 rfl rfl
theorem dksX9_byTurns_5 : cX9_byTurns.data.toList.drop 113 = dktX9_byTurns_5 := dk_seg dksX9_byTurns_4 22 rfl rfl
theorem dksX9_byTurns_6 : cX9_byTurns.data.toList.drop 135 = dktX9_byTurns_6 := dk_seg dksX9_byTurns_5 22 rfl rfl
theorem dksX9_byTurns_7 : cX9_byTurns.data.toList.drop 159 = dktX9_byTurns_7 := dk_seg dksX9_byTurns_6 24 rfl rfl
theorem dksX9_byTurns_8 : cX9_byTurns.data.toList.drop 182 = dktX9_byTurns_8 := dk_seg dksX9_byTurns_7 23 rfl rfl
theorem dksX9_byTurns_9 : cX9_byTurns.data.toList.drop 205 = dktX9_byTurns_9 := dk_seg dksX9_byTurns_8 23 rfl rfl
theorem dksX9_byTurns_10 : cX9_byTurns.data.toList.drop 227 = dktX9_byTurns_10 := dk_seg dksX9_byTurns_9 22 rfl rfl
theorem dX9_byTurns_0 : decode cX9_byTurns 0 = .ok (.aload_n 0, 1) := dk_42 (dk_at dksX9_byTurns_0 0 rfl rfl)
theorem dX9_byTurns_1 : decode cX9_byTurns 1 = .ok (.invokevirtual 162, 3) := dk_182 0 162 (dk_at dksX9_byTurns_0 1 rfl rfl)
theorem dX9_byTurns_4 : decode cX9_byTurns 4 = .ok (.ifCond .ne 6, 3) := dk_154 0 6 (dk_at dksX9_byTurns_0 4 rfl rfl)
theorem dX9_byTurns_7 : decode cX9_byTurns 7 = .ok (.ldc 161, 2) := dk_18 161 (dk_at dksX9_byTurns_0 7 rfl rfl)
theorem dX9_byTurns_9 : decode cX9_byTurns 9 = .ok (.ireturn, 1) := dk_172 (dk_at dksX9_byTurns_0 9 rfl rfl)
theorem dX9_byTurns_10 : decode cX9_byTurns 10 = .ok (.iload_n 1, 1) := dk_27 (dk_at dksX9_byTurns_0 10 rfl rfl)
theorem dX9_byTurns_11 : decode cX9_byTurns 11 = .ok (.i2l, 1) := dk_133 (dk_at dksX9_byTurns_0 11 rfl rfl)
theorem dX9_byTurns_12 : decode cX9_byTurns 12 = .ok (.lconst 0, 1) := dk_9 (dk_at dksX9_byTurns_0 12 rfl rfl)
theorem dX9_byTurns_13 : decode cX9_byTurns 13 = .ok (.ldc2_w 181, 3) := dk_20 0 181 (dk_at dksX9_byTurns_0 13 rfl rfl)
theorem dX9_byTurns_16 : decode cX9_byTurns 16 = .ok (.invokestatic 44, 3) := dk_184 0 44 (dk_at dksX9_byTurns_0 16 rfl rfl)
theorem dX9_byTurns_19 : decode cX9_byTurns 19 = .ok (.ifCond .eq 15, 3) := dk_153 0 15 (dk_at dksX9_byTurns_0 19 rfl rfl)
theorem dX9_byTurns_22 : decode cX9_byTurns 22 = .ok (.iload_n 2, 1) := dk_28 (dk_at dksX9_byTurns_0 22 rfl rfl)
theorem dX9_byTurns_23 : decode cX9_byTurns 23 = .ok (.i2l, 1) := dk_133 (dk_at dksX9_byTurns_0 23 rfl rfl)
theorem dX9_byTurns_24 : decode cX9_byTurns 24 = .ok (.lconst 1, 1) := dk_10 (dk_at dksX9_byTurns_1 0 rfl rfl)
theorem dX9_byTurns_25 : decode cX9_byTurns 25 = .ok (.ldc2_w 220, 3) := dk_20 0 220 (dk_at dksX9_byTurns_1 1 rfl rfl)
theorem dX9_byTurns_28 : decode cX9_byTurns 28 = .ok (.invokestatic 44, 3) := dk_184 0 44 (dk_at dksX9_byTurns_1 4 rfl rfl)
theorem dX9_byTurns_31 : decode cX9_byTurns 31 = .ok (.ifCond .ne 6, 3) := dk_154 0 6 (dk_at dksX9_byTurns_1 7 rfl rfl)
theorem dX9_byTurns_34 : decode cX9_byTurns 34 = .ok (.ldc 61, 2) := dk_18 61 (dk_at dksX9_byTurns_1 10 rfl rfl)
theorem dX9_byTurns_36 : decode cX9_byTurns 36 = .ok (.ireturn, 1) := dk_172 (dk_at dksX9_byTurns_1 12 rfl rfl)
theorem dX9_byTurns_37 : decode cX9_byTurns 37 = .ok (.iconst 0, 1) := dk_3 (dk_at dksX9_byTurns_1 13 rfl rfl)
theorem dX9_byTurns_38 : decode cX9_byTurns 38 = .ok (.istore_n 3, 1) := dk_62 (dk_at dksX9_byTurns_1 14 rfl rfl)
theorem dX9_byTurns_39 : decode cX9_byTurns 39 = .ok (.iload_n 3, 1) := dk_29 (dk_at dksX9_byTurns_1 15 rfl rfl)
theorem dX9_byTurns_40 : decode cX9_byTurns 40 = .ok (.aload_n 0, 1) := dk_42 (dk_at dksX9_byTurns_1 16 rfl rfl)
theorem dX9_byTurns_41 : decode cX9_byTurns 41 = .ok (.getfield 7, 3) := dk_180 0 7 (dk_at dksX9_byTurns_1 17 rfl rfl)
theorem dX9_byTurns_44 : decode cX9_byTurns 44 = .ok (.iconst 1, 1) := dk_4 (dk_at dksX9_byTurns_1 20 rfl rfl)
theorem dX9_byTurns_45 : decode cX9_byTurns 45 = .ok (.iaload, 1) := dk_46 (dk_at dksX9_byTurns_1 21 rfl rfl)
theorem dX9_byTurns_46 : decode cX9_byTurns 46 = .ok (.if_icmp .ge 26, 3) := dk_162 0 26 (dk_at dksX9_byTurns_2 0 rfl rfl)
theorem dX9_byTurns_49 : decode cX9_byTurns 49 = .ok (.aload_n 0, 1) := dk_42 (dk_at dksX9_byTurns_2 3 rfl rfl)
theorem dX9_byTurns_50 : decode cX9_byTurns 50 = .ok (.getfield 34, 3) := dk_180 0 34 (dk_at dksX9_byTurns_2 4 rfl rfl)
theorem dX9_byTurns_53 : decode cX9_byTurns 53 = .ok (.bipush 9, 2) := dk_16 9 (dk_at dksX9_byTurns_2 7 rfl rfl)
theorem dX9_byTurns_55 : decode cX9_byTurns 55 = .ok (.iload_n 1, 1) := dk_27 (dk_at dksX9_byTurns_2 9 rfl rfl)
theorem dX9_byTurns_56 : decode cX9_byTurns 56 = .ok (.imul, 1) := dk_104 (dk_at dksX9_byTurns_2 10 rfl rfl)
theorem dX9_byTurns_57 : decode cX9_byTurns 57 = .ok (.iload_n 3, 1) := dk_29 (dk_at dksX9_byTurns_2 11 rfl rfl)
theorem dX9_byTurns_58 : decode cX9_byTurns 58 = .ok (.iadd, 1) := dk_96 (dk_at dksX9_byTurns_2 12 rfl rfl)
theorem dX9_byTurns_59 : decode cX9_byTurns 59 = .ok (.aload_n 0, 1) := dk_42 (dk_at dksX9_byTurns_2 13 rfl rfl)
theorem dX9_byTurns_60 : decode cX9_byTurns 60 = .ok (.iload_n 3, 1) := dk_29 (dk_at dksX9_byTurns_2 14 rfl rfl)
theorem dX9_byTurns_61 : decode cX9_byTurns 61 = .ok (.iload_n 2, 1) := dk_28 (dk_at dksX9_byTurns_2 15 rfl rfl)
theorem dX9_byTurns_62 : decode cX9_byTurns 62 = .ok (.invokevirtual 222, 3) := dk_182 0 222 (dk_at dksX9_byTurns_2 16 rfl rfl)
theorem dX9_byTurns_65 : decode cX9_byTurns 65 = .ok (.iastore, 1) := dk_79 (dk_at dksX9_byTurns_2 19 rfl rfl)
theorem dX9_byTurns_66 : decode cX9_byTurns 66 = .ok (.iinc 3 1, 3) := dk_132 3 1 (dk_at dksX9_byTurns_2 20 rfl rfl)
theorem dX9_byTurns_69 : decode cX9_byTurns 69 = .ok (.goto (-30), 3) := dk_167 255 226 (dk_at dksX9_byTurns_3 0 rfl rfl)
theorem dX9_byTurns_72 : decode cX9_byTurns 72 = .ok (.iload_n 1, 1) := dk_27 (dk_at dksX9_byTurns_3 3 rfl rfl)
theorem dX9_byTurns_73 : decode cX9_byTurns 73 = .ok (.iconst 1, 1) := dk_4 (dk_at dksX9_byTurns_3 4 rfl rfl)
theorem dX9_byTurns_74 : decode cX9_byTurns 74 = .ok (.isub, 1) := dk_100 (dk_at dksX9_byTurns_3 5 rfl rfl)
theorem dX9_byTurns_75 : decode cX9_byTurns 75 = .ok (.istore_n 3, 1) := dk_62 (dk_at dksX9_byTurns_3 6 rfl rfl)
theorem dX9_byTurns_76 : decode cX9_byTurns 76 = .ok (.iload_n 3, 1) := dk_29 (dk_at dksX9_byTurns_3 7 rfl rfl)
theorem dX9_byTurns_77 : decode cX9_byTurns 77 = .ok (.ifCond .lt 153, 3) := dk_155 0 153 (dk_at dksX9_byTurns_3 8 rfl rfl)
theorem dX9_byTurns_80 : decode cX9_byTurns 80 = .ok (.iconst 0, 1) := dk_3 (dk_at dksX9_byTurns_3 11 rfl rfl)
theorem dX9_byTurns_81 : decode cX9_byTurns 81 = .ok (.istore 4, 2) := dk_54 4 (dk_at dksX9_byTurns_3 12 rfl rfl)
theorem dX9_byTurns_83 : decode cX9_byTurns 83 = .ok (.iload 4, 2) := dk_21 4 (dk_at dksX9_byTurns_3 14 rfl rfl)
theorem dX9_byTurns_85 : decode cX9_byTurns 85 = .ok (.aload_n 0, 1) := dk_42 (dk_at dksX9_byTurns_3 16 rfl rfl)
theorem dX9_byTurns_86 : decode cX9_byTurns 86 = .ok (.getfield 7, 3) := dk_180 0 7 (dk_at dksX9_byTurns_3 17 rfl rfl)
theorem dX9_byTurns_89 : decode cX9_byTurns 89 = .ok (.iconst 1, 1) := dk_4 (dk_at dksX9_byTurns_3 20 rfl rfl)
theorem dX9_byTurns_90 : decode cX9_byTurns 90 = .ok (.iaload, 1) := dk_46 (dk_at dksX9_byTurns_3 21 rfl rfl)
theorem dX9_byTurns_91 : decode cX9_byTurns 91 = .ok (.if_icmp .ge 133, 3) := dk_162 0 133 (dk_at dksX9_byTurns_4 0 rfl rfl)
theorem dX9_byTurns_94 : decode cX9_byTurns 94 = .ok (.aload_n 0, 1) := dk_42 (dk_at dksX9_byTurns_4 3 rfl rfl)
theorem dX9_byTurns_95 : decode cX9_byTurns 95 = .ok (.getfield 34, 3) := dk_180 0 34 (dk_at dksX9_byTurns_4 4 rfl rfl)
theorem dX9_byTurns_98 : decode cX9_byTurns 98 = .ok (.bipush 9, 2) := dk_16 9 (dk_at dksX9_byTurns_4 7 rfl rfl)
theorem dX9_byTurns_100 : decode cX9_byTurns 100 = .ok (.iload_n 3, 1) := dk_29 (dk_at dksX9_byTurns_4 9 rfl rfl)
theorem dX9_byTurns_101 : decode cX9_byTurns 101 = .ok (.iconst 1, 1) := dk_4 (dk_at dksX9_byTurns_4 10 rfl rfl)
theorem dX9_byTurns_102 : decode cX9_byTurns 102 = .ok (.iadd, 1) := dk_96 (dk_at dksX9_byTurns_4 11 rfl rfl)
theorem dX9_byTurns_103 : decode cX9_byTurns 103 = .ok (.imul, 1) := dk_104 (dk_at dksX9_byTurns_4 12 rfl rfl)
theorem dX9_byTurns_104 : decode cX9_byTurns 104 = .ok (.iload 4, 2) := dk_21 4 (dk_at dksX9_byTurns_4 13 rfl rfl)
theorem dX9_byTurns_106 : decode cX9_byTurns 106 = .ok (.iadd, 1) := dk_96 (dk_at dksX9_byTurns_4 15 rfl rfl)
theorem dX9_byTurns_107 : decode cX9_byTurns 107 = .ok (.iaload, 1) := dk_46 (dk_at dksX9_byTurns_4 16 rfl rfl)
theorem dX9_byTurns_108 : decode cX9_byTurns 108 = .ok (.istore 5, 2) := dk_54 5 (dk_at dksX9_byTurns_4 17 rfl rfl)
theorem dX9_byTurns_110 : decode cX9_byTurns 110 = .ok (.iload_n 3, 1) := dk_29 (dk_at dksX9_byTurns_4 19 rfl rfl)
theorem dX9_byTurns_111 : decode cX9_byTurns 111 = .ok (.iconst 2, 1) := dk_5 (dk_at dksX9_byTurns_4 20 rfl rfl)
theorem dX9_byTurns_112 : decode cX9_byTurns 112 = .ok (.irem, 1) := dk_112 (dk_at dksX9_byTurns_4 21 rfl rfl)
theorem dX9_byTurns_113 : decode cX9_byTurns 113 = .ok (.ifCond .ne 10, 3) := dk_154 0 10 (dk_at dksX9_byTurns_5 0 rfl rfl)
theorem dX9_byTurns_116 : decode cX9_byTurns 116 = .ok (.iload 4, 2) := dk_21 4 (dk_at dksX9_byTurns_5 3 rfl rfl)
theorem dX9_byTurns_118 : decode cX9_byTurns 118 = .ok (.iconst 1, 1) := dk_4 (dk_at dksX9_byTurns_5 5 rfl rfl)
theorem dX9_byTurns_119 : decode cX9_byTurns 119 = .ok (.isub, 1) := dk_100 (dk_at dksX9_byTurns_5 6 rfl rfl)
theorem dX9_byTurns_120 : decode cX9_byTurns 120 = .ok (.goto 7, 3) := dk_167 0 7 (dk_at dksX9_byTurns_5 7 rfl rfl)
theorem dX9_byTurns_123 : decode cX9_byTurns 123 = .ok (.iload 4, 2) := dk_21 4 (dk_at dksX9_byTurns_5 10 rfl rfl)
theorem dX9_byTurns_125 : decode cX9_byTurns 125 = .ok (.iconst 1, 1) := dk_4 (dk_at dksX9_byTurns_5 12 rfl rfl)
theorem dX9_byTurns_126 : decode cX9_byTurns 126 = .ok (.iadd, 1) := dk_96 (dk_at dksX9_byTurns_5 13 rfl rfl)
theorem dX9_byTurns_127 : decode cX9_byTurns 127 = .ok (.istore 6, 2) := dk_54 6 (dk_at dksX9_byTurns_5 14 rfl rfl)
theorem dX9_byTurns_129 : decode cX9_byTurns 129 = .ok (.aload_n 0, 1) := dk_42 (dk_at dksX9_byTurns_5 16 rfl rfl)
theorem dX9_byTurns_130 : decode cX9_byTurns 130 = .ok (.iload 6, 2) := dk_21 6 (dk_at dksX9_byTurns_5 17 rfl rfl)
theorem dX9_byTurns_132 : decode cX9_byTurns 132 = .ok (.invokevirtual 176, 3) := dk_182 0 176 (dk_at dksX9_byTurns_5 19 rfl rfl)
theorem dX9_byTurns_135 : decode cX9_byTurns 135 = .ok (.ifCond .eq 20, 3) := dk_153 0 20 (dk_at dksX9_byTurns_6 0 rfl rfl)
theorem dX9_byTurns_138 : decode cX9_byTurns 138 = .ok (.aload_n 0, 1) := dk_42 (dk_at dksX9_byTurns_6 3 rfl rfl)
theorem dX9_byTurns_139 : decode cX9_byTurns 139 = .ok (.getfield 34, 3) := dk_180 0 34 (dk_at dksX9_byTurns_6 4 rfl rfl)
theorem dX9_byTurns_142 : decode cX9_byTurns 142 = .ok (.bipush 9, 2) := dk_16 9 (dk_at dksX9_byTurns_6 7 rfl rfl)
theorem dX9_byTurns_144 : decode cX9_byTurns 144 = .ok (.iload_n 3, 1) := dk_29 (dk_at dksX9_byTurns_6 9 rfl rfl)
theorem dX9_byTurns_145 : decode cX9_byTurns 145 = .ok (.iconst 1, 1) := dk_4 (dk_at dksX9_byTurns_6 10 rfl rfl)
theorem dX9_byTurns_146 : decode cX9_byTurns 146 = .ok (.iadd, 1) := dk_96 (dk_at dksX9_byTurns_6 11 rfl rfl)
theorem dX9_byTurns_147 : decode cX9_byTurns 147 = .ok (.imul, 1) := dk_104 (dk_at dksX9_byTurns_6 12 rfl rfl)
theorem dX9_byTurns_148 : decode cX9_byTurns 148 = .ok (.iload 6, 2) := dk_21 6 (dk_at dksX9_byTurns_6 13 rfl rfl)
theorem dX9_byTurns_150 : decode cX9_byTurns 150 = .ok (.iadd, 1) := dk_96 (dk_at dksX9_byTurns_6 15 rfl rfl)
theorem dX9_byTurns_151 : decode cX9_byTurns 151 = .ok (.iaload, 1) := dk_46 (dk_at dksX9_byTurns_6 16 rfl rfl)
theorem dX9_byTurns_152 : decode cX9_byTurns 152 = .ok (.goto 5, 3) := dk_167 0 5 (dk_at dksX9_byTurns_6 17 rfl rfl)
theorem dX9_byTurns_155 : decode cX9_byTurns 155 = .ok (.iload 5, 2) := dk_21 5 (dk_at dksX9_byTurns_6 20 rfl rfl)
theorem dX9_byTurns_157 : decode cX9_byTurns 157 = .ok (.istore 7, 2) := dk_54 7 (dk_at dksX9_byTurns_6 22 rfl rfl)
theorem dX9_byTurns_159 : decode cX9_byTurns 159 = .ok (.iload_n 3, 1) := dk_29 (dk_at dksX9_byTurns_7 0 rfl rfl)
theorem dX9_byTurns_160 : decode cX9_byTurns 160 = .ok (.iconst 2, 1) := dk_5 (dk_at dksX9_byTurns_7 1 rfl rfl)
theorem dX9_byTurns_161 : decode cX9_byTurns 161 = .ok (.irem, 1) := dk_112 (dk_at dksX9_byTurns_7 2 rfl rfl)
theorem dX9_byTurns_162 : decode cX9_byTurns 162 = .ok (.ifCond .ne 18, 3) := dk_154 0 18 (dk_at dksX9_byTurns_7 3 rfl rfl)
theorem dX9_byTurns_165 : decode cX9_byTurns 165 = .ok (.iload 7, 2) := dk_21 7 (dk_at dksX9_byTurns_7 6 rfl rfl)
theorem dX9_byTurns_167 : decode cX9_byTurns 167 = .ok (.iload 5, 2) := dk_21 5 (dk_at dksX9_byTurns_7 8 rfl rfl)
theorem dX9_byTurns_169 : decode cX9_byTurns 169 = .ok (.if_icmp .le 7, 3) := dk_164 0 7 (dk_at dksX9_byTurns_7 10 rfl rfl)
theorem dX9_byTurns_172 : decode cX9_byTurns 172 = .ok (.iconst 1, 1) := dk_4 (dk_at dksX9_byTurns_7 13 rfl rfl)
theorem dX9_byTurns_173 : decode cX9_byTurns 173 = .ok (.goto 19, 3) := dk_167 0 19 (dk_at dksX9_byTurns_7 14 rfl rfl)
theorem dX9_byTurns_176 : decode cX9_byTurns 176 = .ok (.iconst 0, 1) := dk_3 (dk_at dksX9_byTurns_7 17 rfl rfl)
theorem dX9_byTurns_177 : decode cX9_byTurns 177 = .ok (.goto 15, 3) := dk_167 0 15 (dk_at dksX9_byTurns_7 18 rfl rfl)
theorem dX9_byTurns_180 : decode cX9_byTurns 180 = .ok (.iload 7, 2) := dk_21 7 (dk_at dksX9_byTurns_7 21 rfl rfl)
theorem dX9_byTurns_182 : decode cX9_byTurns 182 = .ok (.iload 5, 2) := dk_21 5 (dk_at dksX9_byTurns_8 0 rfl rfl)
theorem dX9_byTurns_184 : decode cX9_byTurns 184 = .ok (.if_icmp .ge 7, 3) := dk_162 0 7 (dk_at dksX9_byTurns_8 2 rfl rfl)
theorem dX9_byTurns_187 : decode cX9_byTurns 187 = .ok (.iconst 1, 1) := dk_4 (dk_at dksX9_byTurns_8 5 rfl rfl)
theorem dX9_byTurns_188 : decode cX9_byTurns 188 = .ok (.goto 4, 3) := dk_167 0 4 (dk_at dksX9_byTurns_8 6 rfl rfl)
theorem dX9_byTurns_191 : decode cX9_byTurns 191 = .ok (.iconst 0, 1) := dk_3 (dk_at dksX9_byTurns_8 9 rfl rfl)
theorem dX9_byTurns_192 : decode cX9_byTurns 192 = .ok (.istore 8, 2) := dk_54 8 (dk_at dksX9_byTurns_8 10 rfl rfl)
theorem dX9_byTurns_194 : decode cX9_byTurns 194 = .ok (.aload_n 0, 1) := dk_42 (dk_at dksX9_byTurns_8 12 rfl rfl)
theorem dX9_byTurns_195 : decode cX9_byTurns 195 = .ok (.getfield 34, 3) := dk_180 0 34 (dk_at dksX9_byTurns_8 13 rfl rfl)
theorem dX9_byTurns_198 : decode cX9_byTurns 198 = .ok (.bipush 9, 2) := dk_16 9 (dk_at dksX9_byTurns_8 16 rfl rfl)
theorem dX9_byTurns_200 : decode cX9_byTurns 200 = .ok (.iload_n 3, 1) := dk_29 (dk_at dksX9_byTurns_8 18 rfl rfl)
theorem dX9_byTurns_201 : decode cX9_byTurns 201 = .ok (.imul, 1) := dk_104 (dk_at dksX9_byTurns_8 19 rfl rfl)
theorem dX9_byTurns_202 : decode cX9_byTurns 202 = .ok (.iload 4, 2) := dk_21 4 (dk_at dksX9_byTurns_8 20 rfl rfl)
theorem dX9_byTurns_204 : decode cX9_byTurns 204 = .ok (.iadd, 1) := dk_96 (dk_at dksX9_byTurns_8 22 rfl rfl)
theorem dX9_byTurns_205 : decode cX9_byTurns 205 = .ok (.iload 8, 2) := dk_21 8 (dk_at dksX9_byTurns_9 0 rfl rfl)
theorem dX9_byTurns_207 : decode cX9_byTurns 207 = .ok (.ifCond .eq 8, 3) := dk_153 0 8 (dk_at dksX9_byTurns_9 2 rfl rfl)
theorem dX9_byTurns_210 : decode cX9_byTurns 210 = .ok (.iload 7, 2) := dk_21 7 (dk_at dksX9_byTurns_9 5 rfl rfl)
theorem dX9_byTurns_212 : decode cX9_byTurns 212 = .ok (.goto 5, 3) := dk_167 0 5 (dk_at dksX9_byTurns_9 7 rfl rfl)
theorem dX9_byTurns_215 : decode cX9_byTurns 215 = .ok (.iload 5, 2) := dk_21 5 (dk_at dksX9_byTurns_9 10 rfl rfl)
theorem dX9_byTurns_217 : decode cX9_byTurns 217 = .ok (.iastore, 1) := dk_79 (dk_at dksX9_byTurns_9 12 rfl rfl)
theorem dX9_byTurns_218 : decode cX9_byTurns 218 = .ok (.iinc 4 1, 3) := dk_132 4 1 (dk_at dksX9_byTurns_9 13 rfl rfl)
theorem dX9_byTurns_221 : decode cX9_byTurns 221 = .ok (.goto (-138), 3) := dk_167 255 118 (dk_at dksX9_byTurns_9 16 rfl rfl)
theorem dX9_byTurns_224 : decode cX9_byTurns 224 = .ok (.iinc 3 (-1), 3) := dk_132 3 255 (dk_at dksX9_byTurns_9 19 rfl rfl)
theorem dX9_byTurns_227 : decode cX9_byTurns 227 = .ok (.goto (-151), 3) := dk_167 255 105 (dk_at dksX9_byTurns_10 0 rfl rfl)
theorem dX9_byTurns_230 : decode cX9_byTurns 230 = .ok (.aload_n 0, 1) := dk_42 (dk_at dksX9_byTurns_10 3 rfl rfl)
theorem dX9_byTurns_231 : decode cX9_byTurns 231 = .ok (.getfield 34, 3) := dk_180 0 34 (dk_at dksX9_byTurns_10 4 rfl rfl)
theorem dX9_byTurns_234 : decode cX9_byTurns 234 = .ok (.aload_n 0, 1) := dk_42 (dk_at dksX9_byTurns_10 7 rfl rfl)
theorem dX9_byTurns_235 : decode cX9_byTurns 235 = .ok (.getfield 7, 3) := dk_180 0 7 (dk_at dksX9_byTurns_10 8 rfl rfl)
theorem dX9_byTurns_238 : decode cX9_byTurns 238 = .ok (.iconst 4, 1) := dk_7 (dk_at dksX9_byTurns_10 11 rfl rfl)
theorem dX9_byTurns_239 : decode cX9_byTurns 239 = .ok (.iaload, 1) := dk_46 (dk_at dksX9_byTurns_10 12 rfl rfl)
theorem dX9_byTurns_240 : decode cX9_byTurns 240 = .ok (.iaload, 1) := dk_46 (dk_at dksX9_byTurns_10 13 rfl rfl)
theorem dX9_byTurns_241 : decode cX9_byTurns 241 = .ok (.ireturn, 1) := dk_172 (dk_at dksX9_byTurns_10 14 rfl rfl)
abbrev cX9_heatFrom : ByteArray := prog_16_method_66_code
def yX9_heatFrom : MethodName := ⟨RX9, "heatFrom", "(II)I"⟩
def dkwX9_heatFrom_0 : List UInt8 := [42, 182, 0, 192, 42, 180, 0, 7, 16, 47, 27, 79, 42, 28, 182, 0, 195, 42, 16, 43, 182, 0, 217, 172]
abbrev dktX9_heatFrom_0 : List UInt8 := dkwX9_heatFrom_0 ++ []
theorem dksX9_heatFrom_0 : cX9_heatFrom.data.toList.drop 0 = dktX9_heatFrom_0 := by decide +kernel
theorem dX9_heatFrom_0 : decode cX9_heatFrom 0 = .ok (.aload_n 0, 1) := dk_42 (dk_at dksX9_heatFrom_0 0 rfl rfl)
theorem dX9_heatFrom_1 : decode cX9_heatFrom 1 = .ok (.invokevirtual 192, 3) := dk_182 0 192 (dk_at dksX9_heatFrom_0 1 rfl rfl)
theorem dX9_heatFrom_4 : decode cX9_heatFrom 4 = .ok (.aload_n 0, 1) := dk_42 (dk_at dksX9_heatFrom_0 4 rfl rfl)
theorem dX9_heatFrom_5 : decode cX9_heatFrom 5 = .ok (.getfield 7, 3) := dk_180 0 7 (dk_at dksX9_heatFrom_0 5 rfl rfl)
theorem dX9_heatFrom_8 : decode cX9_heatFrom 8 = .ok (.bipush 47, 2) := dk_16 47 (dk_at dksX9_heatFrom_0 8 rfl rfl)
theorem dX9_heatFrom_10 : decode cX9_heatFrom 10 = .ok (.iload_n 1, 1) := dk_27 (dk_at dksX9_heatFrom_0 10 rfl rfl)
theorem dX9_heatFrom_11 : decode cX9_heatFrom 11 = .ok (.iastore, 1) := dk_79 (dk_at dksX9_heatFrom_0 11 rfl rfl)
theorem dX9_heatFrom_12 : decode cX9_heatFrom 12 = .ok (.aload_n 0, 1) := dk_42 (dk_at dksX9_heatFrom_0 12 rfl rfl)
theorem dX9_heatFrom_13 : decode cX9_heatFrom 13 = .ok (.iload_n 2, 1) := dk_28 (dk_at dksX9_heatFrom_0 13 rfl rfl)
theorem dX9_heatFrom_14 : decode cX9_heatFrom 14 = .ok (.invokevirtual 195, 3) := dk_182 0 195 (dk_at dksX9_heatFrom_0 14 rfl rfl)
theorem dX9_heatFrom_17 : decode cX9_heatFrom 17 = .ok (.aload_n 0, 1) := dk_42 (dk_at dksX9_heatFrom_0 17 rfl rfl)
theorem dX9_heatFrom_18 : decode cX9_heatFrom 18 = .ok (.bipush 43, 2) := dk_16 43 (dk_at dksX9_heatFrom_0 18 rfl rfl)
theorem dX9_heatFrom_20 : decode cX9_heatFrom 20 = .ok (.invokevirtual 217, 3) := dk_182 0 217 (dk_at dksX9_heatFrom_0 20 rfl rfl)
theorem dX9_heatFrom_23 : decode cX9_heatFrom 23 = .ok (.ireturn, 1) := dk_172 (dk_at dksX9_heatFrom_0 23 rfl rfl)
abbrev cX9_who : ByteArray := prog_16_method_69_code
def yX9_who : MethodName := ⟨RX9, "who", "(IIIII)I"⟩
def dkwX9_who_12 : List UInt8 := [132, 11, 1, 167, 255, 190, 28, 5, 112, 154, 0, 8, 21, 8, 167, 0, 5, 21, 9, 172]
abbrev dktX9_who_12 : List UInt8 := dkwX9_who_12 ++ []
def dkwX9_who_11 : List UInt8 := [182, 0, 229, 153, 0, 20, 21, 8, 154, 0, 8, 21, 11, 167, 0, 5, 21, 9, 54, 9, 132, 8, 1]
abbrev dktX9_who_11 : List UInt8 := dkwX9_who_11 ++ dktX9_who_12
def dkwX9_who_10 : List UInt8 := [7, 162, 0, 10, 16, 31, 27, 96, 167, 0, 4, 6, 96, 21, 11, 79, 42, 27, 21, 7, 21, 5]
abbrev dktX9_who_10 : List UInt8 := dkwX9_who_10 ++ dktX9_who_11
def dkwX9_who_9 : List UInt8 := [167, 0, 4, 4, 54, 11, 21, 11, 21, 10, 163, 0, 65, 42, 182, 0, 192, 42, 180, 0, 7, 16, 43, 28]
abbrev dktX9_who_9 : List UInt8 := dkwX9_who_9 ++ dktX9_who_10
def dkwX9_who_8 : List UInt8 := [54, 9, 28, 7, 162, 0, 8, 16, 60, 167, 0, 5, 16, 40, 54, 10, 28, 7, 162, 0, 7, 3]
abbrev dktX9_who_8 : List UInt8 := dkwX9_who_8 ++ dktX9_who_9
def dkwX9_who_7 : List UInt8 := [21, 10, 120, 167, 0, 4, 3, 128, 54, 8, 132, 10, 1, 167, 255, 195, 21, 8, 172, 3, 54, 8, 18, 198]
abbrev dktX9_who_7 : List UInt8 := dkwX9_who_7 ++ dktX9_who_8
def dkwX9_who_6 : List UInt8 := [96, 167, 0, 4, 7, 96, 21, 10, 79, 21, 8, 42, 27, 21, 7, 21, 5, 182, 0, 229, 153, 0, 10, 4]
abbrev dktX9_who_6 : List UInt8 := dkwX9_who_6 ++ dktX9_who_7
def dkwX9_who_5 : List UInt8 := [21, 10, 21, 9, 163, 0, 60, 42, 182, 0, 192, 42, 180, 0, 7, 16, 43, 28, 154, 0, 10, 16, 7, 27]
abbrev dktX9_who_5 : List UInt8 := dkwX9_who_5 ++ dktX9_who_6
def dkwX9_who_4 : List UInt8 := [167, 0, 11, 42, 180, 0, 7, 4, 46, 4, 100, 54, 9, 28, 154, 0, 7, 4, 167, 0, 4, 3, 54, 10]
abbrev dktX9_who_4 : List UInt8 := dkwX9_who_4 ++ dktX9_who_5
def dkwX9_who_3 : List UInt8 := [16, 40, 29, 104, 21, 4, 96, 54, 7, 28, 5, 162, 0, 102, 3, 54, 8, 28, 154, 0, 7, 8]
abbrev dktX9_who_3 : List UInt8 := dkwX9_who_3 ++ dktX9_who_4
def dkwX9_who_2 : List UInt8 := [21, 5, 182, 0, 66, 54, 6, 21, 6, 158, 0, 10, 42, 21, 6, 182, 0, 62, 172, 42, 3, 181, 0, 50]
abbrev dktX9_who_2 : List UInt8 := dkwX9_who_2 ++ dktX9_who_3
def dkwX9_who_1 : List UInt8 := [153, 0, 16, 21, 5, 133, 10, 20, 0, 227, 184, 0, 44, 154, 0, 6, 18, 61, 172, 42, 29, 21, 4]
abbrev dktX9_who_1 : List UInt8 := dkwX9_who_1 ++ dktX9_who_2
def dkwX9_who_0 : List UInt8 := [42, 27, 182, 0, 183, 153, 0, 35, 28, 133, 9, 20, 0, 225, 184, 0, 44, 153, 0, 23, 29, 184, 0, 55]
abbrev dktX9_who_0 : List UInt8 := dkwX9_who_0 ++ dktX9_who_1
theorem dksX9_who_0 : cX9_who.data.toList.drop 0 = dktX9_who_0 := by decide +kernel
theorem dksX9_who_1 : cX9_who.data.toList.drop 24 = dktX9_who_1 := dk_seg dksX9_who_0 24 rfl rfl
theorem dksX9_who_2 : cX9_who.data.toList.drop 47 = dktX9_who_2 := dk_seg dksX9_who_1 23 rfl rfl
theorem dksX9_who_3 : cX9_who.data.toList.drop 71 = dktX9_who_3 := dk_seg dksX9_who_2 24 rfl rfl
theorem dksX9_who_4 : cX9_who.data.toList.drop 93 = dktX9_who_4 := dk_seg dksX9_who_3 22 rfl rfl
theorem dksX9_who_5 : cX9_who.data.toList.drop 117 = dktX9_who_5 := dk_seg dksX9_who_4 24 rfl rfl
theorem dksX9_who_6 : cX9_who.data.toList.drop 141 = dktX9_who_6 := dk_seg dksX9_who_5 24 rfl rfl
theorem dksX9_who_7 : cX9_who.data.toList.drop 165 = dktX9_who_7 := dk_seg dksX9_who_6 24 rfl rfl
theorem dksX9_who_8 : cX9_who.data.toList.drop 189 = dktX9_who_8 := dk_seg dksX9_who_7 24 rfl rfl
theorem dksX9_who_9 : cX9_who.data.toList.drop 211 = dktX9_who_9 := dk_seg dksX9_who_8 22 rfl rfl
theorem dksX9_who_10 : cX9_who.data.toList.drop 235 = dktX9_who_10 := dk_seg dksX9_who_9 24 rfl rfl
theorem dksX9_who_11 : cX9_who.data.toList.drop 257 = dktX9_who_11 := dk_seg dksX9_who_10 22 rfl rfl
theorem dksX9_who_12 : cX9_who.data.toList.drop 280 = dktX9_who_12 := dk_seg dksX9_who_11 23 rfl rfl
theorem dX9_who_0 : decode cX9_who 0 = .ok (.aload_n 0, 1) := dk_42 (dk_at dksX9_who_0 0 rfl rfl)
theorem dX9_who_1 : decode cX9_who 1 = .ok (.iload_n 1, 1) := dk_27 (dk_at dksX9_who_0 1 rfl rfl)
theorem dX9_who_2 : decode cX9_who 2 = .ok (.invokevirtual 183, 3) := dk_182 0 183 (dk_at dksX9_who_0 2 rfl rfl)
theorem dX9_who_5 : decode cX9_who 5 = .ok (.ifCond .eq 35, 3) := dk_153 0 35 (dk_at dksX9_who_0 5 rfl rfl)
theorem dX9_who_8 : decode cX9_who 8 = .ok (.iload_n 2, 1) := dk_28 (dk_at dksX9_who_0 8 rfl rfl)
theorem dX9_who_9 : decode cX9_who 9 = .ok (.i2l, 1) := dk_133 (dk_at dksX9_who_0 9 rfl rfl)
theorem dX9_who_10 : decode cX9_who 10 = .ok (.lconst 0, 1) := dk_9 (dk_at dksX9_who_0 10 rfl rfl)
theorem dX9_who_11 : decode cX9_who 11 = .ok (.ldc2_w 225, 3) := dk_20 0 225 (dk_at dksX9_who_0 11 rfl rfl)
theorem dX9_who_14 : decode cX9_who 14 = .ok (.invokestatic 44, 3) := dk_184 0 44 (dk_at dksX9_who_0 14 rfl rfl)
theorem dX9_who_17 : decode cX9_who 17 = .ok (.ifCond .eq 23, 3) := dk_153 0 23 (dk_at dksX9_who_0 17 rfl rfl)
theorem dX9_who_20 : decode cX9_who 20 = .ok (.iload_n 3, 1) := dk_29 (dk_at dksX9_who_0 20 rfl rfl)
theorem dX9_who_21 : decode cX9_who 21 = .ok (.invokestatic 55, 3) := dk_184 0 55 (dk_at dksX9_who_0 21 rfl rfl)
theorem dX9_who_24 : decode cX9_who 24 = .ok (.ifCond .eq 16, 3) := dk_153 0 16 (dk_at dksX9_who_1 0 rfl rfl)
theorem dX9_who_27 : decode cX9_who 27 = .ok (.iload 5, 2) := dk_21 5 (dk_at dksX9_who_1 3 rfl rfl)
theorem dX9_who_29 : decode cX9_who 29 = .ok (.i2l, 1) := dk_133 (dk_at dksX9_who_1 5 rfl rfl)
theorem dX9_who_30 : decode cX9_who 30 = .ok (.lconst 1, 1) := dk_10 (dk_at dksX9_who_1 6 rfl rfl)
theorem dX9_who_31 : decode cX9_who 31 = .ok (.ldc2_w 227, 3) := dk_20 0 227 (dk_at dksX9_who_1 7 rfl rfl)
theorem dX9_who_34 : decode cX9_who 34 = .ok (.invokestatic 44, 3) := dk_184 0 44 (dk_at dksX9_who_1 10 rfl rfl)
theorem dX9_who_37 : decode cX9_who 37 = .ok (.ifCond .ne 6, 3) := dk_154 0 6 (dk_at dksX9_who_1 13 rfl rfl)
theorem dX9_who_40 : decode cX9_who 40 = .ok (.ldc 61, 2) := dk_18 61 (dk_at dksX9_who_1 16 rfl rfl)
theorem dX9_who_42 : decode cX9_who 42 = .ok (.ireturn, 1) := dk_172 (dk_at dksX9_who_1 18 rfl rfl)
theorem dX9_who_43 : decode cX9_who 43 = .ok (.aload_n 0, 1) := dk_42 (dk_at dksX9_who_1 19 rfl rfl)
theorem dX9_who_44 : decode cX9_who 44 = .ok (.iload_n 3, 1) := dk_29 (dk_at dksX9_who_1 20 rfl rfl)
theorem dX9_who_45 : decode cX9_who 45 = .ok (.iload 4, 2) := dk_21 4 (dk_at dksX9_who_1 21 rfl rfl)
theorem dX9_who_47 : decode cX9_who 47 = .ok (.iload 5, 2) := dk_21 5 (dk_at dksX9_who_2 0 rfl rfl)
theorem dX9_who_49 : decode cX9_who 49 = .ok (.invokevirtual 66, 3) := dk_182 0 66 (dk_at dksX9_who_2 2 rfl rfl)
theorem dX9_who_52 : decode cX9_who 52 = .ok (.istore 6, 2) := dk_54 6 (dk_at dksX9_who_2 5 rfl rfl)
theorem dX9_who_54 : decode cX9_who 54 = .ok (.iload 6, 2) := dk_21 6 (dk_at dksX9_who_2 7 rfl rfl)
theorem dX9_who_56 : decode cX9_who 56 = .ok (.ifCond .le 10, 3) := dk_158 0 10 (dk_at dksX9_who_2 9 rfl rfl)
theorem dX9_who_59 : decode cX9_who 59 = .ok (.aload_n 0, 1) := dk_42 (dk_at dksX9_who_2 12 rfl rfl)
theorem dX9_who_60 : decode cX9_who 60 = .ok (.iload 6, 2) := dk_21 6 (dk_at dksX9_who_2 13 rfl rfl)
theorem dX9_who_62 : decode cX9_who 62 = .ok (.invokevirtual 62, 3) := dk_182 0 62 (dk_at dksX9_who_2 15 rfl rfl)
theorem dX9_who_65 : decode cX9_who 65 = .ok (.ireturn, 1) := dk_172 (dk_at dksX9_who_2 18 rfl rfl)
theorem dX9_who_66 : decode cX9_who 66 = .ok (.aload_n 0, 1) := dk_42 (dk_at dksX9_who_2 19 rfl rfl)
theorem dX9_who_67 : decode cX9_who 67 = .ok (.iconst 0, 1) := dk_3 (dk_at dksX9_who_2 20 rfl rfl)
theorem dX9_who_68 : decode cX9_who 68 = .ok (.putfield 50, 3) := dk_181 0 50 (dk_at dksX9_who_2 21 rfl rfl)
theorem dX9_who_71 : decode cX9_who 71 = .ok (.bipush 40, 2) := dk_16 40 (dk_at dksX9_who_3 0 rfl rfl)
theorem dX9_who_73 : decode cX9_who 73 = .ok (.iload_n 3, 1) := dk_29 (dk_at dksX9_who_3 2 rfl rfl)
theorem dX9_who_74 : decode cX9_who 74 = .ok (.imul, 1) := dk_104 (dk_at dksX9_who_3 3 rfl rfl)
theorem dX9_who_75 : decode cX9_who 75 = .ok (.iload 4, 2) := dk_21 4 (dk_at dksX9_who_3 4 rfl rfl)
theorem dX9_who_77 : decode cX9_who 77 = .ok (.iadd, 1) := dk_96 (dk_at dksX9_who_3 6 rfl rfl)
theorem dX9_who_78 : decode cX9_who 78 = .ok (.istore 7, 2) := dk_54 7 (dk_at dksX9_who_3 7 rfl rfl)
theorem dX9_who_80 : decode cX9_who 80 = .ok (.iload_n 2, 1) := dk_28 (dk_at dksX9_who_3 9 rfl rfl)
theorem dX9_who_81 : decode cX9_who 81 = .ok (.iconst 2, 1) := dk_5 (dk_at dksX9_who_3 10 rfl rfl)
theorem dX9_who_82 : decode cX9_who 82 = .ok (.if_icmp .ge 102, 3) := dk_162 0 102 (dk_at dksX9_who_3 11 rfl rfl)
theorem dX9_who_85 : decode cX9_who 85 = .ok (.iconst 0, 1) := dk_3 (dk_at dksX9_who_3 14 rfl rfl)
theorem dX9_who_86 : decode cX9_who 86 = .ok (.istore 8, 2) := dk_54 8 (dk_at dksX9_who_3 15 rfl rfl)
theorem dX9_who_88 : decode cX9_who 88 = .ok (.iload_n 2, 1) := dk_28 (dk_at dksX9_who_3 17 rfl rfl)
theorem dX9_who_89 : decode cX9_who 89 = .ok (.ifCond .ne 7, 3) := dk_154 0 7 (dk_at dksX9_who_3 18 rfl rfl)
theorem dX9_who_92 : decode cX9_who 92 = .ok (.iconst 5, 1) := dk_8 (dk_at dksX9_who_3 21 rfl rfl)
theorem dX9_who_93 : decode cX9_who 93 = .ok (.goto 11, 3) := dk_167 0 11 (dk_at dksX9_who_4 0 rfl rfl)
theorem dX9_who_96 : decode cX9_who 96 = .ok (.aload_n 0, 1) := dk_42 (dk_at dksX9_who_4 3 rfl rfl)
theorem dX9_who_97 : decode cX9_who 97 = .ok (.getfield 7, 3) := dk_180 0 7 (dk_at dksX9_who_4 4 rfl rfl)
theorem dX9_who_100 : decode cX9_who 100 = .ok (.iconst 1, 1) := dk_4 (dk_at dksX9_who_4 7 rfl rfl)
theorem dX9_who_101 : decode cX9_who 101 = .ok (.iaload, 1) := dk_46 (dk_at dksX9_who_4 8 rfl rfl)
theorem dX9_who_102 : decode cX9_who 102 = .ok (.iconst 1, 1) := dk_4 (dk_at dksX9_who_4 9 rfl rfl)
theorem dX9_who_103 : decode cX9_who 103 = .ok (.isub, 1) := dk_100 (dk_at dksX9_who_4 10 rfl rfl)
theorem dX9_who_104 : decode cX9_who 104 = .ok (.istore 9, 2) := dk_54 9 (dk_at dksX9_who_4 11 rfl rfl)
theorem dX9_who_106 : decode cX9_who 106 = .ok (.iload_n 2, 1) := dk_28 (dk_at dksX9_who_4 13 rfl rfl)
theorem dX9_who_107 : decode cX9_who 107 = .ok (.ifCond .ne 7, 3) := dk_154 0 7 (dk_at dksX9_who_4 14 rfl rfl)
theorem dX9_who_110 : decode cX9_who 110 = .ok (.iconst 1, 1) := dk_4 (dk_at dksX9_who_4 17 rfl rfl)
theorem dX9_who_111 : decode cX9_who 111 = .ok (.goto 4, 3) := dk_167 0 4 (dk_at dksX9_who_4 18 rfl rfl)
theorem dX9_who_114 : decode cX9_who 114 = .ok (.iconst 0, 1) := dk_3 (dk_at dksX9_who_4 21 rfl rfl)
theorem dX9_who_115 : decode cX9_who 115 = .ok (.istore 10, 2) := dk_54 10 (dk_at dksX9_who_4 22 rfl rfl)
theorem dX9_who_117 : decode cX9_who 117 = .ok (.iload 10, 2) := dk_21 10 (dk_at dksX9_who_5 0 rfl rfl)
theorem dX9_who_119 : decode cX9_who 119 = .ok (.iload 9, 2) := dk_21 9 (dk_at dksX9_who_5 2 rfl rfl)
theorem dX9_who_121 : decode cX9_who 121 = .ok (.if_icmp .gt 60, 3) := dk_163 0 60 (dk_at dksX9_who_5 4 rfl rfl)
theorem dX9_who_124 : decode cX9_who 124 = .ok (.aload_n 0, 1) := dk_42 (dk_at dksX9_who_5 7 rfl rfl)
theorem dX9_who_125 : decode cX9_who 125 = .ok (.invokevirtual 192, 3) := dk_182 0 192 (dk_at dksX9_who_5 8 rfl rfl)
theorem dX9_who_128 : decode cX9_who 128 = .ok (.aload_n 0, 1) := dk_42 (dk_at dksX9_who_5 11 rfl rfl)
theorem dX9_who_129 : decode cX9_who 129 = .ok (.getfield 7, 3) := dk_180 0 7 (dk_at dksX9_who_5 12 rfl rfl)
theorem dX9_who_132 : decode cX9_who 132 = .ok (.bipush 43, 2) := dk_16 43 (dk_at dksX9_who_5 15 rfl rfl)
theorem dX9_who_134 : decode cX9_who 134 = .ok (.iload_n 2, 1) := dk_28 (dk_at dksX9_who_5 17 rfl rfl)
theorem dX9_who_135 : decode cX9_who 135 = .ok (.ifCond .ne 10, 3) := dk_154 0 10 (dk_at dksX9_who_5 18 rfl rfl)
theorem dX9_who_138 : decode cX9_who 138 = .ok (.bipush 7, 2) := dk_16 7 (dk_at dksX9_who_5 21 rfl rfl)
theorem dX9_who_140 : decode cX9_who 140 = .ok (.iload_n 1, 1) := dk_27 (dk_at dksX9_who_5 23 rfl rfl)
theorem dX9_who_141 : decode cX9_who 141 = .ok (.iadd, 1) := dk_96 (dk_at dksX9_who_6 0 rfl rfl)
theorem dX9_who_142 : decode cX9_who 142 = .ok (.goto 4, 3) := dk_167 0 4 (dk_at dksX9_who_6 1 rfl rfl)
theorem dX9_who_145 : decode cX9_who 145 = .ok (.iconst 4, 1) := dk_7 (dk_at dksX9_who_6 4 rfl rfl)
theorem dX9_who_146 : decode cX9_who 146 = .ok (.iadd, 1) := dk_96 (dk_at dksX9_who_6 5 rfl rfl)
theorem dX9_who_147 : decode cX9_who 147 = .ok (.iload 10, 2) := dk_21 10 (dk_at dksX9_who_6 6 rfl rfl)
theorem dX9_who_149 : decode cX9_who 149 = .ok (.iastore, 1) := dk_79 (dk_at dksX9_who_6 8 rfl rfl)
theorem dX9_who_150 : decode cX9_who 150 = .ok (.iload 8, 2) := dk_21 8 (dk_at dksX9_who_6 9 rfl rfl)
theorem dX9_who_152 : decode cX9_who 152 = .ok (.aload_n 0, 1) := dk_42 (dk_at dksX9_who_6 11 rfl rfl)
theorem dX9_who_153 : decode cX9_who 153 = .ok (.iload_n 1, 1) := dk_27 (dk_at dksX9_who_6 12 rfl rfl)
theorem dX9_who_154 : decode cX9_who 154 = .ok (.iload 7, 2) := dk_21 7 (dk_at dksX9_who_6 13 rfl rfl)
theorem dX9_who_156 : decode cX9_who 156 = .ok (.iload 5, 2) := dk_21 5 (dk_at dksX9_who_6 15 rfl rfl)
theorem dX9_who_158 : decode cX9_who 158 = .ok (.invokevirtual 229, 3) := dk_182 0 229 (dk_at dksX9_who_6 17 rfl rfl)
theorem dX9_who_161 : decode cX9_who 161 = .ok (.ifCond .eq 10, 3) := dk_153 0 10 (dk_at dksX9_who_6 20 rfl rfl)
theorem dX9_who_164 : decode cX9_who 164 = .ok (.iconst 1, 1) := dk_4 (dk_at dksX9_who_6 23 rfl rfl)
theorem dX9_who_165 : decode cX9_who 165 = .ok (.iload 10, 2) := dk_21 10 (dk_at dksX9_who_7 0 rfl rfl)
theorem dX9_who_167 : decode cX9_who 167 = .ok (.ishl, 1) := dk_120 (dk_at dksX9_who_7 2 rfl rfl)
theorem dX9_who_168 : decode cX9_who 168 = .ok (.goto 4, 3) := dk_167 0 4 (dk_at dksX9_who_7 3 rfl rfl)
theorem dX9_who_171 : decode cX9_who 171 = .ok (.iconst 0, 1) := dk_3 (dk_at dksX9_who_7 6 rfl rfl)
theorem dX9_who_172 : decode cX9_who 172 = .ok (.ior, 1) := dk_128 (dk_at dksX9_who_7 7 rfl rfl)
theorem dX9_who_173 : decode cX9_who 173 = .ok (.istore 8, 2) := dk_54 8 (dk_at dksX9_who_7 8 rfl rfl)
theorem dX9_who_175 : decode cX9_who 175 = .ok (.iinc 10 1, 3) := dk_132 10 1 (dk_at dksX9_who_7 10 rfl rfl)
theorem dX9_who_178 : decode cX9_who 178 = .ok (.goto (-61), 3) := dk_167 255 195 (dk_at dksX9_who_7 13 rfl rfl)
theorem dX9_who_181 : decode cX9_who 181 = .ok (.iload 8, 2) := dk_21 8 (dk_at dksX9_who_7 16 rfl rfl)
theorem dX9_who_183 : decode cX9_who 183 = .ok (.ireturn, 1) := dk_172 (dk_at dksX9_who_7 18 rfl rfl)
theorem dX9_who_184 : decode cX9_who 184 = .ok (.iconst 0, 1) := dk_3 (dk_at dksX9_who_7 19 rfl rfl)
theorem dX9_who_185 : decode cX9_who 185 = .ok (.istore 8, 2) := dk_54 8 (dk_at dksX9_who_7 20 rfl rfl)
theorem dX9_who_187 : decode cX9_who 187 = .ok (.ldc 198, 2) := dk_18 198 (dk_at dksX9_who_7 22 rfl rfl)
theorem dX9_who_189 : decode cX9_who 189 = .ok (.istore 9, 2) := dk_54 9 (dk_at dksX9_who_8 0 rfl rfl)
theorem dX9_who_191 : decode cX9_who 191 = .ok (.iload_n 2, 1) := dk_28 (dk_at dksX9_who_8 2 rfl rfl)
theorem dX9_who_192 : decode cX9_who 192 = .ok (.iconst 4, 1) := dk_7 (dk_at dksX9_who_8 3 rfl rfl)
theorem dX9_who_193 : decode cX9_who 193 = .ok (.if_icmp .ge 8, 3) := dk_162 0 8 (dk_at dksX9_who_8 4 rfl rfl)
theorem dX9_who_196 : decode cX9_who 196 = .ok (.bipush 60, 2) := dk_16 60 (dk_at dksX9_who_8 7 rfl rfl)
theorem dX9_who_198 : decode cX9_who 198 = .ok (.goto 5, 3) := dk_167 0 5 (dk_at dksX9_who_8 9 rfl rfl)
theorem dX9_who_201 : decode cX9_who 201 = .ok (.bipush 40, 2) := dk_16 40 (dk_at dksX9_who_8 12 rfl rfl)
theorem dX9_who_203 : decode cX9_who 203 = .ok (.istore 10, 2) := dk_54 10 (dk_at dksX9_who_8 14 rfl rfl)
theorem dX9_who_205 : decode cX9_who 205 = .ok (.iload_n 2, 1) := dk_28 (dk_at dksX9_who_8 16 rfl rfl)
theorem dX9_who_206 : decode cX9_who 206 = .ok (.iconst 4, 1) := dk_7 (dk_at dksX9_who_8 17 rfl rfl)
theorem dX9_who_207 : decode cX9_who 207 = .ok (.if_icmp .ge 7, 3) := dk_162 0 7 (dk_at dksX9_who_8 18 rfl rfl)
theorem dX9_who_210 : decode cX9_who 210 = .ok (.iconst 0, 1) := dk_3 (dk_at dksX9_who_8 21 rfl rfl)
theorem dX9_who_211 : decode cX9_who 211 = .ok (.goto 4, 3) := dk_167 0 4 (dk_at dksX9_who_9 0 rfl rfl)
theorem dX9_who_214 : decode cX9_who 214 = .ok (.iconst 1, 1) := dk_4 (dk_at dksX9_who_9 3 rfl rfl)
theorem dX9_who_215 : decode cX9_who 215 = .ok (.istore 11, 2) := dk_54 11 (dk_at dksX9_who_9 4 rfl rfl)
theorem dX9_who_217 : decode cX9_who 217 = .ok (.iload 11, 2) := dk_21 11 (dk_at dksX9_who_9 6 rfl rfl)
theorem dX9_who_219 : decode cX9_who 219 = .ok (.iload 10, 2) := dk_21 10 (dk_at dksX9_who_9 8 rfl rfl)
theorem dX9_who_221 : decode cX9_who 221 = .ok (.if_icmp .gt 65, 3) := dk_163 0 65 (dk_at dksX9_who_9 10 rfl rfl)
theorem dX9_who_224 : decode cX9_who 224 = .ok (.aload_n 0, 1) := dk_42 (dk_at dksX9_who_9 13 rfl rfl)
theorem dX9_who_225 : decode cX9_who 225 = .ok (.invokevirtual 192, 3) := dk_182 0 192 (dk_at dksX9_who_9 14 rfl rfl)
theorem dX9_who_228 : decode cX9_who 228 = .ok (.aload_n 0, 1) := dk_42 (dk_at dksX9_who_9 17 rfl rfl)
theorem dX9_who_229 : decode cX9_who 229 = .ok (.getfield 7, 3) := dk_180 0 7 (dk_at dksX9_who_9 18 rfl rfl)
theorem dX9_who_232 : decode cX9_who 232 = .ok (.bipush 43, 2) := dk_16 43 (dk_at dksX9_who_9 21 rfl rfl)
theorem dX9_who_234 : decode cX9_who 234 = .ok (.iload_n 2, 1) := dk_28 (dk_at dksX9_who_9 23 rfl rfl)
theorem dX9_who_235 : decode cX9_who 235 = .ok (.iconst 4, 1) := dk_7 (dk_at dksX9_who_10 0 rfl rfl)
theorem dX9_who_236 : decode cX9_who 236 = .ok (.if_icmp .ge 10, 3) := dk_162 0 10 (dk_at dksX9_who_10 1 rfl rfl)
theorem dX9_who_239 : decode cX9_who 239 = .ok (.bipush 31, 2) := dk_16 31 (dk_at dksX9_who_10 4 rfl rfl)
theorem dX9_who_241 : decode cX9_who 241 = .ok (.iload_n 1, 1) := dk_27 (dk_at dksX9_who_10 6 rfl rfl)
theorem dX9_who_242 : decode cX9_who 242 = .ok (.iadd, 1) := dk_96 (dk_at dksX9_who_10 7 rfl rfl)
theorem dX9_who_243 : decode cX9_who 243 = .ok (.goto 4, 3) := dk_167 0 4 (dk_at dksX9_who_10 8 rfl rfl)
theorem dX9_who_246 : decode cX9_who 246 = .ok (.iconst 3, 1) := dk_6 (dk_at dksX9_who_10 11 rfl rfl)
theorem dX9_who_247 : decode cX9_who 247 = .ok (.iadd, 1) := dk_96 (dk_at dksX9_who_10 12 rfl rfl)
theorem dX9_who_248 : decode cX9_who 248 = .ok (.iload 11, 2) := dk_21 11 (dk_at dksX9_who_10 13 rfl rfl)
theorem dX9_who_250 : decode cX9_who 250 = .ok (.iastore, 1) := dk_79 (dk_at dksX9_who_10 15 rfl rfl)
theorem dX9_who_251 : decode cX9_who 251 = .ok (.aload_n 0, 1) := dk_42 (dk_at dksX9_who_10 16 rfl rfl)
theorem dX9_who_252 : decode cX9_who 252 = .ok (.iload_n 1, 1) := dk_27 (dk_at dksX9_who_10 17 rfl rfl)
theorem dX9_who_253 : decode cX9_who 253 = .ok (.iload 7, 2) := dk_21 7 (dk_at dksX9_who_10 18 rfl rfl)
theorem dX9_who_255 : decode cX9_who 255 = .ok (.iload 5, 2) := dk_21 5 (dk_at dksX9_who_10 20 rfl rfl)
theorem dX9_who_257 : decode cX9_who 257 = .ok (.invokevirtual 229, 3) := dk_182 0 229 (dk_at dksX9_who_11 0 rfl rfl)
theorem dX9_who_260 : decode cX9_who 260 = .ok (.ifCond .eq 20, 3) := dk_153 0 20 (dk_at dksX9_who_11 3 rfl rfl)
theorem dX9_who_263 : decode cX9_who 263 = .ok (.iload 8, 2) := dk_21 8 (dk_at dksX9_who_11 6 rfl rfl)
theorem dX9_who_265 : decode cX9_who 265 = .ok (.ifCond .ne 8, 3) := dk_154 0 8 (dk_at dksX9_who_11 8 rfl rfl)
theorem dX9_who_268 : decode cX9_who 268 = .ok (.iload 11, 2) := dk_21 11 (dk_at dksX9_who_11 11 rfl rfl)
theorem dX9_who_270 : decode cX9_who 270 = .ok (.goto 5, 3) := dk_167 0 5 (dk_at dksX9_who_11 13 rfl rfl)
theorem dX9_who_273 : decode cX9_who 273 = .ok (.iload 9, 2) := dk_21 9 (dk_at dksX9_who_11 16 rfl rfl)
theorem dX9_who_275 : decode cX9_who 275 = .ok (.istore 9, 2) := dk_54 9 (dk_at dksX9_who_11 18 rfl rfl)
theorem dX9_who_277 : decode cX9_who 277 = .ok (.iinc 8 1, 3) := dk_132 8 1 (dk_at dksX9_who_11 20 rfl rfl)
theorem dX9_who_280 : decode cX9_who 280 = .ok (.iinc 11 1, 3) := dk_132 11 1 (dk_at dksX9_who_12 0 rfl rfl)
theorem dX9_who_283 : decode cX9_who 283 = .ok (.goto (-66), 3) := dk_167 255 190 (dk_at dksX9_who_12 3 rfl rfl)
theorem dX9_who_286 : decode cX9_who 286 = .ok (.iload_n 2, 1) := dk_28 (dk_at dksX9_who_12 6 rfl rfl)
theorem dX9_who_287 : decode cX9_who 287 = .ok (.iconst 2, 1) := dk_5 (dk_at dksX9_who_12 7 rfl rfl)
theorem dX9_who_288 : decode cX9_who 288 = .ok (.irem, 1) := dk_112 (dk_at dksX9_who_12 8 rfl rfl)
theorem dX9_who_289 : decode cX9_who 289 = .ok (.ifCond .ne 8, 3) := dk_154 0 8 (dk_at dksX9_who_12 9 rfl rfl)
theorem dX9_who_292 : decode cX9_who 292 = .ok (.iload 8, 2) := dk_21 8 (dk_at dksX9_who_12 12 rfl rfl)
theorem dX9_who_294 : decode cX9_who 294 = .ok (.goto 5, 3) := dk_167 0 5 (dk_at dksX9_who_12 14 rfl rfl)
theorem dX9_who_297 : decode cX9_who 297 = .ok (.iload 9, 2) := dk_21 9 (dk_at dksX9_who_12 17 rfl rfl)
theorem dX9_who_299 : decode cX9_who 299 = .ok (.ireturn, 1) := dk_172 (dk_at dksX9_who_12 19 rfl rfl)
abbrev cX9_isSo : ByteArray := prog_16_method_68_code
def yX9_isSo : MethodName := ⟨RX9, "isSo", "(III)Z"⟩
def dkwX9_isSo_2 : List UInt8 := [3, 54, 4, 132, 5, 1, 167, 255, 208, 21, 4, 172]
abbrev dktX9_isSo_2 : List UInt8 := dkwX9_isSo_2 ++ []
def dkwX9_isSo_1 : List UInt8 := [180, 0, 7, 16, 74, 27, 96, 46, 42, 180, 0, 22, 28, 21, 5, 96, 46, 160, 0, 7, 4, 167, 0, 4]
abbrev dktX9_isSo_1 : List UInt8 := dkwX9_isSo_1 ++ dktX9_isSo_2
def dkwX9_isSo_0 : List UInt8 := [4, 54, 4, 3, 54, 5, 21, 5, 29, 162, 0, 48, 42, 16, 43, 182, 0, 170, 21, 4, 153, 0, 28, 42]
abbrev dktX9_isSo_0 : List UInt8 := dkwX9_isSo_0 ++ dktX9_isSo_1
theorem dksX9_isSo_0 : cX9_isSo.data.toList.drop 0 = dktX9_isSo_0 := by decide +kernel
theorem dksX9_isSo_1 : cX9_isSo.data.toList.drop 24 = dktX9_isSo_1 := dk_seg dksX9_isSo_0 24 rfl rfl
theorem dksX9_isSo_2 : cX9_isSo.data.toList.drop 48 = dktX9_isSo_2 := dk_seg dksX9_isSo_1 24 rfl rfl
theorem dX9_isSo_0 : decode cX9_isSo 0 = .ok (.iconst 1, 1) := dk_4 (dk_at dksX9_isSo_0 0 rfl rfl)
theorem dX9_isSo_1 : decode cX9_isSo 1 = .ok (.istore 4, 2) := dk_54 4 (dk_at dksX9_isSo_0 1 rfl rfl)
theorem dX9_isSo_3 : decode cX9_isSo 3 = .ok (.iconst 0, 1) := dk_3 (dk_at dksX9_isSo_0 3 rfl rfl)
theorem dX9_isSo_4 : decode cX9_isSo 4 = .ok (.istore 5, 2) := dk_54 5 (dk_at dksX9_isSo_0 4 rfl rfl)
theorem dX9_isSo_6 : decode cX9_isSo 6 = .ok (.iload 5, 2) := dk_21 5 (dk_at dksX9_isSo_0 6 rfl rfl)
theorem dX9_isSo_8 : decode cX9_isSo 8 = .ok (.iload_n 3, 1) := dk_29 (dk_at dksX9_isSo_0 8 rfl rfl)
theorem dX9_isSo_9 : decode cX9_isSo 9 = .ok (.if_icmp .ge 48, 3) := dk_162 0 48 (dk_at dksX9_isSo_0 9 rfl rfl)
theorem dX9_isSo_12 : decode cX9_isSo 12 = .ok (.aload_n 0, 1) := dk_42 (dk_at dksX9_isSo_0 12 rfl rfl)
theorem dX9_isSo_13 : decode cX9_isSo 13 = .ok (.bipush 43, 2) := dk_16 43 (dk_at dksX9_isSo_0 13 rfl rfl)
theorem dX9_isSo_15 : decode cX9_isSo 15 = .ok (.invokevirtual 170, 3) := dk_182 0 170 (dk_at dksX9_isSo_0 15 rfl rfl)
theorem dX9_isSo_18 : decode cX9_isSo 18 = .ok (.iload 4, 2) := dk_21 4 (dk_at dksX9_isSo_0 18 rfl rfl)
theorem dX9_isSo_20 : decode cX9_isSo 20 = .ok (.ifCond .eq 28, 3) := dk_153 0 28 (dk_at dksX9_isSo_0 20 rfl rfl)
theorem dX9_isSo_23 : decode cX9_isSo 23 = .ok (.aload_n 0, 1) := dk_42 (dk_at dksX9_isSo_0 23 rfl rfl)
theorem dX9_isSo_24 : decode cX9_isSo 24 = .ok (.getfield 7, 3) := dk_180 0 7 (dk_at dksX9_isSo_1 0 rfl rfl)
theorem dX9_isSo_27 : decode cX9_isSo 27 = .ok (.bipush 74, 2) := dk_16 74 (dk_at dksX9_isSo_1 3 rfl rfl)
theorem dX9_isSo_29 : decode cX9_isSo 29 = .ok (.iload_n 1, 1) := dk_27 (dk_at dksX9_isSo_1 5 rfl rfl)
theorem dX9_isSo_30 : decode cX9_isSo 30 = .ok (.iadd, 1) := dk_96 (dk_at dksX9_isSo_1 6 rfl rfl)
theorem dX9_isSo_31 : decode cX9_isSo 31 = .ok (.iaload, 1) := dk_46 (dk_at dksX9_isSo_1 7 rfl rfl)
theorem dX9_isSo_32 : decode cX9_isSo 32 = .ok (.aload_n 0, 1) := dk_42 (dk_at dksX9_isSo_1 8 rfl rfl)
theorem dX9_isSo_33 : decode cX9_isSo 33 = .ok (.getfield 22, 3) := dk_180 0 22 (dk_at dksX9_isSo_1 9 rfl rfl)
theorem dX9_isSo_36 : decode cX9_isSo 36 = .ok (.iload_n 2, 1) := dk_28 (dk_at dksX9_isSo_1 12 rfl rfl)
theorem dX9_isSo_37 : decode cX9_isSo 37 = .ok (.iload 5, 2) := dk_21 5 (dk_at dksX9_isSo_1 13 rfl rfl)
theorem dX9_isSo_39 : decode cX9_isSo 39 = .ok (.iadd, 1) := dk_96 (dk_at dksX9_isSo_1 15 rfl rfl)
theorem dX9_isSo_40 : decode cX9_isSo 40 = .ok (.iaload, 1) := dk_46 (dk_at dksX9_isSo_1 16 rfl rfl)
theorem dX9_isSo_41 : decode cX9_isSo 41 = .ok (.if_icmp .ne 7, 3) := dk_160 0 7 (dk_at dksX9_isSo_1 17 rfl rfl)
theorem dX9_isSo_44 : decode cX9_isSo 44 = .ok (.iconst 1, 1) := dk_4 (dk_at dksX9_isSo_1 20 rfl rfl)
theorem dX9_isSo_45 : decode cX9_isSo 45 = .ok (.goto 4, 3) := dk_167 0 4 (dk_at dksX9_isSo_1 21 rfl rfl)
theorem dX9_isSo_48 : decode cX9_isSo 48 = .ok (.iconst 0, 1) := dk_3 (dk_at dksX9_isSo_2 0 rfl rfl)
theorem dX9_isSo_49 : decode cX9_isSo 49 = .ok (.istore 4, 2) := dk_54 4 (dk_at dksX9_isSo_2 1 rfl rfl)
theorem dX9_isSo_51 : decode cX9_isSo 51 = .ok (.iinc 5 1, 3) := dk_132 5 1 (dk_at dksX9_isSo_2 3 rfl rfl)
theorem dX9_isSo_54 : decode cX9_isSo 54 = .ok (.goto (-48), 3) := dk_167 255 208 (dk_at dksX9_isSo_2 6 rfl rfl)
theorem dX9_isSo_57 : decode cX9_isSo 57 = .ok (.iload 4, 2) := dk_21 4 (dk_at dksX9_isSo_2 9 rfl rfl)
theorem dX9_isSo_59 : decode cX9_isSo 59 = .ok (.ireturn, 1) := dk_172 (dk_at dksX9_isSo_2 11 rfl rfl)
abbrev cX9_stuck : ByteArray := prog_16_method_70_code
def yX9_stuck : MethodName := ⟨RX9, "stuck", "(IIII)J"⟩
def dkwX9_stuck_10 : List UInt8 := [22, 9, 109, 167, 0, 8, 22, 7, 22, 9, 109, 173]
abbrev dktX9_stuck_10 : List UInt8 := dkwX9_stuck_10 ++ []
def dkwX9_stuck_9 : List UInt8 := [22, 11, 113, 55, 13, 22, 11, 55, 9, 22, 13, 55, 11, 167, 255, 234, 21, 4, 154, 0, 11, 22, 5]
abbrev dktX9_stuck_9 : List UInt8 := dkwX9_stuck_9 ++ dktX9_stuck_10
def dkwX9_stuck_8 : List UInt8 := [132, 9, 1, 167, 255, 147, 22, 5, 55, 9, 22, 7, 55, 11, 22, 11, 9, 148, 153, 0, 21, 22, 9]
abbrev dktX9_stuck_8 : List UInt8 := dkwX9_stuck_8 ++ dktX9_stuck_9
def dkwX9_stuck_7 : List UInt8 := [180, 0, 7, 16, 56, 27, 96, 46, 16, 11, 160, 0, 8, 22, 10, 167, 0, 4, 9, 97, 55, 5]
abbrev dktX9_stuck_7 : List UInt8 := dkwX9_stuck_7 ++ dktX9_stuck_8
def dkwX9_stuck_6 : List UInt8 := [3, 182, 0, 154, 167, 0, 9, 42, 16, 43, 182, 0, 170, 132, 12, 1, 167, 255, 196, 22, 5, 42]
abbrev dktX9_stuck_6 : List UInt8 := dkwX9_stuck_6 ++ dktX9_stuck_7
def dkwX9_stuck_5 : List UInt8 := [167, 0, 8, 16, 10, 29, 100, 133, 105, 55, 10, 21, 9, 21, 12, 184, 0, 127, 153, 0, 13, 42, 16, 43]
abbrev dktX9_stuck_5 : List UInt8 := dkwX9_stuck_5 ++ dktX9_stuck_6
def dkwX9_stuck_4 : List UInt8 := [3, 54, 12, 21, 12, 28, 162, 0, 60, 22, 10, 21, 9, 21, 12, 184, 0, 127, 153, 0, 8, 29, 133]
abbrev dktX9_stuck_4 : List UInt8 := dkwX9_stuck_4 ++ dktX9_stuck_5
def dkwX9_stuck_3 : List UInt8 := [132, 9, 1, 167, 255, 239, 3, 54, 9, 21, 9, 4, 28, 120, 162, 0, 107, 10, 55, 10, 42, 182, 0, 192]
abbrev dktX9_stuck_3 : List UInt8 := dkwX9_stuck_3 ++ dktX9_stuck_4
def dkwX9_stuck_2 : List UInt8 := [9, 55, 5, 10, 55, 7, 3, 54, 9, 21, 9, 28, 162, 0, 17, 22, 7, 20, 0, 235, 105, 55, 7]
abbrev dktX9_stuck_2 : List UInt8 := dkwX9_stuck_2 ++ dktX9_stuck_3
def dkwX9_stuck_1 : List UInt8 := [20, 0, 235, 184, 0, 44, 153, 0, 14, 21, 4, 133, 9, 10, 184, 0, 44, 154, 0, 7, 20, 0, 237, 173]
abbrev dktX9_stuck_1 : List UInt8 := dkwX9_stuck_1 ++ dktX9_stuck_2
def dkwX9_stuck_0 : List UInt8 := [42, 27, 182, 0, 183, 153, 0, 38, 28, 133, 9, 20, 0, 233, 184, 0, 44, 153, 0, 26, 29, 133, 9]
abbrev dktX9_stuck_0 : List UInt8 := dkwX9_stuck_0 ++ dktX9_stuck_1
theorem dksX9_stuck_0 : cX9_stuck.data.toList.drop 0 = dktX9_stuck_0 := by decide +kernel
theorem dksX9_stuck_1 : cX9_stuck.data.toList.drop 23 = dktX9_stuck_1 := dk_seg dksX9_stuck_0 23 rfl rfl
theorem dksX9_stuck_2 : cX9_stuck.data.toList.drop 47 = dktX9_stuck_2 := dk_seg dksX9_stuck_1 24 rfl rfl
theorem dksX9_stuck_3 : cX9_stuck.data.toList.drop 70 = dktX9_stuck_3 := dk_seg dksX9_stuck_2 23 rfl rfl
theorem dksX9_stuck_4 : cX9_stuck.data.toList.drop 94 = dktX9_stuck_4 := dk_seg dksX9_stuck_3 24 rfl rfl
theorem dksX9_stuck_5 : cX9_stuck.data.toList.drop 117 = dktX9_stuck_5 := dk_seg dksX9_stuck_4 23 rfl rfl
theorem dksX9_stuck_6 : cX9_stuck.data.toList.drop 141 = dktX9_stuck_6 := dk_seg dksX9_stuck_5 24 rfl rfl
theorem dksX9_stuck_7 : cX9_stuck.data.toList.drop 163 = dktX9_stuck_7 := dk_seg dksX9_stuck_6 22 rfl rfl
theorem dksX9_stuck_8 : cX9_stuck.data.toList.drop 185 = dktX9_stuck_8 := dk_seg dksX9_stuck_7 22 rfl rfl
theorem dksX9_stuck_9 : cX9_stuck.data.toList.drop 208 = dktX9_stuck_9 := dk_seg dksX9_stuck_8 23 rfl rfl
theorem dksX9_stuck_10 : cX9_stuck.data.toList.drop 231 = dktX9_stuck_10 := dk_seg dksX9_stuck_9 23 rfl rfl
theorem dX9_stuck_0 : decode cX9_stuck 0 = .ok (.aload_n 0, 1) := dk_42 (dk_at dksX9_stuck_0 0 rfl rfl)
theorem dX9_stuck_1 : decode cX9_stuck 1 = .ok (.iload_n 1, 1) := dk_27 (dk_at dksX9_stuck_0 1 rfl rfl)
theorem dX9_stuck_2 : decode cX9_stuck 2 = .ok (.invokevirtual 183, 3) := dk_182 0 183 (dk_at dksX9_stuck_0 2 rfl rfl)
theorem dX9_stuck_5 : decode cX9_stuck 5 = .ok (.ifCond .eq 38, 3) := dk_153 0 38 (dk_at dksX9_stuck_0 5 rfl rfl)
theorem dX9_stuck_8 : decode cX9_stuck 8 = .ok (.iload_n 2, 1) := dk_28 (dk_at dksX9_stuck_0 8 rfl rfl)
theorem dX9_stuck_9 : decode cX9_stuck 9 = .ok (.i2l, 1) := dk_133 (dk_at dksX9_stuck_0 9 rfl rfl)
theorem dX9_stuck_10 : decode cX9_stuck 10 = .ok (.lconst 0, 1) := dk_9 (dk_at dksX9_stuck_0 10 rfl rfl)
theorem dX9_stuck_11 : decode cX9_stuck 11 = .ok (.ldc2_w 233, 3) := dk_20 0 233 (dk_at dksX9_stuck_0 11 rfl rfl)
theorem dX9_stuck_14 : decode cX9_stuck 14 = .ok (.invokestatic 44, 3) := dk_184 0 44 (dk_at dksX9_stuck_0 14 rfl rfl)
theorem dX9_stuck_17 : decode cX9_stuck 17 = .ok (.ifCond .eq 26, 3) := dk_153 0 26 (dk_at dksX9_stuck_0 17 rfl rfl)
theorem dX9_stuck_20 : decode cX9_stuck 20 = .ok (.iload_n 3, 1) := dk_29 (dk_at dksX9_stuck_0 20 rfl rfl)
theorem dX9_stuck_21 : decode cX9_stuck 21 = .ok (.i2l, 1) := dk_133 (dk_at dksX9_stuck_0 21 rfl rfl)
theorem dX9_stuck_22 : decode cX9_stuck 22 = .ok (.lconst 0, 1) := dk_9 (dk_at dksX9_stuck_0 22 rfl rfl)
theorem dX9_stuck_23 : decode cX9_stuck 23 = .ok (.ldc2_w 235, 3) := dk_20 0 235 (dk_at dksX9_stuck_1 0 rfl rfl)
theorem dX9_stuck_26 : decode cX9_stuck 26 = .ok (.invokestatic 44, 3) := dk_184 0 44 (dk_at dksX9_stuck_1 3 rfl rfl)
theorem dX9_stuck_29 : decode cX9_stuck 29 = .ok (.ifCond .eq 14, 3) := dk_153 0 14 (dk_at dksX9_stuck_1 6 rfl rfl)
theorem dX9_stuck_32 : decode cX9_stuck 32 = .ok (.iload 4, 2) := dk_21 4 (dk_at dksX9_stuck_1 9 rfl rfl)
theorem dX9_stuck_34 : decode cX9_stuck 34 = .ok (.i2l, 1) := dk_133 (dk_at dksX9_stuck_1 11 rfl rfl)
theorem dX9_stuck_35 : decode cX9_stuck 35 = .ok (.lconst 0, 1) := dk_9 (dk_at dksX9_stuck_1 12 rfl rfl)
theorem dX9_stuck_36 : decode cX9_stuck 36 = .ok (.lconst 1, 1) := dk_10 (dk_at dksX9_stuck_1 13 rfl rfl)
theorem dX9_stuck_37 : decode cX9_stuck 37 = .ok (.invokestatic 44, 3) := dk_184 0 44 (dk_at dksX9_stuck_1 14 rfl rfl)
theorem dX9_stuck_40 : decode cX9_stuck 40 = .ok (.ifCond .ne 7, 3) := dk_154 0 7 (dk_at dksX9_stuck_1 17 rfl rfl)
theorem dX9_stuck_43 : decode cX9_stuck 43 = .ok (.ldc2_w 237, 3) := dk_20 0 237 (dk_at dksX9_stuck_1 20 rfl rfl)
theorem dX9_stuck_46 : decode cX9_stuck 46 = .ok (.lreturn, 1) := dk_173 (dk_at dksX9_stuck_1 23 rfl rfl)
theorem dX9_stuck_47 : decode cX9_stuck 47 = .ok (.lconst 0, 1) := dk_9 (dk_at dksX9_stuck_2 0 rfl rfl)
theorem dX9_stuck_48 : decode cX9_stuck 48 = .ok (.lstore 5, 2) := dk_55 5 (dk_at dksX9_stuck_2 1 rfl rfl)
theorem dX9_stuck_50 : decode cX9_stuck 50 = .ok (.lconst 1, 1) := dk_10 (dk_at dksX9_stuck_2 3 rfl rfl)
theorem dX9_stuck_51 : decode cX9_stuck 51 = .ok (.lstore 7, 2) := dk_55 7 (dk_at dksX9_stuck_2 4 rfl rfl)
theorem dX9_stuck_53 : decode cX9_stuck 53 = .ok (.iconst 0, 1) := dk_3 (dk_at dksX9_stuck_2 6 rfl rfl)
theorem dX9_stuck_54 : decode cX9_stuck 54 = .ok (.istore 9, 2) := dk_54 9 (dk_at dksX9_stuck_2 7 rfl rfl)
theorem dX9_stuck_56 : decode cX9_stuck 56 = .ok (.iload 9, 2) := dk_21 9 (dk_at dksX9_stuck_2 9 rfl rfl)
theorem dX9_stuck_58 : decode cX9_stuck 58 = .ok (.iload_n 2, 1) := dk_28 (dk_at dksX9_stuck_2 11 rfl rfl)
theorem dX9_stuck_59 : decode cX9_stuck 59 = .ok (.if_icmp .ge 17, 3) := dk_162 0 17 (dk_at dksX9_stuck_2 12 rfl rfl)
theorem dX9_stuck_62 : decode cX9_stuck 62 = .ok (.lload 7, 2) := dk_22 7 (dk_at dksX9_stuck_2 15 rfl rfl)
theorem dX9_stuck_64 : decode cX9_stuck 64 = .ok (.ldc2_w 235, 3) := dk_20 0 235 (dk_at dksX9_stuck_2 17 rfl rfl)
theorem dX9_stuck_67 : decode cX9_stuck 67 = .ok (.lmul, 1) := dk_105 (dk_at dksX9_stuck_2 20 rfl rfl)
theorem dX9_stuck_68 : decode cX9_stuck 68 = .ok (.lstore 7, 2) := dk_55 7 (dk_at dksX9_stuck_2 21 rfl rfl)
theorem dX9_stuck_70 : decode cX9_stuck 70 = .ok (.iinc 9 1, 3) := dk_132 9 1 (dk_at dksX9_stuck_3 0 rfl rfl)
theorem dX9_stuck_73 : decode cX9_stuck 73 = .ok (.goto (-17), 3) := dk_167 255 239 (dk_at dksX9_stuck_3 3 rfl rfl)
theorem dX9_stuck_76 : decode cX9_stuck 76 = .ok (.iconst 0, 1) := dk_3 (dk_at dksX9_stuck_3 6 rfl rfl)
theorem dX9_stuck_77 : decode cX9_stuck 77 = .ok (.istore 9, 2) := dk_54 9 (dk_at dksX9_stuck_3 7 rfl rfl)
theorem dX9_stuck_79 : decode cX9_stuck 79 = .ok (.iload 9, 2) := dk_21 9 (dk_at dksX9_stuck_3 9 rfl rfl)
theorem dX9_stuck_81 : decode cX9_stuck 81 = .ok (.iconst 1, 1) := dk_4 (dk_at dksX9_stuck_3 11 rfl rfl)
theorem dX9_stuck_82 : decode cX9_stuck 82 = .ok (.iload_n 2, 1) := dk_28 (dk_at dksX9_stuck_3 12 rfl rfl)
theorem dX9_stuck_83 : decode cX9_stuck 83 = .ok (.ishl, 1) := dk_120 (dk_at dksX9_stuck_3 13 rfl rfl)
theorem dX9_stuck_84 : decode cX9_stuck 84 = .ok (.if_icmp .ge 107, 3) := dk_162 0 107 (dk_at dksX9_stuck_3 14 rfl rfl)
theorem dX9_stuck_87 : decode cX9_stuck 87 = .ok (.lconst 1, 1) := dk_10 (dk_at dksX9_stuck_3 17 rfl rfl)
theorem dX9_stuck_88 : decode cX9_stuck 88 = .ok (.lstore 10, 2) := dk_55 10 (dk_at dksX9_stuck_3 18 rfl rfl)
theorem dX9_stuck_90 : decode cX9_stuck 90 = .ok (.aload_n 0, 1) := dk_42 (dk_at dksX9_stuck_3 20 rfl rfl)
theorem dX9_stuck_91 : decode cX9_stuck 91 = .ok (.invokevirtual 192, 3) := dk_182 0 192 (dk_at dksX9_stuck_3 21 rfl rfl)
theorem dX9_stuck_94 : decode cX9_stuck 94 = .ok (.iconst 0, 1) := dk_3 (dk_at dksX9_stuck_4 0 rfl rfl)
theorem dX9_stuck_95 : decode cX9_stuck 95 = .ok (.istore 12, 2) := dk_54 12 (dk_at dksX9_stuck_4 1 rfl rfl)
theorem dX9_stuck_97 : decode cX9_stuck 97 = .ok (.iload 12, 2) := dk_21 12 (dk_at dksX9_stuck_4 3 rfl rfl)
theorem dX9_stuck_99 : decode cX9_stuck 99 = .ok (.iload_n 2, 1) := dk_28 (dk_at dksX9_stuck_4 5 rfl rfl)
theorem dX9_stuck_100 : decode cX9_stuck 100 = .ok (.if_icmp .ge 60, 3) := dk_162 0 60 (dk_at dksX9_stuck_4 6 rfl rfl)
theorem dX9_stuck_103 : decode cX9_stuck 103 = .ok (.lload 10, 2) := dk_22 10 (dk_at dksX9_stuck_4 9 rfl rfl)
theorem dX9_stuck_105 : decode cX9_stuck 105 = .ok (.iload 9, 2) := dk_21 9 (dk_at dksX9_stuck_4 11 rfl rfl)
theorem dX9_stuck_107 : decode cX9_stuck 107 = .ok (.iload 12, 2) := dk_21 12 (dk_at dksX9_stuck_4 13 rfl rfl)
theorem dX9_stuck_109 : decode cX9_stuck 109 = .ok (.invokestatic 127, 3) := dk_184 0 127 (dk_at dksX9_stuck_4 15 rfl rfl)
theorem dX9_stuck_112 : decode cX9_stuck 112 = .ok (.ifCond .eq 8, 3) := dk_153 0 8 (dk_at dksX9_stuck_4 18 rfl rfl)
theorem dX9_stuck_115 : decode cX9_stuck 115 = .ok (.iload_n 3, 1) := dk_29 (dk_at dksX9_stuck_4 21 rfl rfl)
theorem dX9_stuck_116 : decode cX9_stuck 116 = .ok (.i2l, 1) := dk_133 (dk_at dksX9_stuck_4 22 rfl rfl)
theorem dX9_stuck_117 : decode cX9_stuck 117 = .ok (.goto 8, 3) := dk_167 0 8 (dk_at dksX9_stuck_5 0 rfl rfl)
theorem dX9_stuck_120 : decode cX9_stuck 120 = .ok (.bipush 10, 2) := dk_16 10 (dk_at dksX9_stuck_5 3 rfl rfl)
theorem dX9_stuck_122 : decode cX9_stuck 122 = .ok (.iload_n 3, 1) := dk_29 (dk_at dksX9_stuck_5 5 rfl rfl)
theorem dX9_stuck_123 : decode cX9_stuck 123 = .ok (.isub, 1) := dk_100 (dk_at dksX9_stuck_5 6 rfl rfl)
theorem dX9_stuck_124 : decode cX9_stuck 124 = .ok (.i2l, 1) := dk_133 (dk_at dksX9_stuck_5 7 rfl rfl)
theorem dX9_stuck_125 : decode cX9_stuck 125 = .ok (.lmul, 1) := dk_105 (dk_at dksX9_stuck_5 8 rfl rfl)
theorem dX9_stuck_126 : decode cX9_stuck 126 = .ok (.lstore 10, 2) := dk_55 10 (dk_at dksX9_stuck_5 9 rfl rfl)
theorem dX9_stuck_128 : decode cX9_stuck 128 = .ok (.iload 9, 2) := dk_21 9 (dk_at dksX9_stuck_5 11 rfl rfl)
theorem dX9_stuck_130 : decode cX9_stuck 130 = .ok (.iload 12, 2) := dk_21 12 (dk_at dksX9_stuck_5 13 rfl rfl)
theorem dX9_stuck_132 : decode cX9_stuck 132 = .ok (.invokestatic 127, 3) := dk_184 0 127 (dk_at dksX9_stuck_5 15 rfl rfl)
theorem dX9_stuck_135 : decode cX9_stuck 135 = .ok (.ifCond .eq 13, 3) := dk_153 0 13 (dk_at dksX9_stuck_5 18 rfl rfl)
theorem dX9_stuck_138 : decode cX9_stuck 138 = .ok (.aload_n 0, 1) := dk_42 (dk_at dksX9_stuck_5 21 rfl rfl)
theorem dX9_stuck_139 : decode cX9_stuck 139 = .ok (.bipush 43, 2) := dk_16 43 (dk_at dksX9_stuck_5 22 rfl rfl)
theorem dX9_stuck_141 : decode cX9_stuck 141 = .ok (.iconst 0, 1) := dk_3 (dk_at dksX9_stuck_6 0 rfl rfl)
theorem dX9_stuck_142 : decode cX9_stuck 142 = .ok (.invokevirtual 154, 3) := dk_182 0 154 (dk_at dksX9_stuck_6 1 rfl rfl)
theorem dX9_stuck_145 : decode cX9_stuck 145 = .ok (.goto 9, 3) := dk_167 0 9 (dk_at dksX9_stuck_6 4 rfl rfl)
theorem dX9_stuck_148 : decode cX9_stuck 148 = .ok (.aload_n 0, 1) := dk_42 (dk_at dksX9_stuck_6 7 rfl rfl)
theorem dX9_stuck_149 : decode cX9_stuck 149 = .ok (.bipush 43, 2) := dk_16 43 (dk_at dksX9_stuck_6 8 rfl rfl)
theorem dX9_stuck_151 : decode cX9_stuck 151 = .ok (.invokevirtual 170, 3) := dk_182 0 170 (dk_at dksX9_stuck_6 10 rfl rfl)
theorem dX9_stuck_154 : decode cX9_stuck 154 = .ok (.iinc 12 1, 3) := dk_132 12 1 (dk_at dksX9_stuck_6 13 rfl rfl)
theorem dX9_stuck_157 : decode cX9_stuck 157 = .ok (.goto (-60), 3) := dk_167 255 196 (dk_at dksX9_stuck_6 16 rfl rfl)
theorem dX9_stuck_160 : decode cX9_stuck 160 = .ok (.lload 5, 2) := dk_22 5 (dk_at dksX9_stuck_6 19 rfl rfl)
theorem dX9_stuck_162 : decode cX9_stuck 162 = .ok (.aload_n 0, 1) := dk_42 (dk_at dksX9_stuck_6 21 rfl rfl)
theorem dX9_stuck_163 : decode cX9_stuck 163 = .ok (.getfield 7, 3) := dk_180 0 7 (dk_at dksX9_stuck_7 0 rfl rfl)
theorem dX9_stuck_166 : decode cX9_stuck 166 = .ok (.bipush 56, 2) := dk_16 56 (dk_at dksX9_stuck_7 3 rfl rfl)
theorem dX9_stuck_168 : decode cX9_stuck 168 = .ok (.iload_n 1, 1) := dk_27 (dk_at dksX9_stuck_7 5 rfl rfl)
theorem dX9_stuck_169 : decode cX9_stuck 169 = .ok (.iadd, 1) := dk_96 (dk_at dksX9_stuck_7 6 rfl rfl)
theorem dX9_stuck_170 : decode cX9_stuck 170 = .ok (.iaload, 1) := dk_46 (dk_at dksX9_stuck_7 7 rfl rfl)
theorem dX9_stuck_171 : decode cX9_stuck 171 = .ok (.bipush 11, 2) := dk_16 11 (dk_at dksX9_stuck_7 8 rfl rfl)
theorem dX9_stuck_173 : decode cX9_stuck 173 = .ok (.if_icmp .ne 8, 3) := dk_160 0 8 (dk_at dksX9_stuck_7 10 rfl rfl)
theorem dX9_stuck_176 : decode cX9_stuck 176 = .ok (.lload 10, 2) := dk_22 10 (dk_at dksX9_stuck_7 13 rfl rfl)
theorem dX9_stuck_178 : decode cX9_stuck 178 = .ok (.goto 4, 3) := dk_167 0 4 (dk_at dksX9_stuck_7 15 rfl rfl)
theorem dX9_stuck_181 : decode cX9_stuck 181 = .ok (.lconst 0, 1) := dk_9 (dk_at dksX9_stuck_7 18 rfl rfl)
theorem dX9_stuck_182 : decode cX9_stuck 182 = .ok (.ladd, 1) := dk_97 (dk_at dksX9_stuck_7 19 rfl rfl)
theorem dX9_stuck_183 : decode cX9_stuck 183 = .ok (.lstore 5, 2) := dk_55 5 (dk_at dksX9_stuck_7 20 rfl rfl)
theorem dX9_stuck_185 : decode cX9_stuck 185 = .ok (.iinc 9 1, 3) := dk_132 9 1 (dk_at dksX9_stuck_8 0 rfl rfl)
theorem dX9_stuck_188 : decode cX9_stuck 188 = .ok (.goto (-109), 3) := dk_167 255 147 (dk_at dksX9_stuck_8 3 rfl rfl)
theorem dX9_stuck_191 : decode cX9_stuck 191 = .ok (.lload 5, 2) := dk_22 5 (dk_at dksX9_stuck_8 6 rfl rfl)
theorem dX9_stuck_193 : decode cX9_stuck 193 = .ok (.lstore 9, 2) := dk_55 9 (dk_at dksX9_stuck_8 8 rfl rfl)
theorem dX9_stuck_195 : decode cX9_stuck 195 = .ok (.lload 7, 2) := dk_22 7 (dk_at dksX9_stuck_8 10 rfl rfl)
theorem dX9_stuck_197 : decode cX9_stuck 197 = .ok (.lstore 11, 2) := dk_55 11 (dk_at dksX9_stuck_8 12 rfl rfl)
theorem dX9_stuck_199 : decode cX9_stuck 199 = .ok (.lload 11, 2) := dk_22 11 (dk_at dksX9_stuck_8 14 rfl rfl)
theorem dX9_stuck_201 : decode cX9_stuck 201 = .ok (.lconst 0, 1) := dk_9 (dk_at dksX9_stuck_8 16 rfl rfl)
theorem dX9_stuck_202 : decode cX9_stuck 202 = .ok (.lcmp, 1) := dk_148 (dk_at dksX9_stuck_8 17 rfl rfl)
theorem dX9_stuck_203 : decode cX9_stuck 203 = .ok (.ifCond .eq 21, 3) := dk_153 0 21 (dk_at dksX9_stuck_8 18 rfl rfl)
theorem dX9_stuck_206 : decode cX9_stuck 206 = .ok (.lload 9, 2) := dk_22 9 (dk_at dksX9_stuck_8 21 rfl rfl)
theorem dX9_stuck_208 : decode cX9_stuck 208 = .ok (.lload 11, 2) := dk_22 11 (dk_at dksX9_stuck_9 0 rfl rfl)
theorem dX9_stuck_210 : decode cX9_stuck 210 = .ok (.lrem, 1) := dk_113 (dk_at dksX9_stuck_9 2 rfl rfl)
theorem dX9_stuck_211 : decode cX9_stuck 211 = .ok (.lstore 13, 2) := dk_55 13 (dk_at dksX9_stuck_9 3 rfl rfl)
theorem dX9_stuck_213 : decode cX9_stuck 213 = .ok (.lload 11, 2) := dk_22 11 (dk_at dksX9_stuck_9 5 rfl rfl)
theorem dX9_stuck_215 : decode cX9_stuck 215 = .ok (.lstore 9, 2) := dk_55 9 (dk_at dksX9_stuck_9 7 rfl rfl)
theorem dX9_stuck_217 : decode cX9_stuck 217 = .ok (.lload 13, 2) := dk_22 13 (dk_at dksX9_stuck_9 9 rfl rfl)
theorem dX9_stuck_219 : decode cX9_stuck 219 = .ok (.lstore 11, 2) := dk_55 11 (dk_at dksX9_stuck_9 11 rfl rfl)
theorem dX9_stuck_221 : decode cX9_stuck 221 = .ok (.goto (-22), 3) := dk_167 255 234 (dk_at dksX9_stuck_9 13 rfl rfl)
theorem dX9_stuck_224 : decode cX9_stuck 224 = .ok (.iload 4, 2) := dk_21 4 (dk_at dksX9_stuck_9 16 rfl rfl)
theorem dX9_stuck_226 : decode cX9_stuck 226 = .ok (.ifCond .ne 11, 3) := dk_154 0 11 (dk_at dksX9_stuck_9 18 rfl rfl)
theorem dX9_stuck_229 : decode cX9_stuck 229 = .ok (.lload 5, 2) := dk_22 5 (dk_at dksX9_stuck_9 21 rfl rfl)
theorem dX9_stuck_231 : decode cX9_stuck 231 = .ok (.lload 9, 2) := dk_22 9 (dk_at dksX9_stuck_10 0 rfl rfl)
theorem dX9_stuck_233 : decode cX9_stuck 233 = .ok (.ldiv, 1) := dk_109 (dk_at dksX9_stuck_10 2 rfl rfl)
theorem dX9_stuck_234 : decode cX9_stuck 234 = .ok (.goto 8, 3) := dk_167 0 8 (dk_at dksX9_stuck_10 3 rfl rfl)
theorem dX9_stuck_237 : decode cX9_stuck 237 = .ok (.lload 7, 2) := dk_22 7 (dk_at dksX9_stuck_10 6 rfl rfl)
theorem dX9_stuck_239 : decode cX9_stuck 239 = .ok (.lload 9, 2) := dk_22 9 (dk_at dksX9_stuck_10 8 rfl rfl)
theorem dX9_stuck_241 : decode cX9_stuck 241 = .ok (.ldiv, 1) := dk_109 (dk_at dksX9_stuck_10 10 rfl rfl)
theorem dX9_stuck_242 : decode cX9_stuck 242 = .ok (.lreturn, 1) := dk_173 (dk_at dksX9_stuck_10 11 rfl rfl)
abbrev cX9_drawn : ByteArray := prog_16_method_71_code
def yX9_drawn : MethodName := ⟨RX9, "drawn", "(III)I"⟩
def dkwX9_drawn_9 : List UInt8 := [182, 0, 214, 172]
abbrev dktX9_drawn_9 : List UInt8 := dkwX9_drawn_9 ++ []
def dkwX9_drawn_8 : List UInt8 := [184, 0, 133, 96, 54, 6, 132, 7, 1, 167, 255, 121, 29, 154, 0, 8, 21, 6, 167, 0, 9, 42, 16, 43]
abbrev dktX9_drawn_8 : List UInt8 := dkwX9_drawn_8 ++ dktX9_drawn_9
def dkwX9_drawn_7 : List UInt8 := [182, 0, 173, 54, 10, 42, 16, 43, 182, 0, 170, 21, 6, 42, 16, 43, 182, 0, 173, 21, 10, 2, 130, 126]
abbrev dktX9_drawn_7 : List UInt8 := dkwX9_drawn_7 ++ dktX9_drawn_8
def dkwX9_drawn_6 : List UInt8 := [22, 4, 20, 0, 181, 113, 9, 148, 154, 0, 12, 42, 180, 0, 7, 16, 47, 21, 9, 79, 42, 16, 43]
abbrev dktX9_drawn_6 : List UInt8 := dkwX9_drawn_6 ++ dktX9_drawn_7
def dkwX9_drawn_5 : List UInt8 := [160, 0, 23, 42, 16, 43, 21, 8, 21, 9, 22, 4, 20, 0, 245, 113, 136, 182, 0, 188, 167, 0, 23]
abbrev dktX9_drawn_5 : List UInt8 := dkwX9_drawn_5 ++ dktX9_drawn_6
def dkwX9_drawn_4 : List UInt8 := [180, 0, 7, 4, 46, 133, 113, 136, 54, 9, 42, 180, 0, 7, 16, 56, 21, 8, 96, 46, 16, 11]
abbrev dktX9_drawn_4 : List UInt8 := dkwX9_drawn_4 ++ dktX9_drawn_5
def dkwX9_drawn_3 : List UInt8 := [105, 20, 0, 243, 113, 55, 4, 22, 4, 42, 180, 0, 7, 3, 46, 133, 113, 136, 54, 8, 22, 4, 42]
abbrev dktX9_drawn_3 : List UInt8 := dkwX9_drawn_3 ++ dktX9_drawn_4
def dkwX9_drawn_2 : List UInt8 := [182, 0, 192, 28, 133, 55, 4, 3, 54, 6, 3, 54, 7, 21, 7, 27, 162, 0, 135, 22, 4, 20, 0, 241]
abbrev dktX9_drawn_2 : List UInt8 := dkwX9_drawn_2 ++ dktX9_drawn_3
def dkwX9_drawn_1 : List UInt8 := [10, 20, 0, 239, 184, 0, 44, 153, 0, 13, 29, 133, 9, 10, 184, 0, 44, 154, 0, 6, 18, 61, 172, 42]
abbrev dktX9_drawn_1 : List UInt8 := dkwX9_drawn_1 ++ dktX9_drawn_2
def dkwX9_drawn_0 : List UInt8 := [42, 182, 0, 162, 154, 0, 6, 18, 161, 172, 27, 133, 9, 20, 0, 186, 184, 0, 44, 153, 0, 25, 28, 133]
abbrev dktX9_drawn_0 : List UInt8 := dkwX9_drawn_0 ++ dktX9_drawn_1
theorem dksX9_drawn_0 : cX9_drawn.data.toList.drop 0 = dktX9_drawn_0 := by decide +kernel
theorem dksX9_drawn_1 : cX9_drawn.data.toList.drop 24 = dktX9_drawn_1 := dk_seg dksX9_drawn_0 24 rfl rfl
theorem dksX9_drawn_2 : cX9_drawn.data.toList.drop 48 = dktX9_drawn_2 := dk_seg dksX9_drawn_1 24 rfl rfl
theorem dksX9_drawn_3 : cX9_drawn.data.toList.drop 72 = dktX9_drawn_3 := dk_seg dksX9_drawn_2 24 rfl rfl
theorem dksX9_drawn_4 : cX9_drawn.data.toList.drop 95 = dktX9_drawn_4 := dk_seg dksX9_drawn_3 23 rfl rfl
theorem dksX9_drawn_5 : cX9_drawn.data.toList.drop 117 = dktX9_drawn_5 := dk_seg dksX9_drawn_4 22 rfl rfl
theorem dksX9_drawn_6 : cX9_drawn.data.toList.drop 140 = dktX9_drawn_6 := dk_seg dksX9_drawn_5 23 rfl rfl
theorem dksX9_drawn_7 : cX9_drawn.data.toList.drop 163 = dktX9_drawn_7 := dk_seg dksX9_drawn_6 23 rfl rfl
theorem dksX9_drawn_8 : cX9_drawn.data.toList.drop 187 = dktX9_drawn_8 := dk_seg dksX9_drawn_7 24 rfl rfl
theorem dksX9_drawn_9 : cX9_drawn.data.toList.drop 211 = dktX9_drawn_9 := dk_seg dksX9_drawn_8 24 rfl rfl
theorem dX9_drawn_0 : decode cX9_drawn 0 = .ok (.aload_n 0, 1) := dk_42 (dk_at dksX9_drawn_0 0 rfl rfl)
theorem dX9_drawn_1 : decode cX9_drawn 1 = .ok (.invokevirtual 162, 3) := dk_182 0 162 (dk_at dksX9_drawn_0 1 rfl rfl)
theorem dX9_drawn_4 : decode cX9_drawn 4 = .ok (.ifCond .ne 6, 3) := dk_154 0 6 (dk_at dksX9_drawn_0 4 rfl rfl)
theorem dX9_drawn_7 : decode cX9_drawn 7 = .ok (.ldc 161, 2) := dk_18 161 (dk_at dksX9_drawn_0 7 rfl rfl)
theorem dX9_drawn_9 : decode cX9_drawn 9 = .ok (.ireturn, 1) := dk_172 (dk_at dksX9_drawn_0 9 rfl rfl)
theorem dX9_drawn_10 : decode cX9_drawn 10 = .ok (.iload_n 1, 1) := dk_27 (dk_at dksX9_drawn_0 10 rfl rfl)
theorem dX9_drawn_11 : decode cX9_drawn 11 = .ok (.i2l, 1) := dk_133 (dk_at dksX9_drawn_0 11 rfl rfl)
theorem dX9_drawn_12 : decode cX9_drawn 12 = .ok (.lconst 0, 1) := dk_9 (dk_at dksX9_drawn_0 12 rfl rfl)
theorem dX9_drawn_13 : decode cX9_drawn 13 = .ok (.ldc2_w 186, 3) := dk_20 0 186 (dk_at dksX9_drawn_0 13 rfl rfl)
theorem dX9_drawn_16 : decode cX9_drawn 16 = .ok (.invokestatic 44, 3) := dk_184 0 44 (dk_at dksX9_drawn_0 16 rfl rfl)
theorem dX9_drawn_19 : decode cX9_drawn 19 = .ok (.ifCond .eq 25, 3) := dk_153 0 25 (dk_at dksX9_drawn_0 19 rfl rfl)
theorem dX9_drawn_22 : decode cX9_drawn 22 = .ok (.iload_n 2, 1) := dk_28 (dk_at dksX9_drawn_0 22 rfl rfl)
theorem dX9_drawn_23 : decode cX9_drawn 23 = .ok (.i2l, 1) := dk_133 (dk_at dksX9_drawn_0 23 rfl rfl)
theorem dX9_drawn_24 : decode cX9_drawn 24 = .ok (.lconst 1, 1) := dk_10 (dk_at dksX9_drawn_1 0 rfl rfl)
theorem dX9_drawn_25 : decode cX9_drawn 25 = .ok (.ldc2_w 239, 3) := dk_20 0 239 (dk_at dksX9_drawn_1 1 rfl rfl)
theorem dX9_drawn_28 : decode cX9_drawn 28 = .ok (.invokestatic 44, 3) := dk_184 0 44 (dk_at dksX9_drawn_1 4 rfl rfl)
theorem dX9_drawn_31 : decode cX9_drawn 31 = .ok (.ifCond .eq 13, 3) := dk_153 0 13 (dk_at dksX9_drawn_1 7 rfl rfl)
theorem dX9_drawn_34 : decode cX9_drawn 34 = .ok (.iload_n 3, 1) := dk_29 (dk_at dksX9_drawn_1 10 rfl rfl)
theorem dX9_drawn_35 : decode cX9_drawn 35 = .ok (.i2l, 1) := dk_133 (dk_at dksX9_drawn_1 11 rfl rfl)
theorem dX9_drawn_36 : decode cX9_drawn 36 = .ok (.lconst 0, 1) := dk_9 (dk_at dksX9_drawn_1 12 rfl rfl)
theorem dX9_drawn_37 : decode cX9_drawn 37 = .ok (.lconst 1, 1) := dk_10 (dk_at dksX9_drawn_1 13 rfl rfl)
theorem dX9_drawn_38 : decode cX9_drawn 38 = .ok (.invokestatic 44, 3) := dk_184 0 44 (dk_at dksX9_drawn_1 14 rfl rfl)
theorem dX9_drawn_41 : decode cX9_drawn 41 = .ok (.ifCond .ne 6, 3) := dk_154 0 6 (dk_at dksX9_drawn_1 17 rfl rfl)
theorem dX9_drawn_44 : decode cX9_drawn 44 = .ok (.ldc 61, 2) := dk_18 61 (dk_at dksX9_drawn_1 20 rfl rfl)
theorem dX9_drawn_46 : decode cX9_drawn 46 = .ok (.ireturn, 1) := dk_172 (dk_at dksX9_drawn_1 22 rfl rfl)
theorem dX9_drawn_47 : decode cX9_drawn 47 = .ok (.aload_n 0, 1) := dk_42 (dk_at dksX9_drawn_1 23 rfl rfl)
theorem dX9_drawn_48 : decode cX9_drawn 48 = .ok (.invokevirtual 192, 3) := dk_182 0 192 (dk_at dksX9_drawn_2 0 rfl rfl)
theorem dX9_drawn_51 : decode cX9_drawn 51 = .ok (.iload_n 2, 1) := dk_28 (dk_at dksX9_drawn_2 3 rfl rfl)
theorem dX9_drawn_52 : decode cX9_drawn 52 = .ok (.i2l, 1) := dk_133 (dk_at dksX9_drawn_2 4 rfl rfl)
theorem dX9_drawn_53 : decode cX9_drawn 53 = .ok (.lstore 4, 2) := dk_55 4 (dk_at dksX9_drawn_2 5 rfl rfl)
theorem dX9_drawn_55 : decode cX9_drawn 55 = .ok (.iconst 0, 1) := dk_3 (dk_at dksX9_drawn_2 7 rfl rfl)
theorem dX9_drawn_56 : decode cX9_drawn 56 = .ok (.istore 6, 2) := dk_54 6 (dk_at dksX9_drawn_2 8 rfl rfl)
theorem dX9_drawn_58 : decode cX9_drawn 58 = .ok (.iconst 0, 1) := dk_3 (dk_at dksX9_drawn_2 10 rfl rfl)
theorem dX9_drawn_59 : decode cX9_drawn 59 = .ok (.istore 7, 2) := dk_54 7 (dk_at dksX9_drawn_2 11 rfl rfl)
theorem dX9_drawn_61 : decode cX9_drawn 61 = .ok (.iload 7, 2) := dk_21 7 (dk_at dksX9_drawn_2 13 rfl rfl)
theorem dX9_drawn_63 : decode cX9_drawn 63 = .ok (.iload_n 1, 1) := dk_27 (dk_at dksX9_drawn_2 15 rfl rfl)
theorem dX9_drawn_64 : decode cX9_drawn 64 = .ok (.if_icmp .ge 135, 3) := dk_162 0 135 (dk_at dksX9_drawn_2 16 rfl rfl)
theorem dX9_drawn_67 : decode cX9_drawn 67 = .ok (.lload 4, 2) := dk_22 4 (dk_at dksX9_drawn_2 19 rfl rfl)
theorem dX9_drawn_69 : decode cX9_drawn 69 = .ok (.ldc2_w 241, 3) := dk_20 0 241 (dk_at dksX9_drawn_2 21 rfl rfl)
theorem dX9_drawn_72 : decode cX9_drawn 72 = .ok (.lmul, 1) := dk_105 (dk_at dksX9_drawn_3 0 rfl rfl)
theorem dX9_drawn_73 : decode cX9_drawn 73 = .ok (.ldc2_w 243, 3) := dk_20 0 243 (dk_at dksX9_drawn_3 1 rfl rfl)
theorem dX9_drawn_76 : decode cX9_drawn 76 = .ok (.lrem, 1) := dk_113 (dk_at dksX9_drawn_3 4 rfl rfl)
theorem dX9_drawn_77 : decode cX9_drawn 77 = .ok (.lstore 4, 2) := dk_55 4 (dk_at dksX9_drawn_3 5 rfl rfl)
theorem dX9_drawn_79 : decode cX9_drawn 79 = .ok (.lload 4, 2) := dk_22 4 (dk_at dksX9_drawn_3 7 rfl rfl)
theorem dX9_drawn_81 : decode cX9_drawn 81 = .ok (.aload_n 0, 1) := dk_42 (dk_at dksX9_drawn_3 9 rfl rfl)
theorem dX9_drawn_82 : decode cX9_drawn 82 = .ok (.getfield 7, 3) := dk_180 0 7 (dk_at dksX9_drawn_3 10 rfl rfl)
theorem dX9_drawn_85 : decode cX9_drawn 85 = .ok (.iconst 0, 1) := dk_3 (dk_at dksX9_drawn_3 13 rfl rfl)
theorem dX9_drawn_86 : decode cX9_drawn 86 = .ok (.iaload, 1) := dk_46 (dk_at dksX9_drawn_3 14 rfl rfl)
theorem dX9_drawn_87 : decode cX9_drawn 87 = .ok (.i2l, 1) := dk_133 (dk_at dksX9_drawn_3 15 rfl rfl)
theorem dX9_drawn_88 : decode cX9_drawn 88 = .ok (.lrem, 1) := dk_113 (dk_at dksX9_drawn_3 16 rfl rfl)
theorem dX9_drawn_89 : decode cX9_drawn 89 = .ok (.l2i, 1) := dk_136 (dk_at dksX9_drawn_3 17 rfl rfl)
theorem dX9_drawn_90 : decode cX9_drawn 90 = .ok (.istore 8, 2) := dk_54 8 (dk_at dksX9_drawn_3 18 rfl rfl)
theorem dX9_drawn_92 : decode cX9_drawn 92 = .ok (.lload 4, 2) := dk_22 4 (dk_at dksX9_drawn_3 20 rfl rfl)
theorem dX9_drawn_94 : decode cX9_drawn 94 = .ok (.aload_n 0, 1) := dk_42 (dk_at dksX9_drawn_3 22 rfl rfl)
theorem dX9_drawn_95 : decode cX9_drawn 95 = .ok (.getfield 7, 3) := dk_180 0 7 (dk_at dksX9_drawn_4 0 rfl rfl)
theorem dX9_drawn_98 : decode cX9_drawn 98 = .ok (.iconst 1, 1) := dk_4 (dk_at dksX9_drawn_4 3 rfl rfl)
theorem dX9_drawn_99 : decode cX9_drawn 99 = .ok (.iaload, 1) := dk_46 (dk_at dksX9_drawn_4 4 rfl rfl)
theorem dX9_drawn_100 : decode cX9_drawn 100 = .ok (.i2l, 1) := dk_133 (dk_at dksX9_drawn_4 5 rfl rfl)
theorem dX9_drawn_101 : decode cX9_drawn 101 = .ok (.lrem, 1) := dk_113 (dk_at dksX9_drawn_4 6 rfl rfl)
theorem dX9_drawn_102 : decode cX9_drawn 102 = .ok (.l2i, 1) := dk_136 (dk_at dksX9_drawn_4 7 rfl rfl)
theorem dX9_drawn_103 : decode cX9_drawn 103 = .ok (.istore 9, 2) := dk_54 9 (dk_at dksX9_drawn_4 8 rfl rfl)
theorem dX9_drawn_105 : decode cX9_drawn 105 = .ok (.aload_n 0, 1) := dk_42 (dk_at dksX9_drawn_4 10 rfl rfl)
theorem dX9_drawn_106 : decode cX9_drawn 106 = .ok (.getfield 7, 3) := dk_180 0 7 (dk_at dksX9_drawn_4 11 rfl rfl)
theorem dX9_drawn_109 : decode cX9_drawn 109 = .ok (.bipush 56, 2) := dk_16 56 (dk_at dksX9_drawn_4 14 rfl rfl)
theorem dX9_drawn_111 : decode cX9_drawn 111 = .ok (.iload 8, 2) := dk_21 8 (dk_at dksX9_drawn_4 16 rfl rfl)
theorem dX9_drawn_113 : decode cX9_drawn 113 = .ok (.iadd, 1) := dk_96 (dk_at dksX9_drawn_4 18 rfl rfl)
theorem dX9_drawn_114 : decode cX9_drawn 114 = .ok (.iaload, 1) := dk_46 (dk_at dksX9_drawn_4 19 rfl rfl)
theorem dX9_drawn_115 : decode cX9_drawn 115 = .ok (.bipush 11, 2) := dk_16 11 (dk_at dksX9_drawn_4 20 rfl rfl)
theorem dX9_drawn_117 : decode cX9_drawn 117 = .ok (.if_icmp .ne 23, 3) := dk_160 0 23 (dk_at dksX9_drawn_5 0 rfl rfl)
theorem dX9_drawn_120 : decode cX9_drawn 120 = .ok (.aload_n 0, 1) := dk_42 (dk_at dksX9_drawn_5 3 rfl rfl)
theorem dX9_drawn_121 : decode cX9_drawn 121 = .ok (.bipush 43, 2) := dk_16 43 (dk_at dksX9_drawn_5 4 rfl rfl)
theorem dX9_drawn_123 : decode cX9_drawn 123 = .ok (.iload 8, 2) := dk_21 8 (dk_at dksX9_drawn_5 6 rfl rfl)
theorem dX9_drawn_125 : decode cX9_drawn 125 = .ok (.iload 9, 2) := dk_21 9 (dk_at dksX9_drawn_5 8 rfl rfl)
theorem dX9_drawn_127 : decode cX9_drawn 127 = .ok (.lload 4, 2) := dk_22 4 (dk_at dksX9_drawn_5 10 rfl rfl)
theorem dX9_drawn_129 : decode cX9_drawn 129 = .ok (.ldc2_w 245, 3) := dk_20 0 245 (dk_at dksX9_drawn_5 12 rfl rfl)
theorem dX9_drawn_132 : decode cX9_drawn 132 = .ok (.lrem, 1) := dk_113 (dk_at dksX9_drawn_5 15 rfl rfl)
theorem dX9_drawn_133 : decode cX9_drawn 133 = .ok (.l2i, 1) := dk_136 (dk_at dksX9_drawn_5 16 rfl rfl)
theorem dX9_drawn_134 : decode cX9_drawn 134 = .ok (.invokevirtual 188, 3) := dk_182 0 188 (dk_at dksX9_drawn_5 17 rfl rfl)
theorem dX9_drawn_137 : decode cX9_drawn 137 = .ok (.goto 23, 3) := dk_167 0 23 (dk_at dksX9_drawn_5 20 rfl rfl)
theorem dX9_drawn_140 : decode cX9_drawn 140 = .ok (.lload 4, 2) := dk_22 4 (dk_at dksX9_drawn_6 0 rfl rfl)
theorem dX9_drawn_142 : decode cX9_drawn 142 = .ok (.ldc2_w 181, 3) := dk_20 0 181 (dk_at dksX9_drawn_6 2 rfl rfl)
theorem dX9_drawn_145 : decode cX9_drawn 145 = .ok (.lrem, 1) := dk_113 (dk_at dksX9_drawn_6 5 rfl rfl)
theorem dX9_drawn_146 : decode cX9_drawn 146 = .ok (.lconst 0, 1) := dk_9 (dk_at dksX9_drawn_6 6 rfl rfl)
theorem dX9_drawn_147 : decode cX9_drawn 147 = .ok (.lcmp, 1) := dk_148 (dk_at dksX9_drawn_6 7 rfl rfl)
theorem dX9_drawn_148 : decode cX9_drawn 148 = .ok (.ifCond .ne 12, 3) := dk_154 0 12 (dk_at dksX9_drawn_6 8 rfl rfl)
theorem dX9_drawn_151 : decode cX9_drawn 151 = .ok (.aload_n 0, 1) := dk_42 (dk_at dksX9_drawn_6 11 rfl rfl)
theorem dX9_drawn_152 : decode cX9_drawn 152 = .ok (.getfield 7, 3) := dk_180 0 7 (dk_at dksX9_drawn_6 12 rfl rfl)
theorem dX9_drawn_155 : decode cX9_drawn 155 = .ok (.bipush 47, 2) := dk_16 47 (dk_at dksX9_drawn_6 15 rfl rfl)
theorem dX9_drawn_157 : decode cX9_drawn 157 = .ok (.iload 9, 2) := dk_21 9 (dk_at dksX9_drawn_6 17 rfl rfl)
theorem dX9_drawn_159 : decode cX9_drawn 159 = .ok (.iastore, 1) := dk_79 (dk_at dksX9_drawn_6 19 rfl rfl)
theorem dX9_drawn_160 : decode cX9_drawn 160 = .ok (.aload_n 0, 1) := dk_42 (dk_at dksX9_drawn_6 20 rfl rfl)
theorem dX9_drawn_161 : decode cX9_drawn 161 = .ok (.bipush 43, 2) := dk_16 43 (dk_at dksX9_drawn_6 21 rfl rfl)
theorem dX9_drawn_163 : decode cX9_drawn 163 = .ok (.invokevirtual 173, 3) := dk_182 0 173 (dk_at dksX9_drawn_7 0 rfl rfl)
theorem dX9_drawn_166 : decode cX9_drawn 166 = .ok (.istore 10, 2) := dk_54 10 (dk_at dksX9_drawn_7 3 rfl rfl)
theorem dX9_drawn_168 : decode cX9_drawn 168 = .ok (.aload_n 0, 1) := dk_42 (dk_at dksX9_drawn_7 5 rfl rfl)
theorem dX9_drawn_169 : decode cX9_drawn 169 = .ok (.bipush 43, 2) := dk_16 43 (dk_at dksX9_drawn_7 6 rfl rfl)
theorem dX9_drawn_171 : decode cX9_drawn 171 = .ok (.invokevirtual 170, 3) := dk_182 0 170 (dk_at dksX9_drawn_7 8 rfl rfl)
theorem dX9_drawn_174 : decode cX9_drawn 174 = .ok (.iload 6, 2) := dk_21 6 (dk_at dksX9_drawn_7 11 rfl rfl)
theorem dX9_drawn_176 : decode cX9_drawn 176 = .ok (.aload_n 0, 1) := dk_42 (dk_at dksX9_drawn_7 13 rfl rfl)
theorem dX9_drawn_177 : decode cX9_drawn 177 = .ok (.bipush 43, 2) := dk_16 43 (dk_at dksX9_drawn_7 14 rfl rfl)
theorem dX9_drawn_179 : decode cX9_drawn 179 = .ok (.invokevirtual 173, 3) := dk_182 0 173 (dk_at dksX9_drawn_7 16 rfl rfl)
theorem dX9_drawn_182 : decode cX9_drawn 182 = .ok (.iload 10, 2) := dk_21 10 (dk_at dksX9_drawn_7 19 rfl rfl)
theorem dX9_drawn_184 : decode cX9_drawn 184 = .ok (.iconst (-1), 1) := dk_2 (dk_at dksX9_drawn_7 21 rfl rfl)
theorem dX9_drawn_185 : decode cX9_drawn 185 = .ok (.ixor, 1) := dk_130 (dk_at dksX9_drawn_7 22 rfl rfl)
theorem dX9_drawn_186 : decode cX9_drawn 186 = .ok (.iand, 1) := dk_126 (dk_at dksX9_drawn_7 23 rfl rfl)
theorem dX9_drawn_187 : decode cX9_drawn 187 = .ok (.invokestatic 133, 3) := dk_184 0 133 (dk_at dksX9_drawn_8 0 rfl rfl)
theorem dX9_drawn_190 : decode cX9_drawn 190 = .ok (.iadd, 1) := dk_96 (dk_at dksX9_drawn_8 3 rfl rfl)
theorem dX9_drawn_191 : decode cX9_drawn 191 = .ok (.istore 6, 2) := dk_54 6 (dk_at dksX9_drawn_8 4 rfl rfl)
theorem dX9_drawn_193 : decode cX9_drawn 193 = .ok (.iinc 7 1, 3) := dk_132 7 1 (dk_at dksX9_drawn_8 6 rfl rfl)
theorem dX9_drawn_196 : decode cX9_drawn 196 = .ok (.goto (-135), 3) := dk_167 255 121 (dk_at dksX9_drawn_8 9 rfl rfl)
theorem dX9_drawn_199 : decode cX9_drawn 199 = .ok (.iload_n 3, 1) := dk_29 (dk_at dksX9_drawn_8 12 rfl rfl)
theorem dX9_drawn_200 : decode cX9_drawn 200 = .ok (.ifCond .ne 8, 3) := dk_154 0 8 (dk_at dksX9_drawn_8 13 rfl rfl)
theorem dX9_drawn_203 : decode cX9_drawn 203 = .ok (.iload 6, 2) := dk_21 6 (dk_at dksX9_drawn_8 16 rfl rfl)
theorem dX9_drawn_205 : decode cX9_drawn 205 = .ok (.goto 9, 3) := dk_167 0 9 (dk_at dksX9_drawn_8 18 rfl rfl)
theorem dX9_drawn_208 : decode cX9_drawn 208 = .ok (.aload_n 0, 1) := dk_42 (dk_at dksX9_drawn_8 21 rfl rfl)
theorem dX9_drawn_209 : decode cX9_drawn 209 = .ok (.bipush 43, 2) := dk_16 43 (dk_at dksX9_drawn_8 22 rfl rfl)
theorem dX9_drawn_211 : decode cX9_drawn 211 = .ok (.invokevirtual 214, 3) := dk_182 0 214 (dk_at dksX9_drawn_9 0 rfl rfl)
theorem dX9_drawn_214 : decode cX9_drawn 214 = .ok (.ireturn, 1) := dk_172 (dk_at dksX9_drawn_9 3 rfl rfl)
abbrev cX9_image : ByteArray := prog_16_method_72_code
def yX9_image : MethodName := ⟨RX9, "image", "(I)I"⟩
def dkwX9_image_1 : List UInt8 := [3, 16, 86, 16, 43, 27, 104, 96, 182, 0, 120, 42, 180, 0, 37, 27, 4, 84, 4, 172]
abbrev dktX9_image_1 : List UInt8 := dkwX9_image_1 ++ []
def dkwX9_image_0 : List UInt8 := [27, 133, 9, 10, 184, 0, 44, 154, 0, 6, 18, 61, 172, 42, 182, 0, 162, 154, 0, 6, 18, 161, 172, 42]
abbrev dktX9_image_0 : List UInt8 := dkwX9_image_0 ++ dktX9_image_1
theorem dksX9_image_0 : cX9_image.data.toList.drop 0 = dktX9_image_0 := by decide +kernel
theorem dksX9_image_1 : cX9_image.data.toList.drop 24 = dktX9_image_1 := dk_seg dksX9_image_0 24 rfl rfl
theorem dX9_image_0 : decode cX9_image 0 = .ok (.iload_n 1, 1) := dk_27 (dk_at dksX9_image_0 0 rfl rfl)
theorem dX9_image_1 : decode cX9_image 1 = .ok (.i2l, 1) := dk_133 (dk_at dksX9_image_0 1 rfl rfl)
theorem dX9_image_2 : decode cX9_image 2 = .ok (.lconst 0, 1) := dk_9 (dk_at dksX9_image_0 2 rfl rfl)
theorem dX9_image_3 : decode cX9_image 3 = .ok (.lconst 1, 1) := dk_10 (dk_at dksX9_image_0 3 rfl rfl)
theorem dX9_image_4 : decode cX9_image 4 = .ok (.invokestatic 44, 3) := dk_184 0 44 (dk_at dksX9_image_0 4 rfl rfl)
theorem dX9_image_7 : decode cX9_image 7 = .ok (.ifCond .ne 6, 3) := dk_154 0 6 (dk_at dksX9_image_0 7 rfl rfl)
theorem dX9_image_10 : decode cX9_image 10 = .ok (.ldc 61, 2) := dk_18 61 (dk_at dksX9_image_0 10 rfl rfl)
theorem dX9_image_12 : decode cX9_image 12 = .ok (.ireturn, 1) := dk_172 (dk_at dksX9_image_0 12 rfl rfl)
theorem dX9_image_13 : decode cX9_image 13 = .ok (.aload_n 0, 1) := dk_42 (dk_at dksX9_image_0 13 rfl rfl)
theorem dX9_image_14 : decode cX9_image 14 = .ok (.invokevirtual 162, 3) := dk_182 0 162 (dk_at dksX9_image_0 14 rfl rfl)
theorem dX9_image_17 : decode cX9_image 17 = .ok (.ifCond .ne 6, 3) := dk_154 0 6 (dk_at dksX9_image_0 17 rfl rfl)
theorem dX9_image_20 : decode cX9_image 20 = .ok (.ldc 161, 2) := dk_18 161 (dk_at dksX9_image_0 20 rfl rfl)
theorem dX9_image_22 : decode cX9_image 22 = .ok (.ireturn, 1) := dk_172 (dk_at dksX9_image_0 22 rfl rfl)
theorem dX9_image_23 : decode cX9_image 23 = .ok (.aload_n 0, 1) := dk_42 (dk_at dksX9_image_0 23 rfl rfl)
theorem dX9_image_24 : decode cX9_image 24 = .ok (.iconst 0, 1) := dk_3 (dk_at dksX9_image_1 0 rfl rfl)
theorem dX9_image_25 : decode cX9_image 25 = .ok (.bipush 86, 2) := dk_16 86 (dk_at dksX9_image_1 1 rfl rfl)
theorem dX9_image_27 : decode cX9_image 27 = .ok (.bipush 43, 2) := dk_16 43 (dk_at dksX9_image_1 3 rfl rfl)
theorem dX9_image_29 : decode cX9_image 29 = .ok (.iload_n 1, 1) := dk_27 (dk_at dksX9_image_1 5 rfl rfl)
theorem dX9_image_30 : decode cX9_image 30 = .ok (.imul, 1) := dk_104 (dk_at dksX9_image_1 6 rfl rfl)
theorem dX9_image_31 : decode cX9_image 31 = .ok (.iadd, 1) := dk_96 (dk_at dksX9_image_1 7 rfl rfl)
theorem dX9_image_32 : decode cX9_image 32 = .ok (.invokevirtual 120, 3) := dk_182 0 120 (dk_at dksX9_image_1 8 rfl rfl)
theorem dX9_image_35 : decode cX9_image 35 = .ok (.aload_n 0, 1) := dk_42 (dk_at dksX9_image_1 11 rfl rfl)
theorem dX9_image_36 : decode cX9_image 36 = .ok (.getfield 37, 3) := dk_180 0 37 (dk_at dksX9_image_1 12 rfl rfl)
theorem dX9_image_39 : decode cX9_image 39 = .ok (.iload_n 1, 1) := dk_27 (dk_at dksX9_image_1 15 rfl rfl)
theorem dX9_image_40 : decode cX9_image 40 = .ok (.iconst 1, 1) := dk_4 (dk_at dksX9_image_1 16 rfl rfl)
theorem dX9_image_41 : decode cX9_image 41 = .ok (.bastore, 1) := dk_84 (dk_at dksX9_image_1 17 rfl rfl)
theorem dX9_image_42 : decode cX9_image 42 = .ok (.iconst 1, 1) := dk_4 (dk_at dksX9_image_1 18 rfl rfl)
theorem dX9_image_43 : decode cX9_image 43 = .ok (.ireturn, 1) := dk_172 (dk_at dksX9_image_1 19 rfl rfl)
abbrev cX9_restore : ByteArray := prog_16_method_73_code
def yX9_restore : MethodName := ⟨RX9, "restore", "(I)I"⟩
def dkwX9_restore_1 : List UInt8 := [172, 42, 16, 86, 16, 43, 27, 104, 96, 3, 182, 0, 120, 42, 3, 181, 0, 124, 4, 172]
abbrev dktX9_restore_1 : List UInt8 := dkwX9_restore_1 ++ []
def dkwX9_restore_0 : List UInt8 := [27, 133, 9, 10, 184, 0, 44, 154, 0, 6, 18, 61, 172, 42, 180, 0, 37, 27, 51, 154, 0, 6, 18, 161]
abbrev dktX9_restore_0 : List UInt8 := dkwX9_restore_0 ++ dktX9_restore_1
theorem dksX9_restore_0 : cX9_restore.data.toList.drop 0 = dktX9_restore_0 := by decide +kernel
theorem dksX9_restore_1 : cX9_restore.data.toList.drop 24 = dktX9_restore_1 := dk_seg dksX9_restore_0 24 rfl rfl
theorem dX9_restore_0 : decode cX9_restore 0 = .ok (.iload_n 1, 1) := dk_27 (dk_at dksX9_restore_0 0 rfl rfl)
theorem dX9_restore_1 : decode cX9_restore 1 = .ok (.i2l, 1) := dk_133 (dk_at dksX9_restore_0 1 rfl rfl)
theorem dX9_restore_2 : decode cX9_restore 2 = .ok (.lconst 0, 1) := dk_9 (dk_at dksX9_restore_0 2 rfl rfl)
theorem dX9_restore_3 : decode cX9_restore 3 = .ok (.lconst 1, 1) := dk_10 (dk_at dksX9_restore_0 3 rfl rfl)
theorem dX9_restore_4 : decode cX9_restore 4 = .ok (.invokestatic 44, 3) := dk_184 0 44 (dk_at dksX9_restore_0 4 rfl rfl)
theorem dX9_restore_7 : decode cX9_restore 7 = .ok (.ifCond .ne 6, 3) := dk_154 0 6 (dk_at dksX9_restore_0 7 rfl rfl)
theorem dX9_restore_10 : decode cX9_restore 10 = .ok (.ldc 61, 2) := dk_18 61 (dk_at dksX9_restore_0 10 rfl rfl)
theorem dX9_restore_12 : decode cX9_restore 12 = .ok (.ireturn, 1) := dk_172 (dk_at dksX9_restore_0 12 rfl rfl)
theorem dX9_restore_13 : decode cX9_restore 13 = .ok (.aload_n 0, 1) := dk_42 (dk_at dksX9_restore_0 13 rfl rfl)
theorem dX9_restore_14 : decode cX9_restore 14 = .ok (.getfield 37, 3) := dk_180 0 37 (dk_at dksX9_restore_0 14 rfl rfl)
theorem dX9_restore_17 : decode cX9_restore 17 = .ok (.iload_n 1, 1) := dk_27 (dk_at dksX9_restore_0 17 rfl rfl)
theorem dX9_restore_18 : decode cX9_restore 18 = .ok (.baload, 1) := dk_51 (dk_at dksX9_restore_0 18 rfl rfl)
theorem dX9_restore_19 : decode cX9_restore 19 = .ok (.ifCond .ne 6, 3) := dk_154 0 6 (dk_at dksX9_restore_0 19 rfl rfl)
theorem dX9_restore_22 : decode cX9_restore 22 = .ok (.ldc 161, 2) := dk_18 161 (dk_at dksX9_restore_0 22 rfl rfl)
theorem dX9_restore_24 : decode cX9_restore 24 = .ok (.ireturn, 1) := dk_172 (dk_at dksX9_restore_1 0 rfl rfl)
theorem dX9_restore_25 : decode cX9_restore 25 = .ok (.aload_n 0, 1) := dk_42 (dk_at dksX9_restore_1 1 rfl rfl)
theorem dX9_restore_26 : decode cX9_restore 26 = .ok (.bipush 86, 2) := dk_16 86 (dk_at dksX9_restore_1 2 rfl rfl)
theorem dX9_restore_28 : decode cX9_restore 28 = .ok (.bipush 43, 2) := dk_16 43 (dk_at dksX9_restore_1 4 rfl rfl)
theorem dX9_restore_30 : decode cX9_restore 30 = .ok (.iload_n 1, 1) := dk_27 (dk_at dksX9_restore_1 6 rfl rfl)
theorem dX9_restore_31 : decode cX9_restore 31 = .ok (.imul, 1) := dk_104 (dk_at dksX9_restore_1 7 rfl rfl)
theorem dX9_restore_32 : decode cX9_restore 32 = .ok (.iadd, 1) := dk_96 (dk_at dksX9_restore_1 8 rfl rfl)
theorem dX9_restore_33 : decode cX9_restore 33 = .ok (.iconst 0, 1) := dk_3 (dk_at dksX9_restore_1 9 rfl rfl)
theorem dX9_restore_34 : decode cX9_restore 34 = .ok (.invokevirtual 120, 3) := dk_182 0 120 (dk_at dksX9_restore_1 10 rfl rfl)
theorem dX9_restore_37 : decode cX9_restore 37 = .ok (.aload_n 0, 1) := dk_42 (dk_at dksX9_restore_1 13 rfl rfl)
theorem dX9_restore_38 : decode cX9_restore 38 = .ok (.iconst 0, 1) := dk_3 (dk_at dksX9_restore_1 14 rfl rfl)
theorem dX9_restore_39 : decode cX9_restore 39 = .ok (.putfield 124, 3) := dk_181 0 124 (dk_at dksX9_restore_1 15 rfl rfl)
theorem dX9_restore_42 : decode cX9_restore 42 = .ok (.iconst 1, 1) := dk_4 (dk_at dksX9_restore_1 18 rfl rfl)
theorem dX9_restore_43 : decode cX9_restore 43 = .ok (.ireturn, 1) := dk_172 (dk_at dksX9_restore_1 19 rfl rfl)
abbrev cX9_kind : ByteArray := prog_16_method_74_code
def yX9_kind : MethodName := ⟨RX9, "kind", "(I)I"⟩
def dkwX9_kind_0 : List UInt8 := [42, 27, 182, 0, 183, 153, 0, 15, 42, 180, 0, 7, 16, 7, 27, 96, 46, 167, 0, 5, 18, 61, 172]
abbrev dktX9_kind_0 : List UInt8 := dkwX9_kind_0 ++ []
theorem dksX9_kind_0 : cX9_kind.data.toList.drop 0 = dktX9_kind_0 := by decide +kernel
theorem dX9_kind_0 : decode cX9_kind 0 = .ok (.aload_n 0, 1) := dk_42 (dk_at dksX9_kind_0 0 rfl rfl)
theorem dX9_kind_1 : decode cX9_kind 1 = .ok (.iload_n 1, 1) := dk_27 (dk_at dksX9_kind_0 1 rfl rfl)
theorem dX9_kind_2 : decode cX9_kind 2 = .ok (.invokevirtual 183, 3) := dk_182 0 183 (dk_at dksX9_kind_0 2 rfl rfl)
theorem dX9_kind_5 : decode cX9_kind 5 = .ok (.ifCond .eq 15, 3) := dk_153 0 15 (dk_at dksX9_kind_0 5 rfl rfl)
theorem dX9_kind_8 : decode cX9_kind 8 = .ok (.aload_n 0, 1) := dk_42 (dk_at dksX9_kind_0 8 rfl rfl)
theorem dX9_kind_9 : decode cX9_kind 9 = .ok (.getfield 7, 3) := dk_180 0 7 (dk_at dksX9_kind_0 9 rfl rfl)
theorem dX9_kind_12 : decode cX9_kind 12 = .ok (.bipush 7, 2) := dk_16 7 (dk_at dksX9_kind_0 12 rfl rfl)
theorem dX9_kind_14 : decode cX9_kind 14 = .ok (.iload_n 1, 1) := dk_27 (dk_at dksX9_kind_0 14 rfl rfl)
theorem dX9_kind_15 : decode cX9_kind 15 = .ok (.iadd, 1) := dk_96 (dk_at dksX9_kind_0 15 rfl rfl)
theorem dX9_kind_16 : decode cX9_kind 16 = .ok (.iaload, 1) := dk_46 (dk_at dksX9_kind_0 16 rfl rfl)
theorem dX9_kind_17 : decode cX9_kind 17 = .ok (.goto 5, 3) := dk_167 0 5 (dk_at dksX9_kind_0 17 rfl rfl)
theorem dX9_kind_20 : decode cX9_kind 20 = .ok (.ldc 61, 2) := dk_18 61 (dk_at dksX9_kind_0 20 rfl rfl)
theorem dX9_kind_22 : decode cX9_kind 22 = .ok (.ireturn, 1) := dk_172 (dk_at dksX9_kind_0 22 rfl rfl)
abbrev cX9_as : ByteArray := prog_16_method_76_code
def yX9_as : MethodName := ⟨RX9, "as", "(II)I"⟩
def dkwX9_as_2 : List UInt8 := [181, 0, 50, 27, 172]
abbrev dktX9_as_2 : List UInt8 := dkwX9_as_2 ++ []
def dkwX9_as_1 : List UInt8 := [180, 0, 7, 16, 7, 27, 96, 46, 28, 184, 0, 247, 154, 0, 9, 42, 6, 182, 0, 62, 172, 42, 3]
abbrev dktX9_as_1 : List UInt8 := dkwX9_as_1 ++ dktX9_as_2
def dkwX9_as_0 : List UInt8 := [42, 27, 182, 0, 183, 153, 0, 15, 28, 133, 9, 20, 0, 225, 184, 0, 44, 154, 0, 6, 18, 61, 172, 42]
abbrev dktX9_as_0 : List UInt8 := dkwX9_as_0 ++ dktX9_as_1
theorem dksX9_as_0 : cX9_as.data.toList.drop 0 = dktX9_as_0 := by decide +kernel
theorem dksX9_as_1 : cX9_as.data.toList.drop 24 = dktX9_as_1 := dk_seg dksX9_as_0 24 rfl rfl
theorem dksX9_as_2 : cX9_as.data.toList.drop 47 = dktX9_as_2 := dk_seg dksX9_as_1 23 rfl rfl
theorem dX9_as_0 : decode cX9_as 0 = .ok (.aload_n 0, 1) := dk_42 (dk_at dksX9_as_0 0 rfl rfl)
theorem dX9_as_1 : decode cX9_as 1 = .ok (.iload_n 1, 1) := dk_27 (dk_at dksX9_as_0 1 rfl rfl)
theorem dX9_as_2 : decode cX9_as 2 = .ok (.invokevirtual 183, 3) := dk_182 0 183 (dk_at dksX9_as_0 2 rfl rfl)
theorem dX9_as_5 : decode cX9_as 5 = .ok (.ifCond .eq 15, 3) := dk_153 0 15 (dk_at dksX9_as_0 5 rfl rfl)
theorem dX9_as_8 : decode cX9_as 8 = .ok (.iload_n 2, 1) := dk_28 (dk_at dksX9_as_0 8 rfl rfl)
theorem dX9_as_9 : decode cX9_as 9 = .ok (.i2l, 1) := dk_133 (dk_at dksX9_as_0 9 rfl rfl)
theorem dX9_as_10 : decode cX9_as 10 = .ok (.lconst 0, 1) := dk_9 (dk_at dksX9_as_0 10 rfl rfl)
theorem dX9_as_11 : decode cX9_as 11 = .ok (.ldc2_w 225, 3) := dk_20 0 225 (dk_at dksX9_as_0 11 rfl rfl)
theorem dX9_as_14 : decode cX9_as 14 = .ok (.invokestatic 44, 3) := dk_184 0 44 (dk_at dksX9_as_0 14 rfl rfl)
theorem dX9_as_17 : decode cX9_as 17 = .ok (.ifCond .ne 6, 3) := dk_154 0 6 (dk_at dksX9_as_0 17 rfl rfl)
theorem dX9_as_20 : decode cX9_as 20 = .ok (.ldc 61, 2) := dk_18 61 (dk_at dksX9_as_0 20 rfl rfl)
theorem dX9_as_22 : decode cX9_as 22 = .ok (.ireturn, 1) := dk_172 (dk_at dksX9_as_0 22 rfl rfl)
theorem dX9_as_23 : decode cX9_as 23 = .ok (.aload_n 0, 1) := dk_42 (dk_at dksX9_as_0 23 rfl rfl)
theorem dX9_as_24 : decode cX9_as 24 = .ok (.getfield 7, 3) := dk_180 0 7 (dk_at dksX9_as_1 0 rfl rfl)
theorem dX9_as_27 : decode cX9_as 27 = .ok (.bipush 7, 2) := dk_16 7 (dk_at dksX9_as_1 3 rfl rfl)
theorem dX9_as_29 : decode cX9_as 29 = .ok (.iload_n 1, 1) := dk_27 (dk_at dksX9_as_1 5 rfl rfl)
theorem dX9_as_30 : decode cX9_as 30 = .ok (.iadd, 1) := dk_96 (dk_at dksX9_as_1 6 rfl rfl)
theorem dX9_as_31 : decode cX9_as 31 = .ok (.iaload, 1) := dk_46 (dk_at dksX9_as_1 7 rfl rfl)
theorem dX9_as_32 : decode cX9_as 32 = .ok (.iload_n 2, 1) := dk_28 (dk_at dksX9_as_1 8 rfl rfl)
theorem dX9_as_33 : decode cX9_as 33 = .ok (.invokestatic 247, 3) := dk_184 0 247 (dk_at dksX9_as_1 9 rfl rfl)
theorem dX9_as_36 : decode cX9_as 36 = .ok (.ifCond .ne 9, 3) := dk_154 0 9 (dk_at dksX9_as_1 12 rfl rfl)
theorem dX9_as_39 : decode cX9_as 39 = .ok (.aload_n 0, 1) := dk_42 (dk_at dksX9_as_1 15 rfl rfl)
theorem dX9_as_40 : decode cX9_as 40 = .ok (.iconst 3, 1) := dk_6 (dk_at dksX9_as_1 16 rfl rfl)
theorem dX9_as_41 : decode cX9_as 41 = .ok (.invokevirtual 62, 3) := dk_182 0 62 (dk_at dksX9_as_1 17 rfl rfl)
theorem dX9_as_44 : decode cX9_as 44 = .ok (.ireturn, 1) := dk_172 (dk_at dksX9_as_1 20 rfl rfl)
theorem dX9_as_45 : decode cX9_as 45 = .ok (.aload_n 0, 1) := dk_42 (dk_at dksX9_as_1 21 rfl rfl)
theorem dX9_as_46 : decode cX9_as 46 = .ok (.iconst 0, 1) := dk_3 (dk_at dksX9_as_1 22 rfl rfl)
theorem dX9_as_47 : decode cX9_as 47 = .ok (.putfield 50, 3) := dk_181 0 50 (dk_at dksX9_as_2 0 rfl rfl)
theorem dX9_as_50 : decode cX9_as 50 = .ok (.iload_n 1, 1) := dk_27 (dk_at dksX9_as_2 3 rfl rfl)
theorem dX9_as_51 : decode cX9_as 51 = .ok (.ireturn, 1) := dk_172 (dk_at dksX9_as_2 4 rfl rfl)
abbrev cX9_isA : ByteArray := prog_16_method_75_code
def yX9_isA : MethodName := ⟨RX9, "isA", "(II)Z"⟩
def dkwX9_isA_1 : List UInt8 := [27, 7, 160, 0, 12, 26, 8, 160, 0, 7, 4, 167, 0, 4, 3, 172]
abbrev dktX9_isA_1 : List UInt8 := dkwX9_isA_1 ++ []
def dkwX9_isA_0 : List UInt8 := [27, 153, 0, 33, 27, 26, 159, 0, 28, 27, 4, 160, 0, 13, 26, 5, 159, 0, 18, 26, 6, 159, 0, 13]
abbrev dktX9_isA_0 : List UInt8 := dkwX9_isA_0 ++ dktX9_isA_1
theorem dksX9_isA_0 : cX9_isA.data.toList.drop 0 = dktX9_isA_0 := by decide +kernel
theorem dksX9_isA_1 : cX9_isA.data.toList.drop 24 = dktX9_isA_1 := dk_seg dksX9_isA_0 24 rfl rfl
theorem dX9_isA_0 : decode cX9_isA 0 = .ok (.iload_n 1, 1) := dk_27 (dk_at dksX9_isA_0 0 rfl rfl)
theorem dX9_isA_1 : decode cX9_isA 1 = .ok (.ifCond .eq 33, 3) := dk_153 0 33 (dk_at dksX9_isA_0 1 rfl rfl)
theorem dX9_isA_4 : decode cX9_isA 4 = .ok (.iload_n 1, 1) := dk_27 (dk_at dksX9_isA_0 4 rfl rfl)
theorem dX9_isA_5 : decode cX9_isA 5 = .ok (.iload_n 0, 1) := dk_26 (dk_at dksX9_isA_0 5 rfl rfl)
theorem dX9_isA_6 : decode cX9_isA 6 = .ok (.if_icmp .eq 28, 3) := dk_159 0 28 (dk_at dksX9_isA_0 6 rfl rfl)
theorem dX9_isA_9 : decode cX9_isA 9 = .ok (.iload_n 1, 1) := dk_27 (dk_at dksX9_isA_0 9 rfl rfl)
theorem dX9_isA_10 : decode cX9_isA 10 = .ok (.iconst 1, 1) := dk_4 (dk_at dksX9_isA_0 10 rfl rfl)
theorem dX9_isA_11 : decode cX9_isA 11 = .ok (.if_icmp .ne 13, 3) := dk_160 0 13 (dk_at dksX9_isA_0 11 rfl rfl)
theorem dX9_isA_14 : decode cX9_isA 14 = .ok (.iload_n 0, 1) := dk_26 (dk_at dksX9_isA_0 14 rfl rfl)
theorem dX9_isA_15 : decode cX9_isA 15 = .ok (.iconst 2, 1) := dk_5 (dk_at dksX9_isA_0 15 rfl rfl)
theorem dX9_isA_16 : decode cX9_isA 16 = .ok (.if_icmp .eq 18, 3) := dk_159 0 18 (dk_at dksX9_isA_0 16 rfl rfl)
theorem dX9_isA_19 : decode cX9_isA 19 = .ok (.iload_n 0, 1) := dk_26 (dk_at dksX9_isA_0 19 rfl rfl)
theorem dX9_isA_20 : decode cX9_isA 20 = .ok (.iconst 3, 1) := dk_6 (dk_at dksX9_isA_0 20 rfl rfl)
theorem dX9_isA_21 : decode cX9_isA 21 = .ok (.if_icmp .eq 13, 3) := dk_159 0 13 (dk_at dksX9_isA_0 21 rfl rfl)
theorem dX9_isA_24 : decode cX9_isA 24 = .ok (.iload_n 1, 1) := dk_27 (dk_at dksX9_isA_1 0 rfl rfl)
theorem dX9_isA_25 : decode cX9_isA 25 = .ok (.iconst 4, 1) := dk_7 (dk_at dksX9_isA_1 1 rfl rfl)
theorem dX9_isA_26 : decode cX9_isA 26 = .ok (.if_icmp .ne 12, 3) := dk_160 0 12 (dk_at dksX9_isA_1 2 rfl rfl)
theorem dX9_isA_29 : decode cX9_isA 29 = .ok (.iload_n 0, 1) := dk_26 (dk_at dksX9_isA_1 5 rfl rfl)
theorem dX9_isA_30 : decode cX9_isA 30 = .ok (.iconst 5, 1) := dk_8 (dk_at dksX9_isA_1 6 rfl rfl)
theorem dX9_isA_31 : decode cX9_isA 31 = .ok (.if_icmp .ne 7, 3) := dk_160 0 7 (dk_at dksX9_isA_1 7 rfl rfl)
theorem dX9_isA_34 : decode cX9_isA 34 = .ok (.iconst 1, 1) := dk_4 (dk_at dksX9_isA_1 10 rfl rfl)
theorem dX9_isA_35 : decode cX9_isA 35 = .ok (.goto 4, 3) := dk_167 0 4 (dk_at dksX9_isA_1 11 rfl rfl)
theorem dX9_isA_38 : decode cX9_isA 38 = .ok (.iconst 0, 1) := dk_3 (dk_at dksX9_isA_1 14 rfl rfl)
theorem dX9_isA_39 : decode cX9_isA 39 = .ok (.ireturn, 1) := dk_172 (dk_at dksX9_isA_1 15 rfl rfl)
abbrev cX9_ask : ByteArray := prog_16_method_86_code
def yX9_ask : MethodName := ⟨RX9, "ask", "(II)I"⟩
def dkwX9_ask_2 : List UInt8 := [7, 161, 0, 11, 42, 27, 182, 1, 21, 167, 0, 8, 42, 27, 182, 1, 3, 172]
abbrev dktX9_ask_2 : List UInt8 := dkwX9_ask_2 ++ []
def dkwX9_ask_1 : List UInt8 := [181, 0, 250, 28, 154, 0, 11, 42, 27, 182, 1, 18, 167, 0, 29, 42, 180, 0, 7, 16, 7, 27, 96, 46]
abbrev dktX9_ask_1 : List UInt8 := dkwX9_ask_1 ++ dktX9_ask_2
def dkwX9_ask_0 : List UInt8 := [42, 27, 182, 0, 183, 153, 0, 13, 28, 133, 9, 10, 184, 0, 44, 154, 0, 6, 18, 61, 172, 42, 3]
abbrev dktX9_ask_0 : List UInt8 := dkwX9_ask_0 ++ dktX9_ask_1
theorem dksX9_ask_0 : cX9_ask.data.toList.drop 0 = dktX9_ask_0 := by decide +kernel
theorem dksX9_ask_1 : cX9_ask.data.toList.drop 23 = dktX9_ask_1 := dk_seg dksX9_ask_0 23 rfl rfl
theorem dksX9_ask_2 : cX9_ask.data.toList.drop 47 = dktX9_ask_2 := dk_seg dksX9_ask_1 24 rfl rfl
theorem dX9_ask_0 : decode cX9_ask 0 = .ok (.aload_n 0, 1) := dk_42 (dk_at dksX9_ask_0 0 rfl rfl)
theorem dX9_ask_1 : decode cX9_ask 1 = .ok (.iload_n 1, 1) := dk_27 (dk_at dksX9_ask_0 1 rfl rfl)
theorem dX9_ask_2 : decode cX9_ask 2 = .ok (.invokevirtual 183, 3) := dk_182 0 183 (dk_at dksX9_ask_0 2 rfl rfl)
theorem dX9_ask_5 : decode cX9_ask 5 = .ok (.ifCond .eq 13, 3) := dk_153 0 13 (dk_at dksX9_ask_0 5 rfl rfl)
theorem dX9_ask_8 : decode cX9_ask 8 = .ok (.iload_n 2, 1) := dk_28 (dk_at dksX9_ask_0 8 rfl rfl)
theorem dX9_ask_9 : decode cX9_ask 9 = .ok (.i2l, 1) := dk_133 (dk_at dksX9_ask_0 9 rfl rfl)
theorem dX9_ask_10 : decode cX9_ask 10 = .ok (.lconst 0, 1) := dk_9 (dk_at dksX9_ask_0 10 rfl rfl)
theorem dX9_ask_11 : decode cX9_ask 11 = .ok (.lconst 1, 1) := dk_10 (dk_at dksX9_ask_0 11 rfl rfl)
theorem dX9_ask_12 : decode cX9_ask 12 = .ok (.invokestatic 44, 3) := dk_184 0 44 (dk_at dksX9_ask_0 12 rfl rfl)
theorem dX9_ask_15 : decode cX9_ask 15 = .ok (.ifCond .ne 6, 3) := dk_154 0 6 (dk_at dksX9_ask_0 15 rfl rfl)
theorem dX9_ask_18 : decode cX9_ask 18 = .ok (.ldc 61, 2) := dk_18 61 (dk_at dksX9_ask_0 18 rfl rfl)
theorem dX9_ask_20 : decode cX9_ask 20 = .ok (.ireturn, 1) := dk_172 (dk_at dksX9_ask_0 20 rfl rfl)
theorem dX9_ask_21 : decode cX9_ask 21 = .ok (.aload_n 0, 1) := dk_42 (dk_at dksX9_ask_0 21 rfl rfl)
theorem dX9_ask_22 : decode cX9_ask 22 = .ok (.iconst 0, 1) := dk_3 (dk_at dksX9_ask_0 22 rfl rfl)
theorem dX9_ask_23 : decode cX9_ask 23 = .ok (.putfield 250, 3) := dk_181 0 250 (dk_at dksX9_ask_1 0 rfl rfl)
theorem dX9_ask_26 : decode cX9_ask 26 = .ok (.iload_n 2, 1) := dk_28 (dk_at dksX9_ask_1 3 rfl rfl)
theorem dX9_ask_27 : decode cX9_ask 27 = .ok (.ifCond .ne 11, 3) := dk_154 0 11 (dk_at dksX9_ask_1 4 rfl rfl)
theorem dX9_ask_30 : decode cX9_ask 30 = .ok (.aload_n 0, 1) := dk_42 (dk_at dksX9_ask_1 7 rfl rfl)
theorem dX9_ask_31 : decode cX9_ask 31 = .ok (.iload_n 1, 1) := dk_27 (dk_at dksX9_ask_1 8 rfl rfl)
theorem dX9_ask_32 : decode cX9_ask 32 = .ok (.invokevirtual 274, 3) := dk_182 1 18 (dk_at dksX9_ask_1 9 rfl rfl)
theorem dX9_ask_35 : decode cX9_ask 35 = .ok (.goto 29, 3) := dk_167 0 29 (dk_at dksX9_ask_1 12 rfl rfl)
theorem dX9_ask_38 : decode cX9_ask 38 = .ok (.aload_n 0, 1) := dk_42 (dk_at dksX9_ask_1 15 rfl rfl)
theorem dX9_ask_39 : decode cX9_ask 39 = .ok (.getfield 7, 3) := dk_180 0 7 (dk_at dksX9_ask_1 16 rfl rfl)
theorem dX9_ask_42 : decode cX9_ask 42 = .ok (.bipush 7, 2) := dk_16 7 (dk_at dksX9_ask_1 19 rfl rfl)
theorem dX9_ask_44 : decode cX9_ask 44 = .ok (.iload_n 1, 1) := dk_27 (dk_at dksX9_ask_1 21 rfl rfl)
theorem dX9_ask_45 : decode cX9_ask 45 = .ok (.iadd, 1) := dk_96 (dk_at dksX9_ask_1 22 rfl rfl)
theorem dX9_ask_46 : decode cX9_ask 46 = .ok (.iaload, 1) := dk_46 (dk_at dksX9_ask_1 23 rfl rfl)
theorem dX9_ask_47 : decode cX9_ask 47 = .ok (.iconst 4, 1) := dk_7 (dk_at dksX9_ask_2 0 rfl rfl)
theorem dX9_ask_48 : decode cX9_ask 48 = .ok (.if_icmp .lt 11, 3) := dk_161 0 11 (dk_at dksX9_ask_2 1 rfl rfl)
theorem dX9_ask_51 : decode cX9_ask 51 = .ok (.aload_n 0, 1) := dk_42 (dk_at dksX9_ask_2 4 rfl rfl)
theorem dX9_ask_52 : decode cX9_ask 52 = .ok (.iload_n 1, 1) := dk_27 (dk_at dksX9_ask_2 5 rfl rfl)
theorem dX9_ask_53 : decode cX9_ask 53 = .ok (.invokevirtual 277, 3) := dk_182 1 21 (dk_at dksX9_ask_2 6 rfl rfl)
theorem dX9_ask_56 : decode cX9_ask 56 = .ok (.goto 8, 3) := dk_167 0 8 (dk_at dksX9_ask_2 9 rfl rfl)
theorem dX9_ask_59 : decode cX9_ask 59 = .ok (.aload_n 0, 1) := dk_42 (dk_at dksX9_ask_2 12 rfl rfl)
theorem dX9_ask_60 : decode cX9_ask 60 = .ok (.iload_n 1, 1) := dk_27 (dk_at dksX9_ask_2 13 rfl rfl)
theorem dX9_ask_61 : decode cX9_ask 61 = .ok (.invokevirtual 259, 3) := dk_182 1 3 (dk_at dksX9_ask_2 14 rfl rfl)
theorem dX9_ask_64 : decode cX9_ask 64 = .ok (.ireturn, 1) := dk_172 (dk_at dksX9_ask_2 17 rfl rfl)
abbrev cX9_sizeOf : ByteArray := prog_16_method_81_code
def yX9_sizeOf : MethodName := ⟨RX9, "sizeOf", "(I)I"⟩
def dkwX9_sizeOf_3 : List UInt8 := [182, 0, 253, 5, 42, 27, 182, 1, 9, 104, 172, 42, 27, 182, 1, 6, 172]
abbrev dktX9_sizeOf_3 : List UInt8 := dkwX9_sizeOf_3 ++ []
def dkwX9_sizeOf_2 : List UInt8 := [42, 16, 12, 182, 0, 253, 42, 27, 182, 1, 6, 116, 172, 42, 27, 182, 1, 9, 172, 42, 16, 14]
abbrev dktX9_sizeOf_2 : List UInt8 := dkwX9_sizeOf_2 ++ dktX9_sizeOf_3
def dkwX9_sizeOf_1 : List UInt8 := [170, 0, 0, 0, 0, 0, 64, 0, 0, 0, 2, 0, 0, 0, 5, 0, 0, 0, 31, 0, 0, 0, 64, 0, 0, 0, 44, 0, 0, 0, 50]
abbrev dktX9_sizeOf_1 : List UInt8 := dkwX9_sizeOf_1 ++ dktX9_sizeOf_2
def dkwX9_sizeOf_0 : List UInt8 := [42, 180, 0, 7, 16, 7, 27, 96, 46]
abbrev dktX9_sizeOf_0 : List UInt8 := dkwX9_sizeOf_0 ++ dktX9_sizeOf_1
theorem dksX9_sizeOf_0 : cX9_sizeOf.data.toList.drop 0 = dktX9_sizeOf_0 := by decide +kernel
theorem dksX9_sizeOf_1 : cX9_sizeOf.data.toList.drop 9 = dktX9_sizeOf_1 := dk_seg dksX9_sizeOf_0 9 rfl rfl
theorem dksX9_sizeOf_2 : cX9_sizeOf.data.toList.drop 40 = dktX9_sizeOf_2 := dk_seg dksX9_sizeOf_1 31 rfl rfl
theorem dksX9_sizeOf_3 : cX9_sizeOf.data.toList.drop 62 = dktX9_sizeOf_3 := dk_seg dksX9_sizeOf_2 22 rfl rfl
theorem dX9_sizeOf_0 : decode cX9_sizeOf 0 = .ok (.aload_n 0, 1) := dk_42 (dk_at dksX9_sizeOf_0 0 rfl rfl)
theorem dX9_sizeOf_1 : decode cX9_sizeOf 1 = .ok (.getfield 7, 3) := dk_180 0 7 (dk_at dksX9_sizeOf_0 1 rfl rfl)
theorem dX9_sizeOf_4 : decode cX9_sizeOf 4 = .ok (.bipush 7, 2) := dk_16 7 (dk_at dksX9_sizeOf_0 4 rfl rfl)
theorem dX9_sizeOf_6 : decode cX9_sizeOf 6 = .ok (.iload_n 1, 1) := dk_27 (dk_at dksX9_sizeOf_0 6 rfl rfl)
theorem dX9_sizeOf_7 : decode cX9_sizeOf 7 = .ok (.iadd, 1) := dk_96 (dk_at dksX9_sizeOf_0 7 rfl rfl)
theorem dX9_sizeOf_8 : decode cX9_sizeOf 8 = .ok (.iaload, 1) := dk_46 (dk_at dksX9_sizeOf_0 8 rfl rfl)
theorem dX9_sizeOf_9 : decode cX9_sizeOf 9 = .ok (.tableswitch 64 2 5 #[31, 64, 44, 50], 31) := by decide +kernel
theorem dX9_sizeOf_40 : decode cX9_sizeOf 40 = .ok (.aload_n 0, 1) := dk_42 (dk_at dksX9_sizeOf_2 0 rfl rfl)
theorem dX9_sizeOf_41 : decode cX9_sizeOf 41 = .ok (.bipush 12, 2) := dk_16 12 (dk_at dksX9_sizeOf_2 1 rfl rfl)
theorem dX9_sizeOf_43 : decode cX9_sizeOf 43 = .ok (.invokevirtual 253, 3) := dk_182 0 253 (dk_at dksX9_sizeOf_2 3 rfl rfl)
theorem dX9_sizeOf_46 : decode cX9_sizeOf 46 = .ok (.aload_n 0, 1) := dk_42 (dk_at dksX9_sizeOf_2 6 rfl rfl)
theorem dX9_sizeOf_47 : decode cX9_sizeOf 47 = .ok (.iload_n 1, 1) := dk_27 (dk_at dksX9_sizeOf_2 7 rfl rfl)
theorem dX9_sizeOf_48 : decode cX9_sizeOf 48 = .ok (.invokevirtual 262, 3) := dk_182 1 6 (dk_at dksX9_sizeOf_2 8 rfl rfl)
theorem dX9_sizeOf_51 : decode cX9_sizeOf 51 = .ok (.ineg, 1) := dk_116 (dk_at dksX9_sizeOf_2 11 rfl rfl)
theorem dX9_sizeOf_52 : decode cX9_sizeOf 52 = .ok (.ireturn, 1) := dk_172 (dk_at dksX9_sizeOf_2 12 rfl rfl)
theorem dX9_sizeOf_53 : decode cX9_sizeOf 53 = .ok (.aload_n 0, 1) := dk_42 (dk_at dksX9_sizeOf_2 13 rfl rfl)
theorem dX9_sizeOf_54 : decode cX9_sizeOf 54 = .ok (.iload_n 1, 1) := dk_27 (dk_at dksX9_sizeOf_2 14 rfl rfl)
theorem dX9_sizeOf_55 : decode cX9_sizeOf 55 = .ok (.invokevirtual 265, 3) := dk_182 1 9 (dk_at dksX9_sizeOf_2 15 rfl rfl)
theorem dX9_sizeOf_58 : decode cX9_sizeOf 58 = .ok (.ireturn, 1) := dk_172 (dk_at dksX9_sizeOf_2 18 rfl rfl)
theorem dX9_sizeOf_59 : decode cX9_sizeOf 59 = .ok (.aload_n 0, 1) := dk_42 (dk_at dksX9_sizeOf_2 19 rfl rfl)
theorem dX9_sizeOf_60 : decode cX9_sizeOf 60 = .ok (.bipush 14, 2) := dk_16 14 (dk_at dksX9_sizeOf_2 20 rfl rfl)
theorem dX9_sizeOf_62 : decode cX9_sizeOf 62 = .ok (.invokevirtual 253, 3) := dk_182 0 253 (dk_at dksX9_sizeOf_3 0 rfl rfl)
theorem dX9_sizeOf_65 : decode cX9_sizeOf 65 = .ok (.iconst 2, 1) := dk_5 (dk_at dksX9_sizeOf_3 3 rfl rfl)
theorem dX9_sizeOf_66 : decode cX9_sizeOf 66 = .ok (.aload_n 0, 1) := dk_42 (dk_at dksX9_sizeOf_3 4 rfl rfl)
theorem dX9_sizeOf_67 : decode cX9_sizeOf 67 = .ok (.iload_n 1, 1) := dk_27 (dk_at dksX9_sizeOf_3 5 rfl rfl)
theorem dX9_sizeOf_68 : decode cX9_sizeOf 68 = .ok (.invokevirtual 265, 3) := dk_182 1 9 (dk_at dksX9_sizeOf_3 6 rfl rfl)
theorem dX9_sizeOf_71 : decode cX9_sizeOf 71 = .ok (.imul, 1) := dk_104 (dk_at dksX9_sizeOf_3 9 rfl rfl)
theorem dX9_sizeOf_72 : decode cX9_sizeOf 72 = .ok (.ireturn, 1) := dk_172 (dk_at dksX9_sizeOf_3 10 rfl rfl)
theorem dX9_sizeOf_73 : decode cX9_sizeOf 73 = .ok (.aload_n 0, 1) := dk_42 (dk_at dksX9_sizeOf_3 11 rfl rfl)
theorem dX9_sizeOf_74 : decode cX9_sizeOf 74 = .ok (.iload_n 1, 1) := dk_27 (dk_at dksX9_sizeOf_3 12 rfl rfl)
theorem dX9_sizeOf_75 : decode cX9_sizeOf 75 = .ok (.invokevirtual 262, 3) := dk_182 1 6 (dk_at dksX9_sizeOf_3 13 rfl rfl)
theorem dX9_sizeOf_78 : decode cX9_sizeOf 78 = .ok (.ireturn, 1) := dk_172 (dk_at dksX9_sizeOf_3 16 rfl rfl)
abbrev cX9_traces : ByteArray := prog_16_method_77_code
def yX9_traces : MethodName := ⟨RX9, "traces", "(I)V"⟩
def dkwX9_traces_1 : List UInt8 := [4, 96, 181, 0, 250, 177]
abbrev dktX9_traces_1 : List UInt8 := dkwX9_traces_1 ++ []
def dkwX9_traces_0 : List UInt8 := [42, 180, 0, 250, 16, 16, 162, 0, 23, 42, 180, 0, 41, 42, 180, 0, 250, 27, 79, 42, 89, 180, 0, 250]
abbrev dktX9_traces_0 : List UInt8 := dkwX9_traces_0 ++ dktX9_traces_1
theorem dksX9_traces_0 : cX9_traces.data.toList.drop 0 = dktX9_traces_0 := by decide +kernel
theorem dksX9_traces_1 : cX9_traces.data.toList.drop 24 = dktX9_traces_1 := dk_seg dksX9_traces_0 24 rfl rfl
theorem dX9_traces_0 : decode cX9_traces 0 = .ok (.aload_n 0, 1) := dk_42 (dk_at dksX9_traces_0 0 rfl rfl)
theorem dX9_traces_1 : decode cX9_traces 1 = .ok (.getfield 250, 3) := dk_180 0 250 (dk_at dksX9_traces_0 1 rfl rfl)
theorem dX9_traces_4 : decode cX9_traces 4 = .ok (.bipush 16, 2) := dk_16 16 (dk_at dksX9_traces_0 4 rfl rfl)
theorem dX9_traces_6 : decode cX9_traces 6 = .ok (.if_icmp .ge 23, 3) := dk_162 0 23 (dk_at dksX9_traces_0 6 rfl rfl)
theorem dX9_traces_9 : decode cX9_traces 9 = .ok (.aload_n 0, 1) := dk_42 (dk_at dksX9_traces_0 9 rfl rfl)
theorem dX9_traces_10 : decode cX9_traces 10 = .ok (.getfield 41, 3) := dk_180 0 41 (dk_at dksX9_traces_0 10 rfl rfl)
theorem dX9_traces_13 : decode cX9_traces 13 = .ok (.aload_n 0, 1) := dk_42 (dk_at dksX9_traces_0 13 rfl rfl)
theorem dX9_traces_14 : decode cX9_traces 14 = .ok (.getfield 250, 3) := dk_180 0 250 (dk_at dksX9_traces_0 14 rfl rfl)
theorem dX9_traces_17 : decode cX9_traces 17 = .ok (.iload_n 1, 1) := dk_27 (dk_at dksX9_traces_0 17 rfl rfl)
theorem dX9_traces_18 : decode cX9_traces 18 = .ok (.iastore, 1) := dk_79 (dk_at dksX9_traces_0 18 rfl rfl)
theorem dX9_traces_19 : decode cX9_traces 19 = .ok (.aload_n 0, 1) := dk_42 (dk_at dksX9_traces_0 19 rfl rfl)
theorem dX9_traces_20 : decode cX9_traces 20 = .ok (.dup, 1) := dk_89 (dk_at dksX9_traces_0 20 rfl rfl)
theorem dX9_traces_21 : decode cX9_traces 21 = .ok (.getfield 250, 3) := dk_180 0 250 (dk_at dksX9_traces_0 21 rfl rfl)
theorem dX9_traces_24 : decode cX9_traces 24 = .ok (.iconst 1, 1) := dk_4 (dk_at dksX9_traces_1 0 rfl rfl)
theorem dX9_traces_25 : decode cX9_traces 25 = .ok (.iadd, 1) := dk_96 (dk_at dksX9_traces_1 1 rfl rfl)
theorem dX9_traces_26 : decode cX9_traces 26 = .ok (.putfield 250, 3) := dk_181 0 250 (dk_at dksX9_traces_1 2 rfl rfl)
theorem dX9_traces_29 : decode cX9_traces 29 = .ok (.return_, 1) := dk_177 (dk_at dksX9_traces_1 5 rfl rfl)
abbrev cX9_size11 : ByteArray := prog_16_method_79_code
def yX9_size11 : MethodName := ⟨RX9, "size11", "(I)I"⟩
def dkwX9_size11_0 : List UInt8 := [42, 16, 11, 182, 0, 253, 42, 27, 182, 1, 0, 61, 28, 42, 27, 182, 1, 3, 96, 172]
abbrev dktX9_size11_0 : List UInt8 := dkwX9_size11_0 ++ []
theorem dksX9_size11_0 : cX9_size11.data.toList.drop 0 = dktX9_size11_0 := by decide +kernel
theorem dX9_size11_0 : decode cX9_size11 0 = .ok (.aload_n 0, 1) := dk_42 (dk_at dksX9_size11_0 0 rfl rfl)
theorem dX9_size11_1 : decode cX9_size11 1 = .ok (.bipush 11, 2) := dk_16 11 (dk_at dksX9_size11_0 1 rfl rfl)
theorem dX9_size11_3 : decode cX9_size11 3 = .ok (.invokevirtual 253, 3) := dk_182 0 253 (dk_at dksX9_size11_0 3 rfl rfl)
theorem dX9_size11_6 : decode cX9_size11 6 = .ok (.aload_n 0, 1) := dk_42 (dk_at dksX9_size11_0 6 rfl rfl)
theorem dX9_size11_7 : decode cX9_size11 7 = .ok (.iload_n 1, 1) := dk_27 (dk_at dksX9_size11_0 7 rfl rfl)
theorem dX9_size11_8 : decode cX9_size11 8 = .ok (.invokevirtual 256, 3) := dk_182 1 0 (dk_at dksX9_size11_0 8 rfl rfl)
theorem dX9_size11_11 : decode cX9_size11 11 = .ok (.istore_n 2, 1) := dk_61 (dk_at dksX9_size11_0 11 rfl rfl)
theorem dX9_size11_12 : decode cX9_size11 12 = .ok (.iload_n 2, 1) := dk_28 (dk_at dksX9_size11_0 12 rfl rfl)
theorem dX9_size11_13 : decode cX9_size11 13 = .ok (.aload_n 0, 1) := dk_42 (dk_at dksX9_size11_0 13 rfl rfl)
theorem dX9_size11_14 : decode cX9_size11 14 = .ok (.iload_n 1, 1) := dk_27 (dk_at dksX9_size11_0 14 rfl rfl)
theorem dX9_size11_15 : decode cX9_size11 15 = .ok (.invokevirtual 259, 3) := dk_182 1 3 (dk_at dksX9_size11_0 15 rfl rfl)
theorem dX9_size11_18 : decode cX9_size11 18 = .ok (.iadd, 1) := dk_96 (dk_at dksX9_size11_0 18 rfl rfl)
theorem dX9_size11_19 : decode cX9_size11 19 = .ok (.ireturn, 1) := dk_172 (dk_at dksX9_size11_0 19 rfl rfl)
abbrev cX9_size10 : ByteArray := prog_16_method_78_code
def yX9_size10 : MethodName := ⟨RX9, "size10", "(I)I"⟩
def dkwX9_size10_0 : List UInt8 := [42, 16, 10, 182, 0, 253, 42, 180, 0, 7, 16, 25, 27, 96, 46, 172]
abbrev dktX9_size10_0 : List UInt8 := dkwX9_size10_0 ++ []
theorem dksX9_size10_0 : cX9_size10.data.toList.drop 0 = dktX9_size10_0 := by decide +kernel
theorem dX9_size10_0 : decode cX9_size10 0 = .ok (.aload_n 0, 1) := dk_42 (dk_at dksX9_size10_0 0 rfl rfl)
theorem dX9_size10_1 : decode cX9_size10 1 = .ok (.bipush 10, 2) := dk_16 10 (dk_at dksX9_size10_0 1 rfl rfl)
theorem dX9_size10_3 : decode cX9_size10 3 = .ok (.invokevirtual 253, 3) := dk_182 0 253 (dk_at dksX9_size10_0 3 rfl rfl)
theorem dX9_size10_6 : decode cX9_size10 6 = .ok (.aload_n 0, 1) := dk_42 (dk_at dksX9_size10_0 6 rfl rfl)
theorem dX9_size10_7 : decode cX9_size10 7 = .ok (.getfield 7, 3) := dk_180 0 7 (dk_at dksX9_size10_0 7 rfl rfl)
theorem dX9_size10_10 : decode cX9_size10 10 = .ok (.bipush 25, 2) := dk_16 25 (dk_at dksX9_size10_0 10 rfl rfl)
theorem dX9_size10_12 : decode cX9_size10 12 = .ok (.iload_n 1, 1) := dk_27 (dk_at dksX9_size10_0 12 rfl rfl)
theorem dX9_size10_13 : decode cX9_size10 13 = .ok (.iadd, 1) := dk_96 (dk_at dksX9_size10_0 13 rfl rfl)
theorem dX9_size10_14 : decode cX9_size10 14 = .ok (.iaload, 1) := dk_46 (dk_at dksX9_size10_0 14 rfl rfl)
theorem dX9_size10_15 : decode cX9_size10 15 = .ok (.ireturn, 1) := dk_172 (dk_at dksX9_size10_0 15 rfl rfl)
abbrev cX9_markOf : ByteArray := prog_16_method_84_code
def yX9_markOf : MethodName := ⟨RX9, "markOf", "(I)I"⟩
def dkwX9_markOf_3 : List UInt8 := [182, 1, 15, 17, 3, 232, 100, 172, 42, 27, 182, 1, 15, 172]
abbrev dktX9_markOf_3 : List UInt8 := dkwX9_markOf_3 ++ []
def dkwX9_markOf_2 : List UInt8 := [42, 16, 24, 182, 0, 253, 5, 42, 27, 182, 1, 15, 104, 172, 42, 16, 22, 182, 0, 253, 42, 27]
abbrev dktX9_markOf_2 : List UInt8 := dkwX9_markOf_2 ++ dktX9_markOf_3
def dkwX9_markOf_1 : List UInt8 := [171, 0, 0, 0, 0, 0, 57, 0, 0, 0, 2, 0, 0, 0, 2, 0, 0, 0, 27, 0, 0, 0, 3, 0, 0, 0, 41]
abbrev dktX9_markOf_1 : List UInt8 := dkwX9_markOf_1 ++ dktX9_markOf_2
def dkwX9_markOf_0 : List UInt8 := [42, 180, 0, 7, 16, 7, 27, 96, 46]
abbrev dktX9_markOf_0 : List UInt8 := dkwX9_markOf_0 ++ dktX9_markOf_1
theorem dksX9_markOf_0 : cX9_markOf.data.toList.drop 0 = dktX9_markOf_0 := by decide +kernel
theorem dksX9_markOf_1 : cX9_markOf.data.toList.drop 9 = dktX9_markOf_1 := dk_seg dksX9_markOf_0 9 rfl rfl
theorem dksX9_markOf_2 : cX9_markOf.data.toList.drop 36 = dktX9_markOf_2 := dk_seg dksX9_markOf_1 27 rfl rfl
theorem dksX9_markOf_3 : cX9_markOf.data.toList.drop 58 = dktX9_markOf_3 := dk_seg dksX9_markOf_2 22 rfl rfl
theorem dX9_markOf_0 : decode cX9_markOf 0 = .ok (.aload_n 0, 1) := dk_42 (dk_at dksX9_markOf_0 0 rfl rfl)
theorem dX9_markOf_1 : decode cX9_markOf 1 = .ok (.getfield 7, 3) := dk_180 0 7 (dk_at dksX9_markOf_0 1 rfl rfl)
theorem dX9_markOf_4 : decode cX9_markOf 4 = .ok (.bipush 7, 2) := dk_16 7 (dk_at dksX9_markOf_0 4 rfl rfl)
theorem dX9_markOf_6 : decode cX9_markOf 6 = .ok (.iload_n 1, 1) := dk_27 (dk_at dksX9_markOf_0 6 rfl rfl)
theorem dX9_markOf_7 : decode cX9_markOf 7 = .ok (.iadd, 1) := dk_96 (dk_at dksX9_markOf_0 7 rfl rfl)
theorem dX9_markOf_8 : decode cX9_markOf 8 = .ok (.iaload, 1) := dk_46 (dk_at dksX9_markOf_0 8 rfl rfl)
theorem dX9_markOf_9 : decode cX9_markOf 9 = .ok (.lookupswitch 57 #[(2, 27), (3, 41)], 27) := by decide +kernel
theorem dX9_markOf_36 : decode cX9_markOf 36 = .ok (.aload_n 0, 1) := dk_42 (dk_at dksX9_markOf_2 0 rfl rfl)
theorem dX9_markOf_37 : decode cX9_markOf 37 = .ok (.bipush 24, 2) := dk_16 24 (dk_at dksX9_markOf_2 1 rfl rfl)
theorem dX9_markOf_39 : decode cX9_markOf 39 = .ok (.invokevirtual 253, 3) := dk_182 0 253 (dk_at dksX9_markOf_2 3 rfl rfl)
theorem dX9_markOf_42 : decode cX9_markOf 42 = .ok (.iconst 2, 1) := dk_5 (dk_at dksX9_markOf_2 6 rfl rfl)
theorem dX9_markOf_43 : decode cX9_markOf 43 = .ok (.aload_n 0, 1) := dk_42 (dk_at dksX9_markOf_2 7 rfl rfl)
theorem dX9_markOf_44 : decode cX9_markOf 44 = .ok (.iload_n 1, 1) := dk_27 (dk_at dksX9_markOf_2 8 rfl rfl)
theorem dX9_markOf_45 : decode cX9_markOf 45 = .ok (.invokevirtual 271, 3) := dk_182 1 15 (dk_at dksX9_markOf_2 9 rfl rfl)
theorem dX9_markOf_48 : decode cX9_markOf 48 = .ok (.imul, 1) := dk_104 (dk_at dksX9_markOf_2 12 rfl rfl)
theorem dX9_markOf_49 : decode cX9_markOf 49 = .ok (.ireturn, 1) := dk_172 (dk_at dksX9_markOf_2 13 rfl rfl)
theorem dX9_markOf_50 : decode cX9_markOf 50 = .ok (.aload_n 0, 1) := dk_42 (dk_at dksX9_markOf_2 14 rfl rfl)
theorem dX9_markOf_51 : decode cX9_markOf 51 = .ok (.bipush 22, 2) := dk_16 22 (dk_at dksX9_markOf_2 15 rfl rfl)
theorem dX9_markOf_53 : decode cX9_markOf 53 = .ok (.invokevirtual 253, 3) := dk_182 0 253 (dk_at dksX9_markOf_2 17 rfl rfl)
theorem dX9_markOf_56 : decode cX9_markOf 56 = .ok (.aload_n 0, 1) := dk_42 (dk_at dksX9_markOf_2 20 rfl rfl)
theorem dX9_markOf_57 : decode cX9_markOf 57 = .ok (.iload_n 1, 1) := dk_27 (dk_at dksX9_markOf_2 21 rfl rfl)
theorem dX9_markOf_58 : decode cX9_markOf 58 = .ok (.invokevirtual 271, 3) := dk_182 1 15 (dk_at dksX9_markOf_3 0 rfl rfl)
theorem dX9_markOf_61 : decode cX9_markOf 61 = .ok (.sipush 1000, 3) := dk_17 3 232 (dk_at dksX9_markOf_3 3 rfl rfl)
theorem dX9_markOf_64 : decode cX9_markOf 64 = .ok (.isub, 1) := dk_100 (dk_at dksX9_markOf_3 6 rfl rfl)
theorem dX9_markOf_65 : decode cX9_markOf 65 = .ok (.ireturn, 1) := dk_172 (dk_at dksX9_markOf_3 7 rfl rfl)
theorem dX9_markOf_66 : decode cX9_markOf 66 = .ok (.aload_n 0, 1) := dk_42 (dk_at dksX9_markOf_3 8 rfl rfl)
theorem dX9_markOf_67 : decode cX9_markOf 67 = .ok (.iload_n 1, 1) := dk_27 (dk_at dksX9_markOf_3 9 rfl rfl)
theorem dX9_markOf_68 : decode cX9_markOf 68 = .ok (.invokevirtual 271, 3) := dk_182 1 15 (dk_at dksX9_markOf_3 10 rfl rfl)
theorem dX9_markOf_71 : decode cX9_markOf 71 = .ok (.ireturn, 1) := dk_172 (dk_at dksX9_markOf_3 13 rfl rfl)
abbrev cX9_mark21 : ByteArray := prog_16_method_83_code
def yX9_mark21 : MethodName := ⟨RX9, "mark21", "(I)I"⟩
def dkwX9_mark21_0 : List UInt8 := [42, 16, 21, 182, 0, 253, 42, 27, 182, 1, 12, 42, 180, 0, 7, 16, 31, 27, 96, 46, 96, 172]
abbrev dktX9_mark21_0 : List UInt8 := dkwX9_mark21_0 ++ []
theorem dksX9_mark21_0 : cX9_mark21.data.toList.drop 0 = dktX9_mark21_0 := by decide +kernel
theorem dX9_mark21_0 : decode cX9_mark21 0 = .ok (.aload_n 0, 1) := dk_42 (dk_at dksX9_mark21_0 0 rfl rfl)
theorem dX9_mark21_1 : decode cX9_mark21 1 = .ok (.bipush 21, 2) := dk_16 21 (dk_at dksX9_mark21_0 1 rfl rfl)
theorem dX9_mark21_3 : decode cX9_mark21 3 = .ok (.invokevirtual 253, 3) := dk_182 0 253 (dk_at dksX9_mark21_0 3 rfl rfl)
theorem dX9_mark21_6 : decode cX9_mark21 6 = .ok (.aload_n 0, 1) := dk_42 (dk_at dksX9_mark21_0 6 rfl rfl)
theorem dX9_mark21_7 : decode cX9_mark21 7 = .ok (.iload_n 1, 1) := dk_27 (dk_at dksX9_mark21_0 7 rfl rfl)
theorem dX9_mark21_8 : decode cX9_mark21 8 = .ok (.invokevirtual 268, 3) := dk_182 1 12 (dk_at dksX9_mark21_0 8 rfl rfl)
theorem dX9_mark21_11 : decode cX9_mark21 11 = .ok (.aload_n 0, 1) := dk_42 (dk_at dksX9_mark21_0 11 rfl rfl)
theorem dX9_mark21_12 : decode cX9_mark21 12 = .ok (.getfield 7, 3) := dk_180 0 7 (dk_at dksX9_mark21_0 12 rfl rfl)
theorem dX9_mark21_15 : decode cX9_mark21 15 = .ok (.bipush 31, 2) := dk_16 31 (dk_at dksX9_mark21_0 15 rfl rfl)
theorem dX9_mark21_17 : decode cX9_mark21 17 = .ok (.iload_n 1, 1) := dk_27 (dk_at dksX9_mark21_0 17 rfl rfl)
theorem dX9_mark21_18 : decode cX9_mark21 18 = .ok (.iadd, 1) := dk_96 (dk_at dksX9_mark21_0 18 rfl rfl)
theorem dX9_mark21_19 : decode cX9_mark21 19 = .ok (.iaload, 1) := dk_46 (dk_at dksX9_mark21_0 19 rfl rfl)
theorem dX9_mark21_20 : decode cX9_mark21 20 = .ok (.iadd, 1) := dk_96 (dk_at dksX9_mark21_0 20 rfl rfl)
theorem dX9_mark21_21 : decode cX9_mark21 21 = .ok (.ireturn, 1) := dk_172 (dk_at dksX9_mark21_0 21 rfl rfl)
abbrev cX9_mark20 : ByteArray := prog_16_method_82_code
def yX9_mark20 : MethodName := ⟨RX9, "mark20", "(I)I"⟩
def dkwX9_mark20_0 : List UInt8 := [42, 16, 20, 182, 0, 253, 27, 172]
abbrev dktX9_mark20_0 : List UInt8 := dkwX9_mark20_0 ++ []
theorem dksX9_mark20_0 : cX9_mark20.data.toList.drop 0 = dktX9_mark20_0 := by decide +kernel
theorem dX9_mark20_0 : decode cX9_mark20 0 = .ok (.aload_n 0, 1) := dk_42 (dk_at dksX9_mark20_0 0 rfl rfl)
theorem dX9_mark20_1 : decode cX9_mark20 1 = .ok (.bipush 20, 2) := dk_16 20 (dk_at dksX9_mark20_0 1 rfl rfl)
theorem dX9_mark20_3 : decode cX9_mark20 3 = .ok (.invokevirtual 253, 3) := dk_182 0 253 (dk_at dksX9_mark20_0 3 rfl rfl)
theorem dX9_mark20_6 : decode cX9_mark20 6 = .ok (.iload_n 1, 1) := dk_27 (dk_at dksX9_mark20_0 6 rfl rfl)
theorem dX9_mark20_7 : decode cX9_mark20 7 = .ok (.ireturn, 1) := dk_172 (dk_at dksX9_mark20_0 7 rfl rfl)
abbrev cX9_size13 : ByteArray := prog_16_method_80_code
def yX9_size13 : MethodName := ⟨RX9, "size13", "(I)I"⟩
def dkwX9_size13_0 : List UInt8 := [42, 16, 13, 182, 0, 253, 42, 27, 182, 1, 0, 16, 100, 100, 172]
abbrev dktX9_size13_0 : List UInt8 := dkwX9_size13_0 ++ []
theorem dksX9_size13_0 : cX9_size13.data.toList.drop 0 = dktX9_size13_0 := by decide +kernel
theorem dX9_size13_0 : decode cX9_size13 0 = .ok (.aload_n 0, 1) := dk_42 (dk_at dksX9_size13_0 0 rfl rfl)
theorem dX9_size13_1 : decode cX9_size13 1 = .ok (.bipush 13, 2) := dk_16 13 (dk_at dksX9_size13_0 1 rfl rfl)
theorem dX9_size13_3 : decode cX9_size13 3 = .ok (.invokevirtual 253, 3) := dk_182 0 253 (dk_at dksX9_size13_0 3 rfl rfl)
theorem dX9_size13_6 : decode cX9_size13 6 = .ok (.aload_n 0, 1) := dk_42 (dk_at dksX9_size13_0 6 rfl rfl)
theorem dX9_size13_7 : decode cX9_size13 7 = .ok (.iload_n 1, 1) := dk_27 (dk_at dksX9_size13_0 7 rfl rfl)
theorem dX9_size13_8 : decode cX9_size13 8 = .ok (.invokevirtual 256, 3) := dk_182 1 0 (dk_at dksX9_size13_0 8 rfl rfl)
theorem dX9_size13_11 : decode cX9_size13 11 = .ok (.bipush 100, 2) := dk_16 100 (dk_at dksX9_size13_0 11 rfl rfl)
theorem dX9_size13_13 : decode cX9_size13 13 = .ok (.isub, 1) := dk_100 (dk_at dksX9_size13_0 13 rfl rfl)
theorem dX9_size13_14 : decode cX9_size13 14 = .ok (.ireturn, 1) := dk_172 (dk_at dksX9_size13_0 14 rfl rfl)
abbrev cX9_mark23 : ByteArray := prog_16_method_85_code
def yX9_mark23 : MethodName := ⟨RX9, "mark23", "(I)I"⟩
def dkwX9_mark23_0 : List UInt8 := [42, 16, 23, 182, 0, 253, 42, 27, 182, 1, 12, 61, 28, 42, 27, 182, 1, 18, 100, 172]
abbrev dktX9_mark23_0 : List UInt8 := dkwX9_mark23_0 ++ []
theorem dksX9_mark23_0 : cX9_mark23.data.toList.drop 0 = dktX9_mark23_0 := by decide +kernel
theorem dX9_mark23_0 : decode cX9_mark23 0 = .ok (.aload_n 0, 1) := dk_42 (dk_at dksX9_mark23_0 0 rfl rfl)
theorem dX9_mark23_1 : decode cX9_mark23 1 = .ok (.bipush 23, 2) := dk_16 23 (dk_at dksX9_mark23_0 1 rfl rfl)
theorem dX9_mark23_3 : decode cX9_mark23 3 = .ok (.invokevirtual 253, 3) := dk_182 0 253 (dk_at dksX9_mark23_0 3 rfl rfl)
theorem dX9_mark23_6 : decode cX9_mark23 6 = .ok (.aload_n 0, 1) := dk_42 (dk_at dksX9_mark23_0 6 rfl rfl)
theorem dX9_mark23_7 : decode cX9_mark23 7 = .ok (.iload_n 1, 1) := dk_27 (dk_at dksX9_mark23_0 7 rfl rfl)
theorem dX9_mark23_8 : decode cX9_mark23 8 = .ok (.invokevirtual 268, 3) := dk_182 1 12 (dk_at dksX9_mark23_0 8 rfl rfl)
theorem dX9_mark23_11 : decode cX9_mark23 11 = .ok (.istore_n 2, 1) := dk_61 (dk_at dksX9_mark23_0 11 rfl rfl)
theorem dX9_mark23_12 : decode cX9_mark23 12 = .ok (.iload_n 2, 1) := dk_28 (dk_at dksX9_mark23_0 12 rfl rfl)
theorem dX9_mark23_13 : decode cX9_mark23 13 = .ok (.aload_n 0, 1) := dk_42 (dk_at dksX9_mark23_0 13 rfl rfl)
theorem dX9_mark23_14 : decode cX9_mark23 14 = .ok (.iload_n 1, 1) := dk_27 (dk_at dksX9_mark23_0 14 rfl rfl)
theorem dX9_mark23_15 : decode cX9_mark23 15 = .ok (.invokevirtual 274, 3) := dk_182 1 18 (dk_at dksX9_mark23_0 15 rfl rfl)
theorem dX9_mark23_18 : decode cX9_mark23 18 = .ok (.isub, 1) := dk_100 (dk_at dksX9_mark23_0 18 rfl rfl)
theorem dX9_mark23_19 : decode cX9_mark23 19 = .ok (.ireturn, 1) := dk_172 (dk_at dksX9_mark23_0 19 rfl rfl)
abbrev cX9_trace : ByteArray := prog_16_method_87_code
def yX9_trace : MethodName := ⟨RX9, "trace", "(I)I"⟩
def dkwX9_trace_1 : List UInt8 := [167, 0, 5, 18, 198, 172]
abbrev dktX9_trace_1 : List UInt8 := dkwX9_trace_1 ++ []
def dkwX9_trace_0 : List UInt8 := [27, 133, 9, 42, 180, 0, 250, 4, 100, 133, 184, 0, 44, 153, 0, 12, 42, 180, 0, 41, 27, 46]
abbrev dktX9_trace_0 : List UInt8 := dkwX9_trace_0 ++ dktX9_trace_1
theorem dksX9_trace_0 : cX9_trace.data.toList.drop 0 = dktX9_trace_0 := by decide +kernel
theorem dksX9_trace_1 : cX9_trace.data.toList.drop 22 = dktX9_trace_1 := dk_seg dksX9_trace_0 22 rfl rfl
theorem dX9_trace_0 : decode cX9_trace 0 = .ok (.iload_n 1, 1) := dk_27 (dk_at dksX9_trace_0 0 rfl rfl)
theorem dX9_trace_1 : decode cX9_trace 1 = .ok (.i2l, 1) := dk_133 (dk_at dksX9_trace_0 1 rfl rfl)
theorem dX9_trace_2 : decode cX9_trace 2 = .ok (.lconst 0, 1) := dk_9 (dk_at dksX9_trace_0 2 rfl rfl)
theorem dX9_trace_3 : decode cX9_trace 3 = .ok (.aload_n 0, 1) := dk_42 (dk_at dksX9_trace_0 3 rfl rfl)
theorem dX9_trace_4 : decode cX9_trace 4 = .ok (.getfield 250, 3) := dk_180 0 250 (dk_at dksX9_trace_0 4 rfl rfl)
theorem dX9_trace_7 : decode cX9_trace 7 = .ok (.iconst 1, 1) := dk_4 (dk_at dksX9_trace_0 7 rfl rfl)
theorem dX9_trace_8 : decode cX9_trace 8 = .ok (.isub, 1) := dk_100 (dk_at dksX9_trace_0 8 rfl rfl)
theorem dX9_trace_9 : decode cX9_trace 9 = .ok (.i2l, 1) := dk_133 (dk_at dksX9_trace_0 9 rfl rfl)
theorem dX9_trace_10 : decode cX9_trace 10 = .ok (.invokestatic 44, 3) := dk_184 0 44 (dk_at dksX9_trace_0 10 rfl rfl)
theorem dX9_trace_13 : decode cX9_trace 13 = .ok (.ifCond .eq 12, 3) := dk_153 0 12 (dk_at dksX9_trace_0 13 rfl rfl)
theorem dX9_trace_16 : decode cX9_trace 16 = .ok (.aload_n 0, 1) := dk_42 (dk_at dksX9_trace_0 16 rfl rfl)
theorem dX9_trace_17 : decode cX9_trace 17 = .ok (.getfield 41, 3) := dk_180 0 41 (dk_at dksX9_trace_0 17 rfl rfl)
theorem dX9_trace_20 : decode cX9_trace 20 = .ok (.iload_n 1, 1) := dk_27 (dk_at dksX9_trace_0 20 rfl rfl)
theorem dX9_trace_21 : decode cX9_trace 21 = .ok (.iaload, 1) := dk_46 (dk_at dksX9_trace_0 21 rfl rfl)
theorem dX9_trace_22 : decode cX9_trace 22 = .ok (.goto 5, 3) := dk_167 0 5 (dk_at dksX9_trace_1 0 rfl rfl)
theorem dX9_trace_25 : decode cX9_trace 25 = .ok (.ldc 198, 2) := dk_18 198 (dk_at dksX9_trace_1 3 rfl rfl)
theorem dX9_trace_27 : decode cX9_trace 27 = .ok (.ireturn, 1) := dk_172 (dk_at dksX9_trace_1 5 rfl rfl)
abbrev cX9_count : ByteArray := prog_16_method_90_code
def yX9_count : MethodName := ⟨RX9, "count", "(I)I"⟩
def dkwX9_count_4 : List UInt8 := [42, 180, 0, 124, 172, 42, 180, 0, 72, 172, 18, 61, 172]
abbrev dktX9_count_4 : List UInt8 := dkwX9_count_4 ++ []
def dkwX9_count_3 : List UInt8 := [16, 6, 46, 172, 42, 182, 1, 27, 172, 42, 3, 182, 0, 173, 184, 0, 133, 172, 42, 3, 182, 0, 214, 172]
abbrev dktX9_count_3 : List UInt8 := dkwX9_count_3 ++ dktX9_count_4
def dkwX9_count_2 : List UInt8 := [42, 182, 1, 24, 172, 42, 180, 0, 7, 3, 46, 172, 42, 180, 0, 7, 4, 46, 172, 42, 180, 0, 7]
abbrev dktX9_count_2 : List UInt8 := dkwX9_count_2 ++ dktX9_count_3
def dkwX9_count_1 : List UInt8 := [170, 0, 0, 0, 0, 0, 108, 0, 0, 0, 0, 0, 0, 0, 8, 0, 0, 0, 51, 0, 0, 0, 56, 0, 0, 0, 63, 0, 0, 0, 70, 0, 0, 0, 78, 0, 0, 0, 83, 0, 0, 0, 92, 0, 0, 0, 98, 0, 0, 0, 103]
abbrev dktX9_count_1 : List UInt8 := dkwX9_count_1 ++ dktX9_count_2
def dkwX9_count_0 : List UInt8 := [27]
abbrev dktX9_count_0 : List UInt8 := dkwX9_count_0 ++ dktX9_count_1
theorem dksX9_count_0 : cX9_count.data.toList.drop 0 = dktX9_count_0 := by decide +kernel
theorem dksX9_count_1 : cX9_count.data.toList.drop 1 = dktX9_count_1 := dk_seg dksX9_count_0 1 rfl rfl
theorem dksX9_count_2 : cX9_count.data.toList.drop 52 = dktX9_count_2 := dk_seg dksX9_count_1 51 rfl rfl
theorem dksX9_count_3 : cX9_count.data.toList.drop 75 = dktX9_count_3 := dk_seg dksX9_count_2 23 rfl rfl
theorem dksX9_count_4 : cX9_count.data.toList.drop 99 = dktX9_count_4 := dk_seg dksX9_count_3 24 rfl rfl
theorem dX9_count_0 : decode cX9_count 0 = .ok (.iload_n 1, 1) := dk_27 (dk_at dksX9_count_0 0 rfl rfl)
theorem dX9_count_1 : decode cX9_count 1 = .ok (.tableswitch 108 0 8 #[51, 56, 63, 70, 78, 83, 92, 98, 103], 51) := by decide +kernel
theorem dX9_count_52 : decode cX9_count 52 = .ok (.aload_n 0, 1) := dk_42 (dk_at dksX9_count_2 0 rfl rfl)
theorem dX9_count_53 : decode cX9_count 53 = .ok (.invokevirtual 280, 3) := dk_182 1 24 (dk_at dksX9_count_2 1 rfl rfl)
theorem dX9_count_56 : decode cX9_count 56 = .ok (.ireturn, 1) := dk_172 (dk_at dksX9_count_2 4 rfl rfl)
theorem dX9_count_57 : decode cX9_count 57 = .ok (.aload_n 0, 1) := dk_42 (dk_at dksX9_count_2 5 rfl rfl)
theorem dX9_count_58 : decode cX9_count 58 = .ok (.getfield 7, 3) := dk_180 0 7 (dk_at dksX9_count_2 6 rfl rfl)
theorem dX9_count_61 : decode cX9_count 61 = .ok (.iconst 0, 1) := dk_3 (dk_at dksX9_count_2 9 rfl rfl)
theorem dX9_count_62 : decode cX9_count 62 = .ok (.iaload, 1) := dk_46 (dk_at dksX9_count_2 10 rfl rfl)
theorem dX9_count_63 : decode cX9_count 63 = .ok (.ireturn, 1) := dk_172 (dk_at dksX9_count_2 11 rfl rfl)
theorem dX9_count_64 : decode cX9_count 64 = .ok (.aload_n 0, 1) := dk_42 (dk_at dksX9_count_2 12 rfl rfl)
theorem dX9_count_65 : decode cX9_count 65 = .ok (.getfield 7, 3) := dk_180 0 7 (dk_at dksX9_count_2 13 rfl rfl)
theorem dX9_count_68 : decode cX9_count 68 = .ok (.iconst 1, 1) := dk_4 (dk_at dksX9_count_2 16 rfl rfl)
theorem dX9_count_69 : decode cX9_count 69 = .ok (.iaload, 1) := dk_46 (dk_at dksX9_count_2 17 rfl rfl)
theorem dX9_count_70 : decode cX9_count 70 = .ok (.ireturn, 1) := dk_172 (dk_at dksX9_count_2 18 rfl rfl)
theorem dX9_count_71 : decode cX9_count 71 = .ok (.aload_n 0, 1) := dk_42 (dk_at dksX9_count_2 19 rfl rfl)
theorem dX9_count_72 : decode cX9_count 72 = .ok (.getfield 7, 3) := dk_180 0 7 (dk_at dksX9_count_2 20 rfl rfl)
theorem dX9_count_75 : decode cX9_count 75 = .ok (.bipush 6, 2) := dk_16 6 (dk_at dksX9_count_3 0 rfl rfl)
theorem dX9_count_77 : decode cX9_count 77 = .ok (.iaload, 1) := dk_46 (dk_at dksX9_count_3 2 rfl rfl)
theorem dX9_count_78 : decode cX9_count 78 = .ok (.ireturn, 1) := dk_172 (dk_at dksX9_count_3 3 rfl rfl)
theorem dX9_count_79 : decode cX9_count 79 = .ok (.aload_n 0, 1) := dk_42 (dk_at dksX9_count_3 4 rfl rfl)
theorem dX9_count_80 : decode cX9_count 80 = .ok (.invokevirtual 283, 3) := dk_182 1 27 (dk_at dksX9_count_3 5 rfl rfl)
theorem dX9_count_83 : decode cX9_count 83 = .ok (.ireturn, 1) := dk_172 (dk_at dksX9_count_3 8 rfl rfl)
theorem dX9_count_84 : decode cX9_count 84 = .ok (.aload_n 0, 1) := dk_42 (dk_at dksX9_count_3 9 rfl rfl)
theorem dX9_count_85 : decode cX9_count 85 = .ok (.iconst 0, 1) := dk_3 (dk_at dksX9_count_3 10 rfl rfl)
theorem dX9_count_86 : decode cX9_count 86 = .ok (.invokevirtual 173, 3) := dk_182 0 173 (dk_at dksX9_count_3 11 rfl rfl)
theorem dX9_count_89 : decode cX9_count 89 = .ok (.invokestatic 133, 3) := dk_184 0 133 (dk_at dksX9_count_3 14 rfl rfl)
theorem dX9_count_92 : decode cX9_count 92 = .ok (.ireturn, 1) := dk_172 (dk_at dksX9_count_3 17 rfl rfl)
theorem dX9_count_93 : decode cX9_count 93 = .ok (.aload_n 0, 1) := dk_42 (dk_at dksX9_count_3 18 rfl rfl)
theorem dX9_count_94 : decode cX9_count 94 = .ok (.iconst 0, 1) := dk_3 (dk_at dksX9_count_3 19 rfl rfl)
theorem dX9_count_95 : decode cX9_count 95 = .ok (.invokevirtual 214, 3) := dk_182 0 214 (dk_at dksX9_count_3 20 rfl rfl)
theorem dX9_count_98 : decode cX9_count 98 = .ok (.ireturn, 1) := dk_172 (dk_at dksX9_count_3 23 rfl rfl)
theorem dX9_count_99 : decode cX9_count 99 = .ok (.aload_n 0, 1) := dk_42 (dk_at dksX9_count_4 0 rfl rfl)
theorem dX9_count_100 : decode cX9_count 100 = .ok (.getfield 124, 3) := dk_180 0 124 (dk_at dksX9_count_4 1 rfl rfl)
theorem dX9_count_103 : decode cX9_count 103 = .ok (.ireturn, 1) := dk_172 (dk_at dksX9_count_4 4 rfl rfl)
theorem dX9_count_104 : decode cX9_count 104 = .ok (.aload_n 0, 1) := dk_42 (dk_at dksX9_count_4 5 rfl rfl)
theorem dX9_count_105 : decode cX9_count 105 = .ok (.getfield 72, 3) := dk_180 0 72 (dk_at dksX9_count_4 6 rfl rfl)
theorem dX9_count_108 : decode cX9_count 108 = .ok (.ireturn, 1) := dk_172 (dk_at dksX9_count_4 9 rfl rfl)
theorem dX9_count_109 : decode cX9_count 109 = .ok (.ldc 61, 2) := dk_18 61 (dk_at dksX9_count_4 10 rfl rfl)
theorem dX9_count_111 : decode cX9_count 111 = .ok (.ireturn, 1) := dk_172 (dk_at dksX9_count_4 12 rfl rfl)
abbrev cX9_rowsThere : ByteArray := prog_16_method_88_code
def yX9_rowsThere : MethodName := ⟨RX9, "rowsThere", "()I"⟩
def dkwX9_rowsThere_1 : List UInt8 := [3, 96, 60, 132, 2, 1, 167, 255, 230, 27, 172]
abbrev dktX9_rowsThere_1 : List UInt8 := dkwX9_rowsThere_1 ++ []
def dkwX9_rowsThere_0 : List UInt8 := [3, 60, 3, 61, 28, 16, 8, 162, 0, 26, 27, 42, 180, 0, 16, 28, 46, 155, 0, 7, 4, 167, 0, 4]
abbrev dktX9_rowsThere_0 : List UInt8 := dkwX9_rowsThere_0 ++ dktX9_rowsThere_1
theorem dksX9_rowsThere_0 : cX9_rowsThere.data.toList.drop 0 = dktX9_rowsThere_0 := by decide +kernel
theorem dksX9_rowsThere_1 : cX9_rowsThere.data.toList.drop 24 = dktX9_rowsThere_1 := dk_seg dksX9_rowsThere_0 24 rfl rfl
theorem dX9_rowsThere_0 : decode cX9_rowsThere 0 = .ok (.iconst 0, 1) := dk_3 (dk_at dksX9_rowsThere_0 0 rfl rfl)
theorem dX9_rowsThere_1 : decode cX9_rowsThere 1 = .ok (.istore_n 1, 1) := dk_60 (dk_at dksX9_rowsThere_0 1 rfl rfl)
theorem dX9_rowsThere_2 : decode cX9_rowsThere 2 = .ok (.iconst 0, 1) := dk_3 (dk_at dksX9_rowsThere_0 2 rfl rfl)
theorem dX9_rowsThere_3 : decode cX9_rowsThere 3 = .ok (.istore_n 2, 1) := dk_61 (dk_at dksX9_rowsThere_0 3 rfl rfl)
theorem dX9_rowsThere_4 : decode cX9_rowsThere 4 = .ok (.iload_n 2, 1) := dk_28 (dk_at dksX9_rowsThere_0 4 rfl rfl)
theorem dX9_rowsThere_5 : decode cX9_rowsThere 5 = .ok (.bipush 8, 2) := dk_16 8 (dk_at dksX9_rowsThere_0 5 rfl rfl)
theorem dX9_rowsThere_7 : decode cX9_rowsThere 7 = .ok (.if_icmp .ge 26, 3) := dk_162 0 26 (dk_at dksX9_rowsThere_0 7 rfl rfl)
theorem dX9_rowsThere_10 : decode cX9_rowsThere 10 = .ok (.iload_n 1, 1) := dk_27 (dk_at dksX9_rowsThere_0 10 rfl rfl)
theorem dX9_rowsThere_11 : decode cX9_rowsThere 11 = .ok (.aload_n 0, 1) := dk_42 (dk_at dksX9_rowsThere_0 11 rfl rfl)
theorem dX9_rowsThere_12 : decode cX9_rowsThere 12 = .ok (.getfield 16, 3) := dk_180 0 16 (dk_at dksX9_rowsThere_0 12 rfl rfl)
theorem dX9_rowsThere_15 : decode cX9_rowsThere 15 = .ok (.iload_n 2, 1) := dk_28 (dk_at dksX9_rowsThere_0 15 rfl rfl)
theorem dX9_rowsThere_16 : decode cX9_rowsThere 16 = .ok (.iaload, 1) := dk_46 (dk_at dksX9_rowsThere_0 16 rfl rfl)
theorem dX9_rowsThere_17 : decode cX9_rowsThere 17 = .ok (.ifCond .lt 7, 3) := dk_155 0 7 (dk_at dksX9_rowsThere_0 17 rfl rfl)
theorem dX9_rowsThere_20 : decode cX9_rowsThere 20 = .ok (.iconst 1, 1) := dk_4 (dk_at dksX9_rowsThere_0 20 rfl rfl)
theorem dX9_rowsThere_21 : decode cX9_rowsThere 21 = .ok (.goto 4, 3) := dk_167 0 4 (dk_at dksX9_rowsThere_0 21 rfl rfl)
theorem dX9_rowsThere_24 : decode cX9_rowsThere 24 = .ok (.iconst 0, 1) := dk_3 (dk_at dksX9_rowsThere_1 0 rfl rfl)
theorem dX9_rowsThere_25 : decode cX9_rowsThere 25 = .ok (.iadd, 1) := dk_96 (dk_at dksX9_rowsThere_1 1 rfl rfl)
theorem dX9_rowsThere_26 : decode cX9_rowsThere 26 = .ok (.istore_n 1, 1) := dk_60 (dk_at dksX9_rowsThere_1 2 rfl rfl)
theorem dX9_rowsThere_27 : decode cX9_rowsThere 27 = .ok (.iinc 2 1, 3) := dk_132 2 1 (dk_at dksX9_rowsThere_1 3 rfl rfl)
theorem dX9_rowsThere_30 : decode cX9_rowsThere 30 = .ok (.goto (-26), 3) := dk_167 255 230 (dk_at dksX9_rowsThere_1 6 rfl rfl)
theorem dX9_rowsThere_33 : decode cX9_rowsThere 33 = .ok (.iload_n 1, 1) := dk_27 (dk_at dksX9_rowsThere_1 9 rfl rfl)
theorem dX9_rowsThere_34 : decode cX9_rowsThere 34 = .ok (.ireturn, 1) := dk_172 (dk_at dksX9_rowsThere_1 10 rfl rfl)
abbrev cX9_waiting : ByteArray := prog_16_method_89_code
def yX9_waiting : MethodName := ⟨RX9, "waiting", "()I"⟩
def dkwX9_waiting_1 : List UInt8 := [16, 10, 162, 0, 7, 4, 167, 0, 4, 3, 96, 60, 132, 2, 1, 167, 255, 221, 27, 172]
abbrev dktX9_waiting_1 : List UInt8 := dkwX9_waiting_1 ++ []
def dkwX9_waiting_0 : List UInt8 := [3, 60, 3, 61, 28, 42, 180, 0, 7, 3, 46, 162, 0, 31, 27, 42, 180, 0, 7, 16, 13, 28, 96, 46]
abbrev dktX9_waiting_0 : List UInt8 := dkwX9_waiting_0 ++ dktX9_waiting_1
theorem dksX9_waiting_0 : cX9_waiting.data.toList.drop 0 = dktX9_waiting_0 := by decide +kernel
theorem dksX9_waiting_1 : cX9_waiting.data.toList.drop 24 = dktX9_waiting_1 := dk_seg dksX9_waiting_0 24 rfl rfl
theorem dX9_waiting_0 : decode cX9_waiting 0 = .ok (.iconst 0, 1) := dk_3 (dk_at dksX9_waiting_0 0 rfl rfl)
theorem dX9_waiting_1 : decode cX9_waiting 1 = .ok (.istore_n 1, 1) := dk_60 (dk_at dksX9_waiting_0 1 rfl rfl)
theorem dX9_waiting_2 : decode cX9_waiting 2 = .ok (.iconst 0, 1) := dk_3 (dk_at dksX9_waiting_0 2 rfl rfl)
theorem dX9_waiting_3 : decode cX9_waiting 3 = .ok (.istore_n 2, 1) := dk_61 (dk_at dksX9_waiting_0 3 rfl rfl)
theorem dX9_waiting_4 : decode cX9_waiting 4 = .ok (.iload_n 2, 1) := dk_28 (dk_at dksX9_waiting_0 4 rfl rfl)
theorem dX9_waiting_5 : decode cX9_waiting 5 = .ok (.aload_n 0, 1) := dk_42 (dk_at dksX9_waiting_0 5 rfl rfl)
theorem dX9_waiting_6 : decode cX9_waiting 6 = .ok (.getfield 7, 3) := dk_180 0 7 (dk_at dksX9_waiting_0 6 rfl rfl)
theorem dX9_waiting_9 : decode cX9_waiting 9 = .ok (.iconst 0, 1) := dk_3 (dk_at dksX9_waiting_0 9 rfl rfl)
theorem dX9_waiting_10 : decode cX9_waiting 10 = .ok (.iaload, 1) := dk_46 (dk_at dksX9_waiting_0 10 rfl rfl)
theorem dX9_waiting_11 : decode cX9_waiting 11 = .ok (.if_icmp .ge 31, 3) := dk_162 0 31 (dk_at dksX9_waiting_0 11 rfl rfl)
theorem dX9_waiting_14 : decode cX9_waiting 14 = .ok (.iload_n 1, 1) := dk_27 (dk_at dksX9_waiting_0 14 rfl rfl)
theorem dX9_waiting_15 : decode cX9_waiting 15 = .ok (.aload_n 0, 1) := dk_42 (dk_at dksX9_waiting_0 15 rfl rfl)
theorem dX9_waiting_16 : decode cX9_waiting 16 = .ok (.getfield 7, 3) := dk_180 0 7 (dk_at dksX9_waiting_0 16 rfl rfl)
theorem dX9_waiting_19 : decode cX9_waiting 19 = .ok (.bipush 13, 2) := dk_16 13 (dk_at dksX9_waiting_0 19 rfl rfl)
theorem dX9_waiting_21 : decode cX9_waiting 21 = .ok (.iload_n 2, 1) := dk_28 (dk_at dksX9_waiting_0 21 rfl rfl)
theorem dX9_waiting_22 : decode cX9_waiting 22 = .ok (.iadd, 1) := dk_96 (dk_at dksX9_waiting_0 22 rfl rfl)
theorem dX9_waiting_23 : decode cX9_waiting 23 = .ok (.iaload, 1) := dk_46 (dk_at dksX9_waiting_0 23 rfl rfl)
theorem dX9_waiting_24 : decode cX9_waiting 24 = .ok (.bipush 10, 2) := dk_16 10 (dk_at dksX9_waiting_1 0 rfl rfl)
theorem dX9_waiting_26 : decode cX9_waiting 26 = .ok (.if_icmp .ge 7, 3) := dk_162 0 7 (dk_at dksX9_waiting_1 2 rfl rfl)
theorem dX9_waiting_29 : decode cX9_waiting 29 = .ok (.iconst 1, 1) := dk_4 (dk_at dksX9_waiting_1 5 rfl rfl)
theorem dX9_waiting_30 : decode cX9_waiting 30 = .ok (.goto 4, 3) := dk_167 0 4 (dk_at dksX9_waiting_1 6 rfl rfl)
theorem dX9_waiting_33 : decode cX9_waiting 33 = .ok (.iconst 0, 1) := dk_3 (dk_at dksX9_waiting_1 9 rfl rfl)
theorem dX9_waiting_34 : decode cX9_waiting 34 = .ok (.iadd, 1) := dk_96 (dk_at dksX9_waiting_1 10 rfl rfl)
theorem dX9_waiting_35 : decode cX9_waiting 35 = .ok (.istore_n 1, 1) := dk_60 (dk_at dksX9_waiting_1 11 rfl rfl)
theorem dX9_waiting_36 : decode cX9_waiting 36 = .ok (.iinc 2 1, 3) := dk_132 2 1 (dk_at dksX9_waiting_1 12 rfl rfl)
theorem dX9_waiting_39 : decode cX9_waiting 39 = .ok (.goto (-35), 3) := dk_167 255 221 (dk_at dksX9_waiting_1 15 rfl rfl)
theorem dX9_waiting_42 : decode cX9_waiting 42 = .ok (.iload_n 1, 1) := dk_27 (dk_at dksX9_waiting_1 18 rfl rfl)
theorem dX9_waiting_43 : decode cX9_waiting 43 = .ok (.ireturn, 1) := dk_172 (dk_at dksX9_waiting_1 19 rfl rfl)
abbrev cX9_status : ByteArray := prog_16_method_91_code
def yX9_status : MethodName := ⟨RX9, "status", "()I"⟩
theorem dX9_status_0 : decode cX9_status 0 = .ok (.aload_n 0, 1) := by decide +kernel
theorem dX9_status_1 : decode cX9_status 1 = .ok (.getfield 50, 3) := by decide +kernel
theorem dX9_status_4 : decode cX9_status 4 = .ok (.ireturn, 1) := by decide +kernel
theorem q94 : (Jvm.Cond.initialized "DishLiftModel") ∈ lw_all := lw_g (lw_at lw_m1 13 rfl) rfl
theorem q732 : (Jvm.Cond.selects "DishLiftModel" ({ cls := "java/lang/Object", name := "getClass", desc := "()Ljava/lang/Class;" } : Jvm.MethodName) ({ cls := "java/lang/Object", name := "getClass", desc := "()Ljava/lang/Class;" } : Jvm.MethodName)) ∈ lw_all := lw_g (lw_at lw_m3 171 rfl) rfl
theorem q1243 : (Jvm.Cond.instantiable "DishLiftModel" (19 : Nat)) ∈ lw_all := lw_g (lw_at lw_m5 202 rfl) rfl
theorem q1245 : (Jvm.Cond.instanceMethod ({ cls := "DishLiftModel", name := "<init>", desc := "()V" } : Jvm.MethodName)) ∈ lw_all := lw_g (lw_at lw_m5 204 rfl) rfl
theorem q1246 : (Jvm.Cond.code ({ cls := "DishLiftModel", name := "<init>", desc := "()V" } : Jvm.MethodName) prog_16_method_1_code (2 : Nat) (Option.none : Option Jvm.ClassFile.FieldType)) ∈ lw_all := lw_g (lw_at lw_m5 205 rfl) rfl
theorem q1247 : (Jvm.Cond.methodLink "DishLiftModel" (1 : Nat) ({ cls := "java/lang/Object", name := "<init>", desc := "()V" } : Jvm.MethodName)) ∈ lw_all := lw_g (lw_at lw_m5 206 rfl) rfl
theorem q1248 : (Jvm.Cond.fieldLink "DishLiftModel" (7 : Nat) "DishLiftModel" "w" "[I") ∈ lw_all := lw_g (lw_at lw_m5 207 rfl) rfl
theorem q1249 : (Jvm.Cond.fieldLink "DishLiftModel" (124 : Nat) "DishLiftModel" "undoes" "I") ∈ lw_all := lw_g (lw_at lw_m5 208 rfl) rfl
theorem q1250 : (Jvm.Cond.fieldLink "DishLiftModel" (13 : Nat) "DishLiftModel" "tape" "[I") ∈ lw_all := lw_g (lw_at lw_m5 209 rfl) rfl
theorem q1251 : (Jvm.Cond.fieldLink "DishLiftModel" (72 : Nat) "DishLiftModel" "taped" "I") ∈ lw_all := lw_g (lw_at lw_m5 210 rfl) rfl
theorem q1252 : (Jvm.Cond.fieldLink "DishLiftModel" (79 : Nat) "DishLiftModel" "faulty" "I") ∈ lw_all := lw_g (lw_at lw_m5 211 rfl) rfl
theorem q1253 : (Jvm.Cond.fieldLink "DishLiftModel" (50 : Nat) "DishLiftModel" "status" "I") ∈ lw_all := lw_g (lw_at lw_m5 212 rfl) rfl
theorem q1254 : (Jvm.Cond.fieldLink "DishLiftModel" (16 : Nat) "DishLiftModel" "many" "[I") ∈ lw_all := lw_g (lw_at lw_m5 213 rfl) rfl
theorem q1255 : (Jvm.Cond.fieldLink "DishLiftModel" (19 : Nat) "DishLiftModel" "lane" "[I") ∈ lw_all := lw_g (lw_at lw_m5 214 rfl) rfl
theorem q1256 : (Jvm.Cond.fieldLink "DishLiftModel" (22 : Nat) "DishLiftModel" "items" "[I") ∈ lw_all := lw_g (lw_at lw_m5 215 rfl) rfl
theorem q1257 : (Jvm.Cond.fieldLink "DishLiftModel" (25 : Nat) "DishLiftModel" "held" "[I") ∈ lw_all := lw_g (lw_at lw_m5 216 rfl) rfl
theorem q1258 : (Jvm.Cond.fieldLink "DishLiftModel" (76 : Nat) "DishLiftModel" "at" "I") ∈ lw_all := lw_g (lw_at lw_m5 217 rfl) rfl
theorem q1259 : (Jvm.Cond.fieldLink "DishLiftModel" (82 : Nat) "DishLiftModel" "start" "I") ∈ lw_all := lw_g (lw_at lw_m5 218 rfl) rfl
theorem q1260 : (Jvm.Cond.fieldLink "DishLiftModel" (93 : Nat) "DishLiftModel" "number" "I") ∈ lw_all := lw_g (lw_at lw_m5 219 rfl) rfl
theorem q1261 : (Jvm.Cond.fieldLink "DishLiftModel" (28 : Nat) "DishLiftModel" "order" "[I") ∈ lw_all := lw_g (lw_at lw_m5 220 rfl) rfl
theorem q1262 : (Jvm.Cond.fieldLink "DishLiftModel" (31 : Nat) "DishLiftModel" "bestOrder" "[I") ∈ lw_all := lw_g (lw_at lw_m5 221 rfl) rfl
theorem q1263 : (Jvm.Cond.fieldLink "DishLiftModel" (34 : Nat) "DishLiftModel" "value" "[I") ∈ lw_all := lw_g (lw_at lw_m5 222 rfl) rfl
theorem q1264 : (Jvm.Cond.fieldLink "DishLiftModel" (37 : Nat) "DishLiftModel" "isKept" "[Z") ∈ lw_all := lw_g (lw_at lw_m5 223 rfl) rfl
theorem q1265 : (Jvm.Cond.fieldLink "DishLiftModel" (41 : Nat) "DishLiftModel" "trace" "[I") ∈ lw_all := lw_g (lw_at lw_m5 224 rfl) rfl
theorem q1266 : (Jvm.Cond.fieldLink "DishLiftModel" (250 : Nat) "DishLiftModel" "traced" "I") ∈ lw_all := lw_g (lw_at lw_m5 225 rfl) rfl
theorem q1267 : (Jvm.Cond.laysFinal "DishLiftModel" "DishLiftModel" "w" "[I") ∈ lw_all := lw_g (lw_at lw_m5 226 rfl) rfl
theorem q1268 : (Jvm.Cond.soleField "DishLiftModel" "w") ∈ lw_all := lw_g (lw_at lw_m5 227 rfl) rfl
theorem q1269 : (Jvm.Cond.lays "DishLiftModel" "DishLiftModel" "undoes" "I") ∈ lw_all := lw_g (lw_at lw_m5 228 rfl) rfl
theorem q1270 : (Jvm.Cond.soleField "DishLiftModel" "undoes") ∈ lw_all := lw_g (lw_at lw_m5 229 rfl) rfl
theorem q1271 : (Jvm.Cond.laysFinal "DishLiftModel" "DishLiftModel" "tape" "[I") ∈ lw_all := lw_g (lw_at lw_m5 230 rfl) rfl
theorem q1272 : (Jvm.Cond.soleField "DishLiftModel" "tape") ∈ lw_all := lw_g (lw_at lw_m5 231 rfl) rfl
theorem q1273 : (Jvm.Cond.lays "DishLiftModel" "DishLiftModel" "taped" "I") ∈ lw_all := lw_g (lw_at lw_m5 232 rfl) rfl
theorem q1274 : (Jvm.Cond.soleField "DishLiftModel" "taped") ∈ lw_all := lw_g (lw_at lw_m5 233 rfl) rfl
theorem q1275 : (Jvm.Cond.lays "DishLiftModel" "DishLiftModel" "faulty" "I") ∈ lw_all := lw_g (lw_at lw_m5 234 rfl) rfl
theorem q1276 : (Jvm.Cond.soleField "DishLiftModel" "faulty") ∈ lw_all := lw_g (lw_at lw_m5 235 rfl) rfl
theorem q1277 : (Jvm.Cond.lays "DishLiftModel" "DishLiftModel" "status" "I") ∈ lw_all := lw_g (lw_at lw_m5 236 rfl) rfl
theorem q1278 : (Jvm.Cond.soleField "DishLiftModel" "status") ∈ lw_all := lw_g (lw_at lw_m5 237 rfl) rfl
theorem q1279 : (Jvm.Cond.laysFinal "DishLiftModel" "DishLiftModel" "many" "[I") ∈ lw_all := lw_g (lw_at lw_m5 238 rfl) rfl
theorem q1280 : (Jvm.Cond.soleField "DishLiftModel" "many") ∈ lw_all := lw_g (lw_at lw_m5 239 rfl) rfl
theorem q1281 : (Jvm.Cond.laysFinal "DishLiftModel" "DishLiftModel" "lane" "[I") ∈ lw_all := lw_g (lw_at lw_m6 0 rfl) rfl
theorem q1282 : (Jvm.Cond.soleField "DishLiftModel" "lane") ∈ lw_all := lw_g (lw_at lw_m6 1 rfl) rfl
theorem q1283 : (Jvm.Cond.laysFinal "DishLiftModel" "DishLiftModel" "items" "[I") ∈ lw_all := lw_g (lw_at lw_m6 2 rfl) rfl
theorem q1284 : (Jvm.Cond.soleField "DishLiftModel" "items") ∈ lw_all := lw_g (lw_at lw_m6 3 rfl) rfl
theorem q1285 : (Jvm.Cond.laysFinal "DishLiftModel" "DishLiftModel" "held" "[I") ∈ lw_all := lw_g (lw_at lw_m6 4 rfl) rfl
theorem q1286 : (Jvm.Cond.soleField "DishLiftModel" "held") ∈ lw_all := lw_g (lw_at lw_m6 5 rfl) rfl
theorem q1287 : (Jvm.Cond.lays "DishLiftModel" "DishLiftModel" "at" "I") ∈ lw_all := lw_g (lw_at lw_m6 6 rfl) rfl
theorem q1288 : (Jvm.Cond.soleField "DishLiftModel" "at") ∈ lw_all := lw_g (lw_at lw_m6 7 rfl) rfl
theorem q1289 : (Jvm.Cond.lays "DishLiftModel" "DishLiftModel" "start" "I") ∈ lw_all := lw_g (lw_at lw_m6 8 rfl) rfl
theorem q1290 : (Jvm.Cond.soleField "DishLiftModel" "start") ∈ lw_all := lw_g (lw_at lw_m6 9 rfl) rfl
theorem q1291 : (Jvm.Cond.lays "DishLiftModel" "DishLiftModel" "number" "I") ∈ lw_all := lw_g (lw_at lw_m6 10 rfl) rfl
theorem q1292 : (Jvm.Cond.soleField "DishLiftModel" "number") ∈ lw_all := lw_g (lw_at lw_m6 11 rfl) rfl
theorem q1293 : (Jvm.Cond.laysFinal "DishLiftModel" "DishLiftModel" "order" "[I") ∈ lw_all := lw_g (lw_at lw_m6 12 rfl) rfl
theorem q1294 : (Jvm.Cond.soleField "DishLiftModel" "order") ∈ lw_all := lw_g (lw_at lw_m6 13 rfl) rfl
theorem q1295 : (Jvm.Cond.laysFinal "DishLiftModel" "DishLiftModel" "bestOrder" "[I") ∈ lw_all := lw_g (lw_at lw_m6 14 rfl) rfl
theorem q1296 : (Jvm.Cond.soleField "DishLiftModel" "bestOrder") ∈ lw_all := lw_g (lw_at lw_m6 15 rfl) rfl
theorem q1297 : (Jvm.Cond.laysFinal "DishLiftModel" "DishLiftModel" "value" "[I") ∈ lw_all := lw_g (lw_at lw_m6 16 rfl) rfl
theorem q1298 : (Jvm.Cond.soleField "DishLiftModel" "value") ∈ lw_all := lw_g (lw_at lw_m6 17 rfl) rfl
theorem q1299 : (Jvm.Cond.laysFinal "DishLiftModel" "DishLiftModel" "isKept" "[Z") ∈ lw_all := lw_g (lw_at lw_m6 18 rfl) rfl
theorem q1300 : (Jvm.Cond.soleField "DishLiftModel" "isKept") ∈ lw_all := lw_g (lw_at lw_m6 19 rfl) rfl
theorem q1301 : (Jvm.Cond.laysFinal "DishLiftModel" "DishLiftModel" "trace" "[I") ∈ lw_all := lw_g (lw_at lw_m6 20 rfl) rfl
theorem q1302 : (Jvm.Cond.soleField "DishLiftModel" "trace") ∈ lw_all := lw_g (lw_at lw_m6 21 rfl) rfl
theorem q1303 : (Jvm.Cond.lays "DishLiftModel" "DishLiftModel" "traced" "I") ∈ lw_all := lw_g (lw_at lw_m6 22 rfl) rfl
theorem q1304 : (Jvm.Cond.soleField "DishLiftModel" "traced") ∈ lw_all := lw_g (lw_at lw_m6 23 rfl) rfl
theorem q1305 : (Jvm.Cond.superclass "DishLiftModel" "java/lang/Object") ∈ lw_all := lw_g (lw_at lw_m6 24 rfl) rfl
theorem q1308 : (Jvm.Cond.instanceMethod ({ cls := "DishLiftModel", name := "row", desc := "(III)I" } : Jvm.MethodName)) ∈ lw_all := lw_g (lw_at lw_m6 27 rfl) rfl
theorem q1309 : (Jvm.Cond.selects "DishLiftModel" ({ cls := "DishLiftModel", name := "row", desc := "(III)I" } : Jvm.MethodName) ({ cls := "DishLiftModel", name := "row", desc := "(III)I" } : Jvm.MethodName)) ∈ lw_all := lw_g (lw_at lw_m6 28 rfl) rfl
theorem q1310 : (Jvm.Cond.code ({ cls := "DishLiftModel", name := "row", desc := "(III)I" } : Jvm.MethodName) prog_16_method_13_code (5 : Nat) (Option.some Jvm.ClassFile.FieldType.int)) ∈ lw_all := lw_g (lw_at lw_m6 29 rfl) rfl
theorem q1311 : (Jvm.Cond.methodLink "DishLiftModel" (55 : Nat) ({ cls := "DishLiftModel", name := "isRow", desc := "(I)Z" } : Jvm.MethodName)) ∈ lw_all := lw_g (lw_at lw_m6 30 rfl) rfl
theorem q1312 : (Jvm.Cond.static ({ cls := "DishLiftModel", name := "isRow", desc := "(I)Z" } : Jvm.MethodName)) ∈ lw_all := lw_g (lw_at lw_m6 31 rfl) rfl
theorem q1313 : (Jvm.Cond.code ({ cls := "DishLiftModel", name := "isRow", desc := "(I)Z" } : Jvm.MethodName) prog_16_method_10_code (1 : Nat) (Option.some Jvm.ClassFile.FieldType.boolean)) ∈ lw_all := lw_g (lw_at lw_m6 32 rfl) rfl
theorem q1314 : (Jvm.Cond.constantLong "DishLiftModel" (48 : Nat) (7 : Int64)) ∈ lw_all := lw_g (lw_at lw_m6 33 rfl) rfl
theorem q1315 : (Jvm.Cond.methodLink "DishLiftModel" (44 : Nat) ({ cls := "DishLiftModel", name := "in", desc := "(JJJ)Z" } : Jvm.MethodName)) ∈ lw_all := lw_g (lw_at lw_m6 34 rfl) rfl
theorem q1316 : (Jvm.Cond.static ({ cls := "DishLiftModel", name := "in", desc := "(JJJ)Z" } : Jvm.MethodName)) ∈ lw_all := lw_g (lw_at lw_m6 35 rfl) rfl
theorem q1317 : (Jvm.Cond.code ({ cls := "DishLiftModel", name := "in", desc := "(JJJ)Z" } : Jvm.MethodName) prog_16_method_3_code (6 : Nat) (Option.some Jvm.ClassFile.FieldType.boolean)) ∈ lw_all := lw_g (lw_at lw_m6 36 rfl) rfl
theorem q1318 : (Jvm.Cond.constantLong "DishLiftModel" (59 : Nat) (2 : Int64)) ∈ lw_all := lw_g (lw_at lw_m6 37 rfl) rfl
theorem q1319 : (Jvm.Cond.constant "DishLiftModel" (61 : Nat) (-1000001 : Int32)) ∈ lw_all := lw_g (lw_at lw_m6 38 rfl) rfl
theorem q1320 : (Jvm.Cond.methodLink "DishLiftModel" (62 : Nat) ({ cls := "DishLiftModel", name := "finds", desc := "(I)I" } : Jvm.MethodName)) ∈ lw_all := lw_g (lw_at lw_m6 39 rfl) rfl
theorem q1321 : (Jvm.Cond.privateMethod ({ cls := "DishLiftModel", name := "finds", desc := "(I)I" } : Jvm.MethodName)) ∈ lw_tbl := lw_at lw_m6 40 rfl
theorem q1322 : (Jvm.Cond.instanceMethod ({ cls := "DishLiftModel", name := "finds", desc := "(I)I" } : Jvm.MethodName)) ∈ lw_all := lw_g (lw_at lw_m6 41 rfl) rfl
theorem q1323 : (Jvm.Cond.code ({ cls := "DishLiftModel", name := "finds", desc := "(I)I" } : Jvm.MethodName) prog_16_method_11_code (2 : Nat) (Option.some Jvm.ClassFile.FieldType.int)) ∈ lw_all := lw_g (lw_at lw_m6 42 rfl) rfl
theorem q1324 : (Jvm.Cond.constant "DishLiftModel" (54 : Nat) (-1000010 : Int32)) ∈ lw_all := lw_g (lw_at lw_m6 43 rfl) rfl
theorem q1326 : (Jvm.Cond.instanceMethod ({ cls := "DishLiftModel", name := "set", desc := "(III)I" } : Jvm.MethodName)) ∈ lw_all := lw_g (lw_at lw_m6 45 rfl) rfl
theorem q1327 : (Jvm.Cond.selects "DishLiftModel" ({ cls := "DishLiftModel", name := "set", desc := "(III)I" } : Jvm.MethodName) ({ cls := "DishLiftModel", name := "set", desc := "(III)I" } : Jvm.MethodName)) ∈ lw_all := lw_g (lw_at lw_m6 46 rfl) rfl
theorem q1328 : (Jvm.Cond.code ({ cls := "DishLiftModel", name := "set", desc := "(III)I" } : Jvm.MethodName) prog_16_method_14_code (5 : Nat) (Option.some Jvm.ClassFile.FieldType.int)) ∈ lw_all := lw_g (lw_at lw_m6 47 rfl) rfl
theorem q1329 : (Jvm.Cond.methodLink "DishLiftModel" (66 : Nat) ({ cls := "DishLiftModel", name := "against", desc := "(III)I" } : Jvm.MethodName)) ∈ lw_all := lw_g (lw_at lw_m6 48 rfl) rfl
theorem q1330 : (Jvm.Cond.privateMethod ({ cls := "DishLiftModel", name := "against", desc := "(III)I" } : Jvm.MethodName)) ∈ lw_tbl := lw_at lw_m6 49 rfl
theorem q1331 : (Jvm.Cond.instanceMethod ({ cls := "DishLiftModel", name := "against", desc := "(III)I" } : Jvm.MethodName)) ∈ lw_all := lw_g (lw_at lw_m6 50 rfl) rfl
theorem q1332 : (Jvm.Cond.code ({ cls := "DishLiftModel", name := "against", desc := "(III)I" } : Jvm.MethodName) prog_16_method_12_code (4 : Nat) (Option.some Jvm.ClassFile.FieldType.int)) ∈ lw_all := lw_g (lw_at lw_m6 51 rfl) rfl
theorem q1334 : (Jvm.Cond.instanceMethod ({ cls := "DishLiftModel", name := "copy", desc := "(IIIII)I" } : Jvm.MethodName)) ∈ lw_all := lw_g (lw_at lw_m6 53 rfl) rfl
theorem q1335 : (Jvm.Cond.selects "DishLiftModel" ({ cls := "DishLiftModel", name := "copy", desc := "(IIIII)I" } : Jvm.MethodName) ({ cls := "DishLiftModel", name := "copy", desc := "(IIIII)I" } : Jvm.MethodName)) ∈ lw_all := lw_g (lw_at lw_m6 54 rfl) rfl
theorem q1336 : (Jvm.Cond.code ({ cls := "DishLiftModel", name := "copy", desc := "(IIIII)I" } : Jvm.MethodName) prog_16_method_15_code (7 : Nat) (Option.some Jvm.ClassFile.FieldType.int)) ∈ lw_all := lw_g (lw_at lw_m6 55 rfl) rfl
theorem q1338 : (Jvm.Cond.instanceMethod ({ cls := "DishLiftModel", name := "drop", desc := "(I)I" } : Jvm.MethodName)) ∈ lw_all := lw_g (lw_at lw_m6 57 rfl) rfl
theorem q1339 : (Jvm.Cond.selects "DishLiftModel" ({ cls := "DishLiftModel", name := "drop", desc := "(I)I" } : Jvm.MethodName) ({ cls := "DishLiftModel", name := "drop", desc := "(I)I" } : Jvm.MethodName)) ∈ lw_all := lw_g (lw_at lw_m6 58 rfl) rfl
theorem q1340 : (Jvm.Cond.code ({ cls := "DishLiftModel", name := "drop", desc := "(I)I" } : Jvm.MethodName) prog_16_method_16_code (3 : Nat) (Option.some Jvm.ClassFile.FieldType.int)) ∈ lw_all := lw_g (lw_at lw_m6 59 rfl) rfl
theorem q1342 : (Jvm.Cond.instanceMethod ({ cls := "DishLiftModel", name := "feed", desc := "(I)I" } : Jvm.MethodName)) ∈ lw_all := lw_g (lw_at lw_m6 61 rfl) rfl
theorem q1343 : (Jvm.Cond.selects "DishLiftModel" ({ cls := "DishLiftModel", name := "feed", desc := "(I)I" } : Jvm.MethodName) ({ cls := "DishLiftModel", name := "feed", desc := "(I)I" } : Jvm.MethodName)) ∈ lw_all := lw_g (lw_at lw_m6 62 rfl) rfl
theorem q1344 : (Jvm.Cond.code ({ cls := "DishLiftModel", name := "feed", desc := "(I)I" } : Jvm.MethodName) prog_16_method_17_code (2 : Nat) (Option.some Jvm.ClassFile.FieldType.int)) ∈ lw_all := lw_g (lw_at lw_m6 63 rfl) rfl
theorem q1345 : (Jvm.Cond.constantLong "DishLiftModel" (70 : Nat) (255 : Int64)) ∈ lw_all := lw_g (lw_at lw_m6 64 rfl) rfl
theorem q1346 : (Jvm.Cond.constant "DishLiftModel" (75 : Nat) (-1000003 : Int32)) ∈ lw_all := lw_g (lw_at lw_m6 65 rfl) rfl
theorem q1348 : (Jvm.Cond.instanceMethod ({ cls := "DishLiftModel", name := "house", desc := "()I" } : Jvm.MethodName)) ∈ lw_all := lw_g (lw_at lw_m6 67 rfl) rfl
theorem q1349 : (Jvm.Cond.selects "DishLiftModel" ({ cls := "DishLiftModel", name := "house", desc := "()I" } : Jvm.MethodName) ({ cls := "DishLiftModel", name := "house", desc := "()I" } : Jvm.MethodName)) ∈ lw_all := lw_g (lw_at lw_m6 68 rfl) rfl
theorem q1350 : (Jvm.Cond.code ({ cls := "DishLiftModel", name := "house", desc := "()I" } : Jvm.MethodName) prog_16_method_26_code (2 : Nat) (Option.some Jvm.ClassFile.FieldType.int)) ∈ lw_all := lw_g (lw_at lw_m6 69 rfl) rfl
theorem q1351 : (Jvm.Cond.methodLink "DishLiftModel" (116 : Nat) ({ cls := "DishLiftModel", name := "takesAll", desc := "()Z" } : Jvm.MethodName)) ∈ lw_all := lw_g (lw_at lw_m6 70 rfl) rfl
theorem q1352 : (Jvm.Cond.privateMethod ({ cls := "DishLiftModel", name := "takesAll", desc := "()Z" } : Jvm.MethodName)) ∈ lw_tbl := lw_at lw_m6 71 rfl
theorem q1353 : (Jvm.Cond.instanceMethod ({ cls := "DishLiftModel", name := "takesAll", desc := "()Z" } : Jvm.MethodName)) ∈ lw_all := lw_g (lw_at lw_m6 72 rfl) rfl
theorem q1354 : (Jvm.Cond.code ({ cls := "DishLiftModel", name := "takesAll", desc := "()Z" } : Jvm.MethodName) prog_16_method_25_code (1 : Nat) (Option.some Jvm.ClassFile.FieldType.boolean)) ∈ lw_all := lw_g (lw_at lw_m6 73 rfl) rfl
theorem q1355 : (Jvm.Cond.methodLink "DishLiftModel" (109 : Nat) ({ cls := "DishLiftModel", name := "takesLaw", desc := "()Z" } : Jvm.MethodName)) ∈ lw_all := lw_g (lw_at lw_m6 74 rfl) rfl
theorem q1356 : (Jvm.Cond.privateMethod ({ cls := "DishLiftModel", name := "takesLaw", desc := "()Z" } : Jvm.MethodName)) ∈ lw_tbl := lw_at lw_m6 75 rfl
theorem q1357 : (Jvm.Cond.instanceMethod ({ cls := "DishLiftModel", name := "takesLaw", desc := "()Z" } : Jvm.MethodName)) ∈ lw_all := lw_g (lw_at lw_m6 76 rfl) rfl
theorem q1358 : (Jvm.Cond.code ({ cls := "DishLiftModel", name := "takesLaw", desc := "()Z" } : Jvm.MethodName) prog_16_method_23_code (1 : Nat) (Option.some Jvm.ClassFile.FieldType.boolean)) ∈ lw_all := lw_g (lw_at lw_m6 77 rfl) rfl
theorem q1359 : (Jvm.Cond.methodLink "DishLiftModel" (100 : Nat) ({ cls := "DishLiftModel", name := "takes", desc := "(I)Z" } : Jvm.MethodName)) ∈ lw_all := lw_g (lw_at lw_m6 78 rfl) rfl
theorem q1360 : (Jvm.Cond.privateMethod ({ cls := "DishLiftModel", name := "takes", desc := "(I)Z" } : Jvm.MethodName)) ∈ lw_tbl := lw_at lw_m6 79 rfl
theorem q1361 : (Jvm.Cond.instanceMethod ({ cls := "DishLiftModel", name := "takes", desc := "(I)Z" } : Jvm.MethodName)) ∈ lw_all := lw_g (lw_at lw_m6 80 rfl) rfl
theorem q1362 : (Jvm.Cond.code ({ cls := "DishLiftModel", name := "takes", desc := "(I)Z" } : Jvm.MethodName) prog_16_method_20_code (2 : Nat) (Option.some Jvm.ClassFile.FieldType.boolean)) ∈ lw_all := lw_g (lw_at lw_m6 81 rfl) rfl
theorem q1363 : (Jvm.Cond.methodLink "DishLiftModel" (85 : Nat) ({ cls := "DishLiftModel", name := "here", desc := "()I" } : Jvm.MethodName)) ∈ lw_all := lw_g (lw_at lw_m6 82 rfl) rfl
theorem q1364 : (Jvm.Cond.privateMethod ({ cls := "DishLiftModel", name := "here", desc := "()I" } : Jvm.MethodName)) ∈ lw_tbl := lw_at lw_m6 83 rfl
theorem q1365 : (Jvm.Cond.instanceMethod ({ cls := "DishLiftModel", name := "here", desc := "()I" } : Jvm.MethodName)) ∈ lw_all := lw_g (lw_at lw_m6 84 rfl) rfl
theorem q1366 : (Jvm.Cond.code ({ cls := "DishLiftModel", name := "here", desc := "()I" } : Jvm.MethodName) prog_16_method_18_code (1 : Nat) (Option.some Jvm.ClassFile.FieldType.int)) ∈ lw_all := lw_g (lw_at lw_m6 85 rfl) rfl
theorem q1367 : (Jvm.Cond.methodLink "DishLiftModel" (89 : Nat) ({ cls := "DishLiftModel", name := "fails", desc := "(II)Z" } : Jvm.MethodName)) ∈ lw_all := lw_g (lw_at lw_m6 86 rfl) rfl
theorem q1368 : (Jvm.Cond.privateMethod ({ cls := "DishLiftModel", name := "fails", desc := "(II)Z" } : Jvm.MethodName)) ∈ lw_tbl := lw_at lw_m6 87 rfl
theorem q1369 : (Jvm.Cond.instanceMethod ({ cls := "DishLiftModel", name := "fails", desc := "(II)Z" } : Jvm.MethodName)) ∈ lw_all := lw_g (lw_at lw_m6 88 rfl) rfl
theorem q1370 : (Jvm.Cond.code ({ cls := "DishLiftModel", name := "fails", desc := "(II)Z" } : Jvm.MethodName) prog_16_method_19_code (3 : Nat) (Option.some Jvm.ClassFile.FieldType.boolean)) ∈ lw_all := lw_g (lw_at lw_m6 89 rfl) rfl
theorem q1371 : (Jvm.Cond.methodLink "DishLiftModel" (103 : Nat) ({ cls := "DishLiftModel", name := "takesNumber", desc := "(II)Z" } : Jvm.MethodName)) ∈ lw_all := lw_g (lw_at lw_m6 90 rfl) rfl
theorem q1372 : (Jvm.Cond.privateMethod ({ cls := "DishLiftModel", name := "takesNumber", desc := "(II)Z" } : Jvm.MethodName)) ∈ lw_tbl := lw_at lw_m6 91 rfl
theorem q1373 : (Jvm.Cond.instanceMethod ({ cls := "DishLiftModel", name := "takesNumber", desc := "(II)Z" } : Jvm.MethodName)) ∈ lw_all := lw_g (lw_at lw_m6 92 rfl) rfl
theorem q1374 : (Jvm.Cond.code ({ cls := "DishLiftModel", name := "takesNumber", desc := "(II)Z" } : Jvm.MethodName) prog_16_method_21_code (4 : Nat) (Option.some Jvm.ClassFile.FieldType.boolean)) ∈ lw_all := lw_g (lw_at lw_m6 93 rfl) rfl
theorem q1375 : (Jvm.Cond.constantLong "DishLiftModel" (96 : Nat) (48 : Int64)) ∈ lw_all := lw_g (lw_at lw_m6 94 rfl) rfl
theorem q1376 : (Jvm.Cond.constantLong "DishLiftModel" (98 : Nat) (57 : Int64)) ∈ lw_all := lw_g (lw_at lw_m6 95 rfl) rfl
theorem q1377 : (Jvm.Cond.methodLink "DishLiftModel" (113 : Nat) ({ cls := "DishLiftModel", name := "takesDish", desc := "()Z" } : Jvm.MethodName)) ∈ lw_all := lw_g (lw_at lw_m6 96 rfl) rfl
theorem q1378 : (Jvm.Cond.privateMethod ({ cls := "DishLiftModel", name := "takesDish", desc := "()Z" } : Jvm.MethodName)) ∈ lw_tbl := lw_at lw_m6 97 rfl
theorem q1379 : (Jvm.Cond.instanceMethod ({ cls := "DishLiftModel", name := "takesDish", desc := "()Z" } : Jvm.MethodName)) ∈ lw_all := lw_g (lw_at lw_m6 98 rfl) rfl
theorem q1380 : (Jvm.Cond.code ({ cls := "DishLiftModel", name := "takesDish", desc := "()Z" } : Jvm.MethodName) prog_16_method_24_code (3 : Nat) (Option.some Jvm.ClassFile.FieldType.boolean)) ∈ lw_all := lw_g (lw_at lw_m6 99 rfl) rfl
theorem q1381 : (Jvm.Cond.methodLink "DishLiftModel" (106 : Nat) ({ cls := "DishLiftModel", name := "kindOf", desc := "(I)I" } : Jvm.MethodName)) ∈ lw_all := lw_g (lw_at lw_m6 100 rfl) rfl
theorem q1382 : (Jvm.Cond.static ({ cls := "DishLiftModel", name := "kindOf", desc := "(I)I" } : Jvm.MethodName)) ∈ lw_all := lw_g (lw_at lw_m6 101 rfl) rfl
theorem q1383 : (Jvm.Cond.code ({ cls := "DishLiftModel", name := "kindOf", desc := "(I)I" } : Jvm.MethodName) prog_16_method_22_code (1 : Nat) (Option.some Jvm.ClassFile.FieldType.int)) ∈ lw_all := lw_g (lw_at lw_m6 102 rfl) rfl
theorem q1384 : (Jvm.Cond.constant "DishLiftModel" (119 : Nat) (-1000100 : Int32)) ∈ lw_all := lw_g (lw_at lw_m6 103 rfl) rfl
theorem q1385 : (Jvm.Cond.methodLink "DishLiftModel" (120 : Nat) ({ cls := "DishLiftModel", name := "copyOf", desc := "(II)V" } : Jvm.MethodName)) ∈ lw_all := lw_g (lw_at lw_m6 104 rfl) rfl
theorem q1386 : (Jvm.Cond.privateMethod ({ cls := "DishLiftModel", name := "copyOf", desc := "(II)V" } : Jvm.MethodName)) ∈ lw_tbl := lw_at lw_m6 105 rfl
theorem q1387 : (Jvm.Cond.instanceMethod ({ cls := "DishLiftModel", name := "copyOf", desc := "(II)V" } : Jvm.MethodName)) ∈ lw_all := lw_g (lw_at lw_m6 106 rfl) rfl
theorem q1388 : (Jvm.Cond.code ({ cls := "DishLiftModel", name := "copyOf", desc := "(II)V" } : Jvm.MethodName) prog_16_method_6_code (4 : Nat) (Option.none : Option Jvm.ClassFile.FieldType)) ∈ lw_all := lw_g (lw_at lw_m6 107 rfl) rfl
theorem q1390 : (Jvm.Cond.instanceMethod ({ cls := "DishLiftModel", name := "fault", desc := "()I" } : Jvm.MethodName)) ∈ lw_all := lw_g (lw_at lw_m6 109 rfl) rfl
theorem q1391 : (Jvm.Cond.selects "DishLiftModel" ({ cls := "DishLiftModel", name := "fault", desc := "()I" } : Jvm.MethodName) ({ cls := "DishLiftModel", name := "fault", desc := "()I" } : Jvm.MethodName)) ∈ lw_all := lw_g (lw_at lw_m6 110 rfl) rfl
theorem q1392 : (Jvm.Cond.code ({ cls := "DishLiftModel", name := "fault", desc := "()I" } : Jvm.MethodName) prog_16_method_27_code (1 : Nat) (Option.some Jvm.ClassFile.FieldType.int)) ∈ lw_all := lw_g (lw_at lw_m6 111 rfl) rfl
theorem q1394 : (Jvm.Cond.instanceMethod ({ cls := "DishLiftModel", name := "undo", desc := "()I" } : Jvm.MethodName)) ∈ lw_all := lw_g (lw_at lw_m6 113 rfl) rfl
theorem q1395 : (Jvm.Cond.selects "DishLiftModel" ({ cls := "DishLiftModel", name := "undo", desc := "()I" } : Jvm.MethodName) ({ cls := "DishLiftModel", name := "undo", desc := "()I" } : Jvm.MethodName)) ∈ lw_all := lw_g (lw_at lw_m6 114 rfl) rfl
theorem q1396 : (Jvm.Cond.code ({ cls := "DishLiftModel", name := "undo", desc := "()I" } : Jvm.MethodName) prog_16_method_42_code (1 : Nat) (Option.some Jvm.ClassFile.FieldType.int)) ∈ lw_all := lw_g (lw_at lw_m6 115 rfl) rfl
theorem q1397 : (Jvm.Cond.constant "DishLiftModel" (161 : Nat) (-1000002 : Int32)) ∈ lw_all := lw_g (lw_at lw_m6 116 rfl) rfl
theorem q1399 : (Jvm.Cond.instanceMethod ({ cls := "DishLiftModel", name := "minutes", desc := "(I)I" } : Jvm.MethodName)) ∈ lw_all := lw_g (lw_at lw_m6 118 rfl) rfl
theorem q1400 : (Jvm.Cond.selects "DishLiftModel" ({ cls := "DishLiftModel", name := "minutes", desc := "(I)I" } : Jvm.MethodName) ({ cls := "DishLiftModel", name := "minutes", desc := "(I)I" } : Jvm.MethodName)) ∈ lw_all := lw_g (lw_at lw_m6 119 rfl) rfl
theorem q1401 : (Jvm.Cond.code ({ cls := "DishLiftModel", name := "minutes", desc := "(I)I" } : Jvm.MethodName) prog_16_method_43_code (3 : Nat) (Option.some Jvm.ClassFile.FieldType.int)) ∈ lw_all := lw_g (lw_at lw_m6 120 rfl) rfl
theorem q1402 : (Jvm.Cond.methodLink "DishLiftModel" (162 : Nat) ({ cls := "DishLiftModel", name := "isHouse", desc := "()Z" } : Jvm.MethodName)) ∈ lw_all := lw_g (lw_at lw_m6 121 rfl) rfl
theorem q1403 : (Jvm.Cond.privateMethod ({ cls := "DishLiftModel", name := "isHouse", desc := "()Z" } : Jvm.MethodName)) ∈ lw_tbl := lw_at lw_m6 122 rfl
theorem q1404 : (Jvm.Cond.instanceMethod ({ cls := "DishLiftModel", name := "isHouse", desc := "()Z" } : Jvm.MethodName)) ∈ lw_all := lw_g (lw_at lw_m6 123 rfl) rfl
theorem q1405 : (Jvm.Cond.code ({ cls := "DishLiftModel", name := "isHouse", desc := "()Z" } : Jvm.MethodName) prog_16_method_9_code (1 : Nat) (Option.some Jvm.ClassFile.FieldType.boolean)) ∈ lw_all := lw_g (lw_at lw_m6 124 rfl) rfl
theorem q1406 : (Jvm.Cond.constantLong "DishLiftModel" (165 : Nat) (24 : Int64)) ∈ lw_all := lw_g (lw_at lw_m6 125 rfl) rfl
theorem q1407 : (Jvm.Cond.methodLink "DishLiftModel" (167 : Nat) ({ cls := "DishLiftModel", name := "minds", desc := "()V" } : Jvm.MethodName)) ∈ lw_all := lw_g (lw_at lw_m6 126 rfl) rfl
theorem q1408 : (Jvm.Cond.privateMethod ({ cls := "DishLiftModel", name := "minds", desc := "()V" } : Jvm.MethodName)) ∈ lw_tbl := lw_at lw_m6 127 rfl
theorem q1409 : (Jvm.Cond.instanceMethod ({ cls := "DishLiftModel", name := "minds", desc := "()V" } : Jvm.MethodName)) ∈ lw_all := lw_g (lw_at lw_m6 128 rfl) rfl
theorem q1410 : (Jvm.Cond.code ({ cls := "DishLiftModel", name := "minds", desc := "()V" } : Jvm.MethodName) prog_16_method_41_code (2 : Nat) (Option.none : Option Jvm.ClassFile.FieldType)) ∈ lw_all := lw_g (lw_at lw_m6 129 rfl) rfl
theorem q1411 : (Jvm.Cond.methodLink "DishLiftModel" (170 : Nat) ({ cls := "DishLiftModel", name := "passes", desc := "(I)V" } : Jvm.MethodName)) ∈ lw_all := lw_g (lw_at lw_m6 130 rfl) rfl
theorem q1412 : (Jvm.Cond.privateMethod ({ cls := "DishLiftModel", name := "passes", desc := "(I)V" } : Jvm.MethodName)) ∈ lw_tbl := lw_at lw_m6 131 rfl
theorem q1413 : (Jvm.Cond.instanceMethod ({ cls := "DishLiftModel", name := "passes", desc := "(I)V" } : Jvm.MethodName)) ∈ lw_all := lw_g (lw_at lw_m6 132 rfl) rfl
theorem q1414 : (Jvm.Cond.code ({ cls := "DishLiftModel", name := "passes", desc := "(I)V" } : Jvm.MethodName) prog_16_method_36_code (2 : Nat) (Option.none : Option Jvm.ClassFile.FieldType)) ∈ lw_all := lw_g (lw_at lw_m6 133 rfl) rfl
theorem q1415 : (Jvm.Cond.methodLink "DishLiftModel" (147 : Nat) ({ cls := "DishLiftModel", name := "serves", desc := "(I)V" } : Jvm.MethodName)) ∈ lw_all := lw_g (lw_at lw_m6 134 rfl) rfl
theorem q1416 : (Jvm.Cond.privateMethod ({ cls := "DishLiftModel", name := "serves", desc := "(I)V" } : Jvm.MethodName)) ∈ lw_tbl := lw_at lw_m6 135 rfl
theorem q1417 : (Jvm.Cond.instanceMethod ({ cls := "DishLiftModel", name := "serves", desc := "(I)V" } : Jvm.MethodName)) ∈ lw_all := lw_g (lw_at lw_m6 136 rfl) rfl
theorem q1418 : (Jvm.Cond.code ({ cls := "DishLiftModel", name := "serves", desc := "(I)V" } : Jvm.MethodName) prog_16_method_31_code (6 : Nat) (Option.none : Option Jvm.ClassFile.FieldType)) ∈ lw_all := lw_g (lw_at lw_m6 137 rfl) rfl
theorem q1419 : (Jvm.Cond.methodLink "DishLiftModel" (130 : Nat) ({ cls := "DishLiftModel", name := "insideOf", desc := "(I)I" } : Jvm.MethodName)) ∈ lw_all := lw_g (lw_at lw_m6 138 rfl) rfl
theorem q1420 : (Jvm.Cond.privateMethod ({ cls := "DishLiftModel", name := "insideOf", desc := "(I)I" } : Jvm.MethodName)) ∈ lw_tbl := lw_at lw_m6 139 rfl
theorem q1421 : (Jvm.Cond.instanceMethod ({ cls := "DishLiftModel", name := "insideOf", desc := "(I)I" } : Jvm.MethodName)) ∈ lw_all := lw_g (lw_at lw_m6 140 rfl) rfl
theorem q1422 : (Jvm.Cond.code ({ cls := "DishLiftModel", name := "insideOf", desc := "(I)I" } : Jvm.MethodName) prog_16_method_28_code (4 : Nat) (Option.some Jvm.ClassFile.FieldType.int)) ∈ lw_all := lw_g (lw_at lw_m6 141 rfl) rfl
theorem q1423 : (Jvm.Cond.methodLink "DishLiftModel" (133 : Nat) ({ cls := "DishLiftModel", name := "ones", desc := "(I)I" } : Jvm.MethodName)) ∈ lw_all := lw_g (lw_at lw_m6 142 rfl) rfl
theorem q1424 : (Jvm.Cond.static ({ cls := "DishLiftModel", name := "ones", desc := "(I)I" } : Jvm.MethodName)) ∈ lw_all := lw_g (lw_at lw_m6 143 rfl) rfl
theorem q1425 : (Jvm.Cond.code ({ cls := "DishLiftModel", name := "ones", desc := "(I)I" } : Jvm.MethodName) prog_16_method_5_code (3 : Nat) (Option.some Jvm.ClassFile.FieldType.int)) ∈ lw_all := lw_g (lw_at lw_m6 144 rfl) rfl
theorem q1426 : (Jvm.Cond.methodLink "DishLiftModel" (136 : Nat) ({ cls := "DishLiftModel", name := "weightOf", desc := "(II)I" } : Jvm.MethodName)) ∈ lw_all := lw_g (lw_at lw_m6 145 rfl) rfl
theorem q1427 : (Jvm.Cond.privateMethod ({ cls := "DishLiftModel", name := "weightOf", desc := "(II)I" } : Jvm.MethodName)) ∈ lw_tbl := lw_at lw_m6 146 rfl
theorem q1428 : (Jvm.Cond.instanceMethod ({ cls := "DishLiftModel", name := "weightOf", desc := "(II)I" } : Jvm.MethodName)) ∈ lw_all := lw_g (lw_at lw_m6 147 rfl) rfl
theorem q1429 : (Jvm.Cond.code ({ cls := "DishLiftModel", name := "weightOf", desc := "(II)I" } : Jvm.MethodName) prog_16_method_30_code (5 : Nat) (Option.some Jvm.ClassFile.FieldType.int)) ∈ lw_all := lw_g (lw_at lw_m6 148 rfl) rfl
theorem q1430 : (Jvm.Cond.methodLink "DishLiftModel" (127 : Nat) ({ cls := "DishLiftModel", name := "has", desc := "(II)Z" } : Jvm.MethodName)) ∈ lw_all := lw_g (lw_at lw_m6 149 rfl) rfl
theorem q1431 : (Jvm.Cond.static ({ cls := "DishLiftModel", name := "has", desc := "(II)Z" } : Jvm.MethodName)) ∈ lw_all := lw_g (lw_at lw_m6 150 rfl) rfl
theorem q1432 : (Jvm.Cond.code ({ cls := "DishLiftModel", name := "has", desc := "(II)Z" } : Jvm.MethodName) prog_16_method_4_code (2 : Nat) (Option.some Jvm.ClassFile.FieldType.boolean)) ∈ lw_all := lw_g (lw_at lw_m6 151 rfl) rfl
theorem q1433 : (Jvm.Cond.methodLink "DishLiftModel" (151 : Nat) ({ cls := "DishLiftModel", name := "goes", desc := "(I)Z" } : Jvm.MethodName)) ∈ lw_all := lw_g (lw_at lw_m6 152 rfl) rfl
theorem q1434 : (Jvm.Cond.privateMethod ({ cls := "DishLiftModel", name := "goes", desc := "(I)Z" } : Jvm.MethodName)) ∈ lw_tbl := lw_at lw_m6 153 rfl
theorem q1435 : (Jvm.Cond.instanceMethod ({ cls := "DishLiftModel", name := "goes", desc := "(I)Z" } : Jvm.MethodName)) ∈ lw_all := lw_g (lw_at lw_m6 154 rfl) rfl
theorem q1436 : (Jvm.Cond.code ({ cls := "DishLiftModel", name := "goes", desc := "(I)Z" } : Jvm.MethodName) prog_16_method_33_code (5 : Nat) (Option.some Jvm.ClassFile.FieldType.boolean)) ∈ lw_all := lw_g (lw_at lw_m6 155 rfl) rfl
theorem q1437 : (Jvm.Cond.methodLink "DishLiftModel" (140 : Nat) ({ cls := "DishLiftModel", name := "calledOf", desc := "(I)I" } : Jvm.MethodName)) ∈ lw_all := lw_g (lw_at lw_m6 156 rfl) rfl
theorem q1438 : (Jvm.Cond.privateMethod ({ cls := "DishLiftModel", name := "calledOf", desc := "(I)I" } : Jvm.MethodName)) ∈ lw_tbl := lw_at lw_m6 157 rfl
theorem q1439 : (Jvm.Cond.instanceMethod ({ cls := "DishLiftModel", name := "calledOf", desc := "(I)I" } : Jvm.MethodName)) ∈ lw_all := lw_g (lw_at lw_m6 158 rfl) rfl
theorem q1440 : (Jvm.Cond.code ({ cls := "DishLiftModel", name := "calledOf", desc := "(I)I" } : Jvm.MethodName) prog_16_method_32_code (5 : Nat) (Option.some Jvm.ClassFile.FieldType.int)) ∈ lw_all := lw_g (lw_at lw_m6 159 rfl) rfl
theorem q1441 : (Jvm.Cond.methodLink "DishLiftModel" (154 : Nat) ({ cls := "DishLiftModel", name := "cools", desc := "(IZ)V" } : Jvm.MethodName)) ∈ lw_all := lw_g (lw_at lw_m6 160 rfl) rfl
theorem q1442 : (Jvm.Cond.privateMethod ({ cls := "DishLiftModel", name := "cools", desc := "(IZ)V" } : Jvm.MethodName)) ∈ lw_tbl := lw_at lw_m6 161 rfl
theorem q1443 : (Jvm.Cond.instanceMethod ({ cls := "DishLiftModel", name := "cools", desc := "(IZ)V" } : Jvm.MethodName)) ∈ lw_all := lw_g (lw_at lw_m6 162 rfl) rfl
theorem q1444 : (Jvm.Cond.code ({ cls := "DishLiftModel", name := "cools", desc := "(IZ)V" } : Jvm.MethodName) prog_16_method_34_code (4 : Nat) (Option.none : Option Jvm.ClassFile.FieldType)) ∈ lw_all := lw_g (lw_at lw_m6 163 rfl) rfl
theorem q1445 : (Jvm.Cond.methodLink "DishLiftModel" (143 : Nat) ({ cls := "DishLiftModel", name := "coolsOne", desc := "(IIZ)V" } : Jvm.MethodName)) ∈ lw_all := lw_g (lw_at lw_m6 164 rfl) rfl
theorem q1446 : (Jvm.Cond.privateMethod ({ cls := "DishLiftModel", name := "coolsOne", desc := "(IIZ)V" } : Jvm.MethodName)) ∈ lw_tbl := lw_at lw_m6 165 rfl
theorem q1447 : (Jvm.Cond.instanceMethod ({ cls := "DishLiftModel", name := "coolsOne", desc := "(IIZ)V" } : Jvm.MethodName)) ∈ lw_all := lw_g (lw_at lw_m6 166 rfl) rfl
theorem q1448 : (Jvm.Cond.code ({ cls := "DishLiftModel", name := "coolsOne", desc := "(IIZ)V" } : Jvm.MethodName) prog_16_method_35_code (9 : Nat) (Option.none : Option Jvm.ClassFile.FieldType)) ∈ lw_all := lw_g (lw_at lw_m6 167 rfl) rfl
theorem q1449 : (Jvm.Cond.methodLink "DishLiftModel" (173 : Nat) ({ cls := "DishLiftModel", name := "servedOf", desc := "(I)I" } : Jvm.MethodName)) ∈ lw_all := lw_g (lw_at lw_m6 168 rfl) rfl
theorem q1450 : (Jvm.Cond.privateMethod ({ cls := "DishLiftModel", name := "servedOf", desc := "(I)I" } : Jvm.MethodName)) ∈ lw_tbl := lw_at lw_m6 169 rfl
theorem q1451 : (Jvm.Cond.instanceMethod ({ cls := "DishLiftModel", name := "servedOf", desc := "(I)I" } : Jvm.MethodName)) ∈ lw_all := lw_g (lw_at lw_m6 170 rfl) rfl
theorem q1452 : (Jvm.Cond.code ({ cls := "DishLiftModel", name := "servedOf", desc := "(I)I" } : Jvm.MethodName) prog_16_method_29_code (4 : Nat) (Option.some Jvm.ClassFile.FieldType.int)) ∈ lw_all := lw_g (lw_at lw_m6 171 rfl) rfl
theorem q1454 : (Jvm.Cond.instanceMethod ({ cls := "DishLiftModel", name := "pull", desc := "(I)I" } : Jvm.MethodName)) ∈ lw_all := lw_g (lw_at lw_m6 173 rfl) rfl
theorem q1455 : (Jvm.Cond.selects "DishLiftModel" ({ cls := "DishLiftModel", name := "pull", desc := "(I)I" } : Jvm.MethodName) ({ cls := "DishLiftModel", name := "pull", desc := "(I)I" } : Jvm.MethodName)) ∈ lw_all := lw_g (lw_at lw_m6 174 rfl) rfl
theorem q1456 : (Jvm.Cond.code ({ cls := "DishLiftModel", name := "pull", desc := "(I)I" } : Jvm.MethodName) prog_16_method_44_code (3 : Nat) (Option.some Jvm.ClassFile.FieldType.int)) ∈ lw_all := lw_g (lw_at lw_m6 175 rfl) rfl
theorem q1457 : (Jvm.Cond.methodLink "DishLiftModel" (176 : Nat) ({ cls := "DishLiftModel", name := "isFloor", desc := "(I)Z" } : Jvm.MethodName)) ∈ lw_all := lw_g (lw_at lw_m6 176 rfl) rfl
theorem q1458 : (Jvm.Cond.privateMethod ({ cls := "DishLiftModel", name := "isFloor", desc := "(I)Z" } : Jvm.MethodName)) ∈ lw_tbl := lw_at lw_m6 177 rfl
theorem q1459 : (Jvm.Cond.instanceMethod ({ cls := "DishLiftModel", name := "isFloor", desc := "(I)Z" } : Jvm.MethodName)) ∈ lw_all := lw_g (lw_at lw_m6 178 rfl) rfl
theorem q1460 : (Jvm.Cond.code ({ cls := "DishLiftModel", name := "isFloor", desc := "(I)Z" } : Jvm.MethodName) prog_16_method_8_code (2 : Nat) (Option.some Jvm.ClassFile.FieldType.boolean)) ∈ lw_all := lw_g (lw_at lw_m6 179 rfl) rfl
theorem q1462 : (Jvm.Cond.instanceMethod ({ cls := "DishLiftModel", name := "rope", desc := "(I)I" } : Jvm.MethodName)) ∈ lw_all := lw_g (lw_at lw_m6 181 rfl) rfl
theorem q1463 : (Jvm.Cond.selects "DishLiftModel" ({ cls := "DishLiftModel", name := "rope", desc := "(I)I" } : Jvm.MethodName) ({ cls := "DishLiftModel", name := "rope", desc := "(I)I" } : Jvm.MethodName)) ∈ lw_all := lw_g (lw_at lw_m6 182 rfl) rfl
theorem q1464 : (Jvm.Cond.code ({ cls := "DishLiftModel", name := "rope", desc := "(I)I" } : Jvm.MethodName) prog_16_method_45_code (3 : Nat) (Option.some Jvm.ClassFile.FieldType.int)) ∈ lw_all := lw_g (lw_at lw_m6 183 rfl) rfl
theorem q1465 : (Jvm.Cond.constantLong "DishLiftModel" (179 : Nat) (40 : Int64)) ∈ lw_all := lw_g (lw_at lw_m6 184 rfl) rfl
theorem q1467 : (Jvm.Cond.instanceMethod ({ cls := "DishLiftModel", name := "room", desc := "(I)I" } : Jvm.MethodName)) ∈ lw_all := lw_g (lw_at lw_m6 186 rfl) rfl
theorem q1468 : (Jvm.Cond.selects "DishLiftModel" ({ cls := "DishLiftModel", name := "room", desc := "(I)I" } : Jvm.MethodName) ({ cls := "DishLiftModel", name := "room", desc := "(I)I" } : Jvm.MethodName)) ∈ lw_all := lw_g (lw_at lw_m6 187 rfl) rfl
theorem q1469 : (Jvm.Cond.code ({ cls := "DishLiftModel", name := "room", desc := "(I)I" } : Jvm.MethodName) prog_16_method_46_code (3 : Nat) (Option.some Jvm.ClassFile.FieldType.int)) ∈ lw_all := lw_g (lw_at lw_m6 188 rfl) rfl
theorem q1470 : (Jvm.Cond.constantLong "DishLiftModel" (181 : Nat) (4 : Int64)) ∈ lw_all := lw_g (lw_at lw_m6 189 rfl) rfl
theorem q1472 : (Jvm.Cond.instanceMethod ({ cls := "DishLiftModel", name := "send", desc := "(III)I" } : Jvm.MethodName)) ∈ lw_all := lw_g (lw_at lw_m6 191 rfl) rfl
theorem q1473 : (Jvm.Cond.selects "DishLiftModel" ({ cls := "DishLiftModel", name := "send", desc := "(III)I" } : Jvm.MethodName) ({ cls := "DishLiftModel", name := "send", desc := "(III)I" } : Jvm.MethodName)) ∈ lw_all := lw_g (lw_at lw_m6 192 rfl) rfl
theorem q1474 : (Jvm.Cond.code ({ cls := "DishLiftModel", name := "send", desc := "(III)I" } : Jvm.MethodName) prog_16_method_48_code (4 : Nat) (Option.some Jvm.ClassFile.FieldType.int)) ∈ lw_all := lw_g (lw_at lw_m6 193 rfl) rfl
theorem q1475 : (Jvm.Cond.methodLink "DishLiftModel" (183 : Nat) ({ cls := "DishLiftModel", name := "isDish", desc := "(I)Z" } : Jvm.MethodName)) ∈ lw_all := lw_g (lw_at lw_m6 194 rfl) rfl
theorem q1476 : (Jvm.Cond.privateMethod ({ cls := "DishLiftModel", name := "isDish", desc := "(I)Z" } : Jvm.MethodName)) ∈ lw_tbl := lw_at lw_m6 195 rfl
theorem q1477 : (Jvm.Cond.instanceMethod ({ cls := "DishLiftModel", name := "isDish", desc := "(I)Z" } : Jvm.MethodName)) ∈ lw_all := lw_g (lw_at lw_m6 196 rfl) rfl
theorem q1478 : (Jvm.Cond.code ({ cls := "DishLiftModel", name := "isDish", desc := "(I)Z" } : Jvm.MethodName) prog_16_method_7_code (2 : Nat) (Option.some Jvm.ClassFile.FieldType.boolean)) ∈ lw_all := lw_g (lw_at lw_m6 197 rfl) rfl
theorem q1479 : (Jvm.Cond.constantLong "DishLiftModel" (186 : Nat) (60 : Int64)) ∈ lw_all := lw_g (lw_at lw_m6 198 rfl) rfl
theorem q1480 : (Jvm.Cond.methodLink "DishLiftModel" (188 : Nat) ({ cls := "DishLiftModel", name := "sendsBack", desc := "(IIII)V" } : Jvm.MethodName)) ∈ lw_all := lw_g (lw_at lw_m6 199 rfl) rfl
theorem q1481 : (Jvm.Cond.privateMethod ({ cls := "DishLiftModel", name := "sendsBack", desc := "(IIII)V" } : Jvm.MethodName)) ∈ lw_tbl := lw_at lw_m6 200 rfl
theorem q1482 : (Jvm.Cond.instanceMethod ({ cls := "DishLiftModel", name := "sendsBack", desc := "(IIII)V" } : Jvm.MethodName)) ∈ lw_all := lw_g (lw_at lw_m6 201 rfl) rfl
theorem q1483 : (Jvm.Cond.code ({ cls := "DishLiftModel", name := "sendsBack", desc := "(IIII)V" } : Jvm.MethodName) prog_16_method_47_code (5 : Nat) (Option.none : Option Jvm.ClassFile.FieldType)) ∈ lw_all := lw_g (lw_at lw_m6 202 rfl) rfl
theorem q1485 : (Jvm.Cond.instanceMethod ({ cls := "DishLiftModel", name := "dish", desc := "(II)I" } : Jvm.MethodName)) ∈ lw_all := lw_g (lw_at lw_m6 204 rfl) rfl
theorem q1486 : (Jvm.Cond.selects "DishLiftModel" ({ cls := "DishLiftModel", name := "dish", desc := "(II)I" } : Jvm.MethodName) ({ cls := "DishLiftModel", name := "dish", desc := "(II)I" } : Jvm.MethodName)) ∈ lw_all := lw_g (lw_at lw_m6 205 rfl) rfl
theorem q1487 : (Jvm.Cond.code ({ cls := "DishLiftModel", name := "dish", desc := "(II)I" } : Jvm.MethodName) prog_16_method_49_code (3 : Nat) (Option.some Jvm.ClassFile.FieldType.int)) ∈ lw_all := lw_g (lw_at lw_m6 206 rfl) rfl
theorem q1488 : (Jvm.Cond.methodLink "DishLiftModel" (158 : Nat) ({ cls := "DishLiftModel", name := "isGood", desc := "(II)Z" } : Jvm.MethodName)) ∈ lw_all := lw_g (lw_at lw_m6 207 rfl) rfl
theorem q1489 : (Jvm.Cond.static ({ cls := "DishLiftModel", name := "isGood", desc := "(II)Z" } : Jvm.MethodName)) ∈ lw_all := lw_g (lw_at lw_m6 208 rfl) rfl
theorem q1490 : (Jvm.Cond.code ({ cls := "DishLiftModel", name := "isGood", desc := "(II)Z" } : Jvm.MethodName) prog_16_method_37_code (2 : Nat) (Option.some Jvm.ClassFile.FieldType.boolean)) ∈ lw_all := lw_g (lw_at lw_m6 209 rfl) rfl
theorem q1492 : (Jvm.Cond.instanceMethod ({ cls := "DishLiftModel", name := "car", desc := "(I)I" } : Jvm.MethodName)) ∈ lw_all := lw_g (lw_at lw_m6 211 rfl) rfl
theorem q1493 : (Jvm.Cond.selects "DishLiftModel" ({ cls := "DishLiftModel", name := "car", desc := "(I)I" } : Jvm.MethodName) ({ cls := "DishLiftModel", name := "car", desc := "(I)I" } : Jvm.MethodName)) ∈ lw_all := lw_g (lw_at lw_m6 212 rfl) rfl
theorem q1494 : (Jvm.Cond.code ({ cls := "DishLiftModel", name := "car", desc := "(I)I" } : Jvm.MethodName) prog_16_method_50_code (2 : Nat) (Option.some Jvm.ClassFile.FieldType.int)) ∈ lw_all := lw_g (lw_at lw_m6 213 rfl) rfl
theorem q1496 : (Jvm.Cond.instanceMethod ({ cls := "DishLiftModel", name := "ahead", desc := "(III)I" } : Jvm.MethodName)) ∈ lw_all := lw_g (lw_at lw_m6 215 rfl) rfl
theorem q1497 : (Jvm.Cond.selects "DishLiftModel" ({ cls := "DishLiftModel", name := "ahead", desc := "(III)I" } : Jvm.MethodName) ({ cls := "DishLiftModel", name := "ahead", desc := "(III)I" } : Jvm.MethodName)) ∈ lw_all := lw_g (lw_at lw_m6 216 rfl) rfl
theorem q1498 : (Jvm.Cond.code ({ cls := "DishLiftModel", name := "ahead", desc := "(III)I" } : Jvm.MethodName) prog_16_method_53_code (4 : Nat) (Option.some Jvm.ClassFile.FieldType.int)) ∈ lw_all := lw_g (lw_at lw_m6 217 rfl) rfl
theorem q1499 : (Jvm.Cond.methodLink "DishLiftModel" (192 : Nat) ({ cls := "DishLiftModel", name := "tries", desc := "()V" } : Jvm.MethodName)) ∈ lw_all := lw_g (lw_at lw_m6 218 rfl) rfl
theorem q1500 : (Jvm.Cond.privateMethod ({ cls := "DishLiftModel", name := "tries", desc := "()V" } : Jvm.MethodName)) ∈ lw_tbl := lw_at lw_m6 219 rfl
theorem q1501 : (Jvm.Cond.instanceMethod ({ cls := "DishLiftModel", name := "tries", desc := "()V" } : Jvm.MethodName)) ∈ lw_all := lw_g (lw_at lw_m6 220 rfl) rfl
theorem q1502 : (Jvm.Cond.code ({ cls := "DishLiftModel", name := "tries", desc := "()V" } : Jvm.MethodName) prog_16_method_51_code (1 : Nat) (Option.none : Option Jvm.ClassFile.FieldType)) ∈ lw_all := lw_g (lw_at lw_m6 221 rfl) rfl
theorem q1503 : (Jvm.Cond.methodLink "DishLiftModel" (195 : Nat) ({ cls := "DishLiftModel", name := "goesOn", desc := "(I)V" } : Jvm.MethodName)) ∈ lw_all := lw_g (lw_at lw_m6 222 rfl) rfl
theorem q1504 : (Jvm.Cond.privateMethod ({ cls := "DishLiftModel", name := "goesOn", desc := "(I)V" } : Jvm.MethodName)) ∈ lw_tbl := lw_at lw_m6 223 rfl
theorem q1505 : (Jvm.Cond.instanceMethod ({ cls := "DishLiftModel", name := "goesOn", desc := "(I)V" } : Jvm.MethodName)) ∈ lw_all := lw_g (lw_at lw_m6 224 rfl) rfl
theorem q1506 : (Jvm.Cond.code ({ cls := "DishLiftModel", name := "goesOn", desc := "(I)V" } : Jvm.MethodName) prog_16_method_52_code (3 : Nat) (Option.none : Option Jvm.ClassFile.FieldType)) ∈ lw_all := lw_g (lw_at lw_m6 225 rfl) rfl
theorem q1508 : (Jvm.Cond.instanceMethod ({ cls := "DishLiftModel", name := "later", desc := "(I)I" } : Jvm.MethodName)) ∈ lw_all := lw_g (lw_at lw_m6 227 rfl) rfl
theorem q1509 : (Jvm.Cond.selects "DishLiftModel" ({ cls := "DishLiftModel", name := "later", desc := "(I)I" } : Jvm.MethodName) ({ cls := "DishLiftModel", name := "later", desc := "(I)I" } : Jvm.MethodName)) ∈ lw_all := lw_g (lw_at lw_m6 228 rfl) rfl
theorem q1510 : (Jvm.Cond.code ({ cls := "DishLiftModel", name := "later", desc := "(I)I" } : Jvm.MethodName) prog_16_method_54_code (2 : Nat) (Option.some Jvm.ClassFile.FieldType.int)) ∈ lw_all := lw_g (lw_at lw_m6 229 rfl) rfl
theorem q1512 : (Jvm.Cond.instanceMethod ({ cls := "DishLiftModel", name := "when", desc := "(I)I" } : Jvm.MethodName)) ∈ lw_all := lw_g (lw_at lw_m6 231 rfl) rfl
theorem q1513 : (Jvm.Cond.selects "DishLiftModel" ({ cls := "DishLiftModel", name := "when", desc := "(I)I" } : Jvm.MethodName) ({ cls := "DishLiftModel", name := "when", desc := "(I)I" } : Jvm.MethodName)) ∈ lw_all := lw_g (lw_at lw_m6 232 rfl) rfl
theorem q1514 : (Jvm.Cond.code ({ cls := "DishLiftModel", name := "when", desc := "(I)I" } : Jvm.MethodName) prog_16_method_56_code (2 : Nat) (Option.some Jvm.ClassFile.FieldType.int)) ∈ lw_all := lw_g (lw_at lw_m6 233 rfl) rfl
theorem q1515 : (Jvm.Cond.methodLink "DishLiftModel" (199 : Nat) ({ cls := "DishLiftModel", name := "allServed", desc := "(I)I" } : Jvm.MethodName)) ∈ lw_all := lw_g (lw_at lw_m6 234 rfl) rfl
theorem q1516 : (Jvm.Cond.privateMethod ({ cls := "DishLiftModel", name := "allServed", desc := "(I)I" } : Jvm.MethodName)) ∈ lw_tbl := lw_at lw_m6 235 rfl
theorem q1517 : (Jvm.Cond.instanceMethod ({ cls := "DishLiftModel", name := "allServed", desc := "(I)I" } : Jvm.MethodName)) ∈ lw_all := lw_g (lw_at lw_m6 236 rfl) rfl
theorem q1518 : (Jvm.Cond.code ({ cls := "DishLiftModel", name := "allServed", desc := "(I)I" } : Jvm.MethodName) prog_16_method_55_code (3 : Nat) (Option.some Jvm.ClassFile.FieldType.int)) ∈ lw_all := lw_g (lw_at lw_m6 237 rfl) rfl
theorem q1519 : (Jvm.Cond.constant "DishLiftModel" (198 : Nat) (-1000000 : Int32)) ∈ lw_all := lw_g (lw_at lw_m6 238 rfl) rfl
theorem q1521 : (Jvm.Cond.instanceMethod ({ cls := "DishLiftModel", name := "done", desc := "()I" } : Jvm.MethodName)) ∈ lw_all := lw_g (lw_at lw_m7 0 rfl) rfl
theorem q1522 : (Jvm.Cond.selects "DishLiftModel" ({ cls := "DishLiftModel", name := "done", desc := "()I" } : Jvm.MethodName) ({ cls := "DishLiftModel", name := "done", desc := "()I" } : Jvm.MethodName)) ∈ lw_all := lw_g (lw_at lw_m7 1 rfl) rfl
theorem q1523 : (Jvm.Cond.code ({ cls := "DishLiftModel", name := "done", desc := "()I" } : Jvm.MethodName) prog_16_method_57_code (1 : Nat) (Option.some Jvm.ClassFile.FieldType.int)) ∈ lw_all := lw_g (lw_at lw_m7 2 rfl) rfl
theorem q1525 : (Jvm.Cond.instanceMethod ({ cls := "DishLiftModel", name := "fine", desc := "(I)I" } : Jvm.MethodName)) ∈ lw_all := lw_g (lw_at lw_m7 4 rfl) rfl
theorem q1526 : (Jvm.Cond.selects "DishLiftModel" ({ cls := "DishLiftModel", name := "fine", desc := "(I)I" } : Jvm.MethodName) ({ cls := "DishLiftModel", name := "fine", desc := "(I)I" } : Jvm.MethodName)) ∈ lw_all := lw_g (lw_at lw_m7 5 rfl) rfl
theorem q1527 : (Jvm.Cond.code ({ cls := "DishLiftModel", name := "fine", desc := "(I)I" } : Jvm.MethodName) prog_16_method_58_code (2 : Nat) (Option.some Jvm.ClassFile.FieldType.int)) ∈ lw_all := lw_g (lw_at lw_m7 6 rfl) rfl
theorem q1528 : (Jvm.Cond.methodLink "DishLiftModel" (202 : Nat) ({ cls := "DishLiftModel", name := "fineOf", desc := "(I)I" } : Jvm.MethodName)) ∈ lw_all := lw_g (lw_at lw_m7 7 rfl) rfl
theorem q1529 : (Jvm.Cond.privateMethod ({ cls := "DishLiftModel", name := "fineOf", desc := "(I)I" } : Jvm.MethodName)) ∈ lw_tbl := lw_at lw_m7 8 rfl
theorem q1530 : (Jvm.Cond.instanceMethod ({ cls := "DishLiftModel", name := "fineOf", desc := "(I)I" } : Jvm.MethodName)) ∈ lw_all := lw_g (lw_at lw_m7 9 rfl) rfl
theorem q1531 : (Jvm.Cond.code ({ cls := "DishLiftModel", name := "fineOf", desc := "(I)I" } : Jvm.MethodName) prog_16_method_38_code (4 : Nat) (Option.some Jvm.ClassFile.FieldType.int)) ∈ lw_all := lw_g (lw_at lw_m7 10 rfl) rfl
theorem q1533 : (Jvm.Cond.instanceMethod ({ cls := "DishLiftModel", name := "site", desc := "(II)I" } : Jvm.MethodName)) ∈ lw_all := lw_g (lw_at lw_m7 12 rfl) rfl
theorem q1534 : (Jvm.Cond.selects "DishLiftModel" ({ cls := "DishLiftModel", name := "site", desc := "(II)I" } : Jvm.MethodName) ({ cls := "DishLiftModel", name := "site", desc := "(II)I" } : Jvm.MethodName)) ∈ lw_all := lw_g (lw_at lw_m7 13 rfl) rfl
theorem q1535 : (Jvm.Cond.code ({ cls := "DishLiftModel", name := "site", desc := "(II)I" } : Jvm.MethodName) prog_16_method_59_code (7 : Nat) (Option.some Jvm.ClassFile.FieldType.int)) ∈ lw_all := lw_g (lw_at lw_m7 14 rfl) rfl
theorem q1537 : (Jvm.Cond.instanceMethod ({ cls := "DishLiftModel", name := "need", desc := "(II)I" } : Jvm.MethodName)) ∈ lw_all := lw_g (lw_at lw_m7 16 rfl) rfl
theorem q1538 : (Jvm.Cond.selects "DishLiftModel" ({ cls := "DishLiftModel", name := "need", desc := "(II)I" } : Jvm.MethodName) ({ cls := "DishLiftModel", name := "need", desc := "(II)I" } : Jvm.MethodName)) ∈ lw_all := lw_g (lw_at lw_m7 17 rfl) rfl
theorem q1539 : (Jvm.Cond.code ({ cls := "DishLiftModel", name := "need", desc := "(II)I" } : Jvm.MethodName) prog_16_method_60_code (5 : Nat) (Option.some Jvm.ClassFile.FieldType.int)) ∈ lw_all := lw_g (lw_at lw_m7 18 rfl) rfl
theorem q1541 : (Jvm.Cond.instanceMethod ({ cls := "DishLiftModel", name := "ranks", desc := "(II)I" } : Jvm.MethodName)) ∈ lw_all := lw_g (lw_at lw_m7 20 rfl) rfl
theorem q1542 : (Jvm.Cond.selects "DishLiftModel" ({ cls := "DishLiftModel", name := "ranks", desc := "(II)I" } : Jvm.MethodName) ({ cls := "DishLiftModel", name := "ranks", desc := "(II)I" } : Jvm.MethodName)) ∈ lw_all := lw_g (lw_at lw_m7 21 rfl) rfl
theorem q1543 : (Jvm.Cond.code ({ cls := "DishLiftModel", name := "ranks", desc := "(II)I" } : Jvm.MethodName) prog_16_method_63_code (4 : Nat) (Option.some Jvm.ClassFile.FieldType.int)) ∈ lw_all := lw_g (lw_at lw_m7 22 rfl) rfl
theorem q1544 : (Jvm.Cond.methodLink "DishLiftModel" (209 : Nat) ({ cls := "DishLiftModel", name := "bestRanks", desc := "(I)I" } : Jvm.MethodName)) ∈ lw_all := lw_g (lw_at lw_m7 23 rfl) rfl
theorem q1545 : (Jvm.Cond.privateMethod ({ cls := "DishLiftModel", name := "bestRanks", desc := "(I)I" } : Jvm.MethodName)) ∈ lw_tbl := lw_at lw_m7 24 rfl
theorem q1546 : (Jvm.Cond.instanceMethod ({ cls := "DishLiftModel", name := "bestRanks", desc := "(I)I" } : Jvm.MethodName)) ∈ lw_all := lw_g (lw_at lw_m7 25 rfl) rfl
theorem q1547 : (Jvm.Cond.code ({ cls := "DishLiftModel", name := "bestRanks", desc := "(I)I" } : Jvm.MethodName) prog_16_method_62_code (7 : Nat) (Option.some Jvm.ClassFile.FieldType.int)) ∈ lw_all := lw_g (lw_at lw_m7 26 rfl) rfl
theorem q1548 : (Jvm.Cond.constant "DishLiftModel" (205 : Nat) (100000000 : Int32)) ∈ lw_all := lw_g (lw_at lw_m7 27 rfl) rfl
theorem q1549 : (Jvm.Cond.methodLink "DishLiftModel" (206 : Nat) ({ cls := "DishLiftModel", name := "waitsBy", desc := "(I)I" } : Jvm.MethodName)) ∈ lw_all := lw_g (lw_at lw_m7 28 rfl) rfl
theorem q1550 : (Jvm.Cond.privateMethod ({ cls := "DishLiftModel", name := "waitsBy", desc := "(I)I" } : Jvm.MethodName)) ∈ lw_tbl := lw_at lw_m7 29 rfl
theorem q1551 : (Jvm.Cond.instanceMethod ({ cls := "DishLiftModel", name := "waitsBy", desc := "(I)I" } : Jvm.MethodName)) ∈ lw_all := lw_g (lw_at lw_m7 30 rfl) rfl
theorem q1552 : (Jvm.Cond.code ({ cls := "DishLiftModel", name := "waitsBy", desc := "(I)I" } : Jvm.MethodName) prog_16_method_61_code (4 : Nat) (Option.some Jvm.ClassFile.FieldType.int)) ∈ lw_all := lw_g (lw_at lw_m7 31 rfl) rfl
theorem q1554 : (Jvm.Cond.instanceMethod ({ cls := "DishLiftModel", name := "holds", desc := "(I)I" } : Jvm.MethodName)) ∈ lw_all := lw_g (lw_at lw_m7 33 rfl) rfl
theorem q1555 : (Jvm.Cond.selects "DishLiftModel" ({ cls := "DishLiftModel", name := "holds", desc := "(I)I" } : Jvm.MethodName) ({ cls := "DishLiftModel", name := "holds", desc := "(I)I" } : Jvm.MethodName)) ∈ lw_all := lw_g (lw_at lw_m7 34 rfl) rfl
theorem q1556 : (Jvm.Cond.code ({ cls := "DishLiftModel", name := "holds", desc := "(I)I" } : Jvm.MethodName) prog_16_method_64_code (7 : Nat) (Option.some Jvm.ClassFile.FieldType.int)) ∈ lw_all := lw_g (lw_at lw_m7 35 rfl) rfl
theorem q1558 : (Jvm.Cond.instanceMethod ({ cls := "DishLiftModel", name := "share", desc := "(II)I" } : Jvm.MethodName)) ∈ lw_all := lw_g (lw_at lw_m7 37 rfl) rfl
theorem q1559 : (Jvm.Cond.selects "DishLiftModel" ({ cls := "DishLiftModel", name := "share", desc := "(II)I" } : Jvm.MethodName) ({ cls := "DishLiftModel", name := "share", desc := "(II)I" } : Jvm.MethodName)) ∈ lw_all := lw_g (lw_at lw_m7 38 rfl) rfl
theorem q1560 : (Jvm.Cond.code ({ cls := "DishLiftModel", name := "share", desc := "(II)I" } : Jvm.MethodName) prog_16_method_65_code (8 : Nat) (Option.some Jvm.ClassFile.FieldType.int)) ∈ lw_all := lw_g (lw_at lw_m7 39 rfl) rfl
theorem q1561 : (Jvm.Cond.constantLong "DishLiftModel" (212 : Nat) (999 : Int64)) ∈ lw_all := lw_g (lw_at lw_m7 40 rfl) rfl
theorem q1562 : (Jvm.Cond.methodLink "DishLiftModel" (214 : Nat) ({ cls := "DishLiftModel", name := "heatOf", desc := "(I)I" } : Jvm.MethodName)) ∈ lw_all := lw_g (lw_at lw_m7 41 rfl) rfl
theorem q1563 : (Jvm.Cond.privateMethod ({ cls := "DishLiftModel", name := "heatOf", desc := "(I)I" } : Jvm.MethodName)) ∈ lw_tbl := lw_at lw_m7 42 rfl
theorem q1564 : (Jvm.Cond.instanceMethod ({ cls := "DishLiftModel", name := "heatOf", desc := "(I)I" } : Jvm.MethodName)) ∈ lw_all := lw_g (lw_at lw_m7 43 rfl) rfl
theorem q1565 : (Jvm.Cond.code ({ cls := "DishLiftModel", name := "heatOf", desc := "(I)I" } : Jvm.MethodName) prog_16_method_40_code (4 : Nat) (Option.some Jvm.ClassFile.FieldType.int)) ∈ lw_all := lw_g (lw_at lw_m7 44 rfl) rfl
theorem q1566 : (Jvm.Cond.methodLink "DishLiftModel" (217 : Nat) ({ cls := "DishLiftModel", name := "heatServed", desc := "(I)I" } : Jvm.MethodName)) ∈ lw_all := lw_g (lw_at lw_m7 45 rfl) rfl
theorem q1567 : (Jvm.Cond.privateMethod ({ cls := "DishLiftModel", name := "heatServed", desc := "(I)I" } : Jvm.MethodName)) ∈ lw_tbl := lw_at lw_m7 46 rfl
theorem q1568 : (Jvm.Cond.instanceMethod ({ cls := "DishLiftModel", name := "heatServed", desc := "(I)I" } : Jvm.MethodName)) ∈ lw_all := lw_g (lw_at lw_m7 47 rfl) rfl
theorem q1569 : (Jvm.Cond.code ({ cls := "DishLiftModel", name := "heatServed", desc := "(I)I" } : Jvm.MethodName) prog_16_method_39_code (4 : Nat) (Option.some Jvm.ClassFile.FieldType.int)) ∈ lw_all := lw_g (lw_at lw_m7 48 rfl) rfl
theorem q1571 : (Jvm.Cond.instanceMethod ({ cls := "DishLiftModel", name := "byTurns", desc := "(II)I" } : Jvm.MethodName)) ∈ lw_all := lw_g (lw_at lw_m7 50 rfl) rfl
theorem q1572 : (Jvm.Cond.selects "DishLiftModel" ({ cls := "DishLiftModel", name := "byTurns", desc := "(II)I" } : Jvm.MethodName) ({ cls := "DishLiftModel", name := "byTurns", desc := "(II)I" } : Jvm.MethodName)) ∈ lw_all := lw_g (lw_at lw_m7 51 rfl) rfl
theorem q1573 : (Jvm.Cond.code ({ cls := "DishLiftModel", name := "byTurns", desc := "(II)I" } : Jvm.MethodName) prog_16_method_67_code (9 : Nat) (Option.some Jvm.ClassFile.FieldType.int)) ∈ lw_all := lw_g (lw_at lw_m7 52 rfl) rfl
theorem q1574 : (Jvm.Cond.constantLong "DishLiftModel" (220 : Nat) (20 : Int64)) ∈ lw_all := lw_g (lw_at lw_m7 53 rfl) rfl
theorem q1575 : (Jvm.Cond.methodLink "DishLiftModel" (222 : Nat) ({ cls := "DishLiftModel", name := "heatFrom", desc := "(II)I" } : Jvm.MethodName)) ∈ lw_all := lw_g (lw_at lw_m7 54 rfl) rfl
theorem q1576 : (Jvm.Cond.privateMethod ({ cls := "DishLiftModel", name := "heatFrom", desc := "(II)I" } : Jvm.MethodName)) ∈ lw_tbl := lw_at lw_m7 55 rfl
theorem q1577 : (Jvm.Cond.instanceMethod ({ cls := "DishLiftModel", name := "heatFrom", desc := "(II)I" } : Jvm.MethodName)) ∈ lw_all := lw_g (lw_at lw_m7 56 rfl) rfl
theorem q1578 : (Jvm.Cond.code ({ cls := "DishLiftModel", name := "heatFrom", desc := "(II)I" } : Jvm.MethodName) prog_16_method_66_code (3 : Nat) (Option.some Jvm.ClassFile.FieldType.int)) ∈ lw_all := lw_g (lw_at lw_m7 57 rfl) rfl
theorem q1580 : (Jvm.Cond.instanceMethod ({ cls := "DishLiftModel", name := "who", desc := "(IIIII)I" } : Jvm.MethodName)) ∈ lw_all := lw_g (lw_at lw_m7 59 rfl) rfl
theorem q1581 : (Jvm.Cond.selects "DishLiftModel" ({ cls := "DishLiftModel", name := "who", desc := "(IIIII)I" } : Jvm.MethodName) ({ cls := "DishLiftModel", name := "who", desc := "(IIIII)I" } : Jvm.MethodName)) ∈ lw_all := lw_g (lw_at lw_m7 60 rfl) rfl
theorem q1582 : (Jvm.Cond.code ({ cls := "DishLiftModel", name := "who", desc := "(IIIII)I" } : Jvm.MethodName) prog_16_method_69_code (12 : Nat) (Option.some Jvm.ClassFile.FieldType.int)) ∈ lw_all := lw_g (lw_at lw_m7 61 rfl) rfl
theorem q1583 : (Jvm.Cond.constantLong "DishLiftModel" (225 : Nat) (5 : Int64)) ∈ lw_all := lw_g (lw_at lw_m7 62 rfl) rfl
theorem q1584 : (Jvm.Cond.constantLong "DishLiftModel" (227 : Nat) (12 : Int64)) ∈ lw_all := lw_g (lw_at lw_m7 63 rfl) rfl
theorem q1585 : (Jvm.Cond.methodLink "DishLiftModel" (229 : Nat) ({ cls := "DishLiftModel", name := "isSo", desc := "(III)Z" } : Jvm.MethodName)) ∈ lw_all := lw_g (lw_at lw_m7 64 rfl) rfl
theorem q1586 : (Jvm.Cond.privateMethod ({ cls := "DishLiftModel", name := "isSo", desc := "(III)Z" } : Jvm.MethodName)) ∈ lw_tbl := lw_at lw_m7 65 rfl
theorem q1587 : (Jvm.Cond.instanceMethod ({ cls := "DishLiftModel", name := "isSo", desc := "(III)Z" } : Jvm.MethodName)) ∈ lw_all := lw_g (lw_at lw_m7 66 rfl) rfl
theorem q1588 : (Jvm.Cond.code ({ cls := "DishLiftModel", name := "isSo", desc := "(III)Z" } : Jvm.MethodName) prog_16_method_68_code (6 : Nat) (Option.some Jvm.ClassFile.FieldType.boolean)) ∈ lw_all := lw_g (lw_at lw_m7 67 rfl) rfl
theorem q1590 : (Jvm.Cond.instanceMethod ({ cls := "DishLiftModel", name := "stuck", desc := "(IIII)J" } : Jvm.MethodName)) ∈ lw_all := lw_g (lw_at lw_m7 69 rfl) rfl
theorem q1591 : (Jvm.Cond.selects "DishLiftModel" ({ cls := "DishLiftModel", name := "stuck", desc := "(IIII)J" } : Jvm.MethodName) ({ cls := "DishLiftModel", name := "stuck", desc := "(IIII)J" } : Jvm.MethodName)) ∈ lw_all := lw_g (lw_at lw_m7 70 rfl) rfl
theorem q1592 : (Jvm.Cond.code ({ cls := "DishLiftModel", name := "stuck", desc := "(IIII)J" } : Jvm.MethodName) prog_16_method_70_code (15 : Nat) (Option.some Jvm.ClassFile.FieldType.long)) ∈ lw_all := lw_g (lw_at lw_m7 71 rfl) rfl
theorem q1593 : (Jvm.Cond.constantLong "DishLiftModel" (233 : Nat) (8 : Int64)) ∈ lw_all := lw_g (lw_at lw_m7 72 rfl) rfl
theorem q1594 : (Jvm.Cond.constantLong "DishLiftModel" (235 : Nat) (10 : Int64)) ∈ lw_all := lw_g (lw_at lw_m7 73 rfl) rfl
theorem q1595 : (Jvm.Cond.constantLong "DishLiftModel" (237 : Nat) (-1000001 : Int64)) ∈ lw_all := lw_g (lw_at lw_m7 74 rfl) rfl
theorem q1597 : (Jvm.Cond.instanceMethod ({ cls := "DishLiftModel", name := "drawn", desc := "(III)I" } : Jvm.MethodName)) ∈ lw_all := lw_g (lw_at lw_m7 76 rfl) rfl
theorem q1598 : (Jvm.Cond.selects "DishLiftModel" ({ cls := "DishLiftModel", name := "drawn", desc := "(III)I" } : Jvm.MethodName) ({ cls := "DishLiftModel", name := "drawn", desc := "(III)I" } : Jvm.MethodName)) ∈ lw_all := lw_g (lw_at lw_m7 77 rfl) rfl
theorem q1599 : (Jvm.Cond.code ({ cls := "DishLiftModel", name := "drawn", desc := "(III)I" } : Jvm.MethodName) prog_16_method_71_code (11 : Nat) (Option.some Jvm.ClassFile.FieldType.int)) ∈ lw_all := lw_g (lw_at lw_m7 78 rfl) rfl
theorem q1600 : (Jvm.Cond.constantLong "DishLiftModel" (239 : Nat) (999999 : Int64)) ∈ lw_all := lw_g (lw_at lw_m7 79 rfl) rfl
theorem q1601 : (Jvm.Cond.constantLong "DishLiftModel" (241 : Nat) (16807 : Int64)) ∈ lw_all := lw_g (lw_at lw_m7 80 rfl) rfl
theorem q1602 : (Jvm.Cond.constantLong "DishLiftModel" (243 : Nat) (2147483647 : Int64)) ∈ lw_all := lw_g (lw_at lw_m7 81 rfl) rfl
theorem q1603 : (Jvm.Cond.constantLong "DishLiftModel" (245 : Nat) (61 : Int64)) ∈ lw_all := lw_g (lw_at lw_m7 82 rfl) rfl
theorem q1605 : (Jvm.Cond.instanceMethod ({ cls := "DishLiftModel", name := "image", desc := "(I)I" } : Jvm.MethodName)) ∈ lw_all := lw_g (lw_at lw_m7 84 rfl) rfl
theorem q1606 : (Jvm.Cond.selects "DishLiftModel" ({ cls := "DishLiftModel", name := "image", desc := "(I)I" } : Jvm.MethodName) ({ cls := "DishLiftModel", name := "image", desc := "(I)I" } : Jvm.MethodName)) ∈ lw_all := lw_g (lw_at lw_m7 85 rfl) rfl
theorem q1607 : (Jvm.Cond.code ({ cls := "DishLiftModel", name := "image", desc := "(I)I" } : Jvm.MethodName) prog_16_method_72_code (2 : Nat) (Option.some Jvm.ClassFile.FieldType.int)) ∈ lw_all := lw_g (lw_at lw_m7 86 rfl) rfl
theorem q1609 : (Jvm.Cond.instanceMethod ({ cls := "DishLiftModel", name := "restore", desc := "(I)I" } : Jvm.MethodName)) ∈ lw_all := lw_g (lw_at lw_m7 88 rfl) rfl
theorem q1610 : (Jvm.Cond.selects "DishLiftModel" ({ cls := "DishLiftModel", name := "restore", desc := "(I)I" } : Jvm.MethodName) ({ cls := "DishLiftModel", name := "restore", desc := "(I)I" } : Jvm.MethodName)) ∈ lw_all := lw_g (lw_at lw_m7 89 rfl) rfl
theorem q1611 : (Jvm.Cond.code ({ cls := "DishLiftModel", name := "restore", desc := "(I)I" } : Jvm.MethodName) prog_16_method_73_code (2 : Nat) (Option.some Jvm.ClassFile.FieldType.int)) ∈ lw_all := lw_g (lw_at lw_m7 90 rfl) rfl
theorem q1613 : (Jvm.Cond.instanceMethod ({ cls := "DishLiftModel", name := "kind", desc := "(I)I" } : Jvm.MethodName)) ∈ lw_all := lw_g (lw_at lw_m7 92 rfl) rfl
theorem q1614 : (Jvm.Cond.selects "DishLiftModel" ({ cls := "DishLiftModel", name := "kind", desc := "(I)I" } : Jvm.MethodName) ({ cls := "DishLiftModel", name := "kind", desc := "(I)I" } : Jvm.MethodName)) ∈ lw_all := lw_g (lw_at lw_m7 93 rfl) rfl
theorem q1615 : (Jvm.Cond.code ({ cls := "DishLiftModel", name := "kind", desc := "(I)I" } : Jvm.MethodName) prog_16_method_74_code (2 : Nat) (Option.some Jvm.ClassFile.FieldType.int)) ∈ lw_all := lw_g (lw_at lw_m7 94 rfl) rfl
theorem q1617 : (Jvm.Cond.instanceMethod ({ cls := "DishLiftModel", name := "as", desc := "(II)I" } : Jvm.MethodName)) ∈ lw_all := lw_g (lw_at lw_m7 96 rfl) rfl
theorem q1618 : (Jvm.Cond.selects "DishLiftModel" ({ cls := "DishLiftModel", name := "as", desc := "(II)I" } : Jvm.MethodName) ({ cls := "DishLiftModel", name := "as", desc := "(II)I" } : Jvm.MethodName)) ∈ lw_all := lw_g (lw_at lw_m7 97 rfl) rfl
theorem q1619 : (Jvm.Cond.code ({ cls := "DishLiftModel", name := "as", desc := "(II)I" } : Jvm.MethodName) prog_16_method_76_code (3 : Nat) (Option.some Jvm.ClassFile.FieldType.int)) ∈ lw_all := lw_g (lw_at lw_m7 98 rfl) rfl
theorem q1620 : (Jvm.Cond.methodLink "DishLiftModel" (247 : Nat) ({ cls := "DishLiftModel", name := "isA", desc := "(II)Z" } : Jvm.MethodName)) ∈ lw_all := lw_g (lw_at lw_m7 99 rfl) rfl
theorem q1621 : (Jvm.Cond.static ({ cls := "DishLiftModel", name := "isA", desc := "(II)Z" } : Jvm.MethodName)) ∈ lw_all := lw_g (lw_at lw_m7 100 rfl) rfl
theorem q1622 : (Jvm.Cond.code ({ cls := "DishLiftModel", name := "isA", desc := "(II)Z" } : Jvm.MethodName) prog_16_method_75_code (2 : Nat) (Option.some Jvm.ClassFile.FieldType.boolean)) ∈ lw_all := lw_g (lw_at lw_m7 101 rfl) rfl
theorem q1624 : (Jvm.Cond.instanceMethod ({ cls := "DishLiftModel", name := "ask", desc := "(II)I" } : Jvm.MethodName)) ∈ lw_all := lw_g (lw_at lw_m7 103 rfl) rfl
theorem q1625 : (Jvm.Cond.selects "DishLiftModel" ({ cls := "DishLiftModel", name := "ask", desc := "(II)I" } : Jvm.MethodName) ({ cls := "DishLiftModel", name := "ask", desc := "(II)I" } : Jvm.MethodName)) ∈ lw_all := lw_g (lw_at lw_m7 104 rfl) rfl
theorem q1626 : (Jvm.Cond.code ({ cls := "DishLiftModel", name := "ask", desc := "(II)I" } : Jvm.MethodName) prog_16_method_86_code (3 : Nat) (Option.some Jvm.ClassFile.FieldType.int)) ∈ lw_all := lw_g (lw_at lw_m7 105 rfl) rfl
theorem q1627 : (Jvm.Cond.methodLink "DishLiftModel" (274 : Nat) ({ cls := "DishLiftModel", name := "sizeOf", desc := "(I)I" } : Jvm.MethodName)) ∈ lw_all := lw_g (lw_at lw_m7 106 rfl) rfl
theorem q1628 : (Jvm.Cond.privateMethod ({ cls := "DishLiftModel", name := "sizeOf", desc := "(I)I" } : Jvm.MethodName)) ∈ lw_tbl := lw_at lw_m7 107 rfl
theorem q1629 : (Jvm.Cond.instanceMethod ({ cls := "DishLiftModel", name := "sizeOf", desc := "(I)I" } : Jvm.MethodName)) ∈ lw_all := lw_g (lw_at lw_m7 108 rfl) rfl
theorem q1630 : (Jvm.Cond.code ({ cls := "DishLiftModel", name := "sizeOf", desc := "(I)I" } : Jvm.MethodName) prog_16_method_81_code (2 : Nat) (Option.some Jvm.ClassFile.FieldType.int)) ∈ lw_all := lw_g (lw_at lw_m7 109 rfl) rfl
theorem q1631 : (Jvm.Cond.methodLink "DishLiftModel" (253 : Nat) ({ cls := "DishLiftModel", name := "traces", desc := "(I)V" } : Jvm.MethodName)) ∈ lw_all := lw_g (lw_at lw_m7 110 rfl) rfl
theorem q1632 : (Jvm.Cond.privateMethod ({ cls := "DishLiftModel", name := "traces", desc := "(I)V" } : Jvm.MethodName)) ∈ lw_tbl := lw_at lw_m7 111 rfl
theorem q1633 : (Jvm.Cond.instanceMethod ({ cls := "DishLiftModel", name := "traces", desc := "(I)V" } : Jvm.MethodName)) ∈ lw_all := lw_g (lw_at lw_m7 112 rfl) rfl
theorem q1634 : (Jvm.Cond.code ({ cls := "DishLiftModel", name := "traces", desc := "(I)V" } : Jvm.MethodName) prog_16_method_77_code (2 : Nat) (Option.none : Option Jvm.ClassFile.FieldType)) ∈ lw_all := lw_g (lw_at lw_m7 113 rfl) rfl
theorem q1635 : (Jvm.Cond.methodLink "DishLiftModel" (262 : Nat) ({ cls := "DishLiftModel", name := "size11", desc := "(I)I" } : Jvm.MethodName)) ∈ lw_all := lw_g (lw_at lw_m7 114 rfl) rfl
theorem q1636 : (Jvm.Cond.privateMethod ({ cls := "DishLiftModel", name := "size11", desc := "(I)I" } : Jvm.MethodName)) ∈ lw_tbl := lw_at lw_m7 115 rfl
theorem q1637 : (Jvm.Cond.instanceMethod ({ cls := "DishLiftModel", name := "size11", desc := "(I)I" } : Jvm.MethodName)) ∈ lw_all := lw_g (lw_at lw_m7 116 rfl) rfl
theorem q1638 : (Jvm.Cond.code ({ cls := "DishLiftModel", name := "size11", desc := "(I)I" } : Jvm.MethodName) prog_16_method_79_code (3 : Nat) (Option.some Jvm.ClassFile.FieldType.int)) ∈ lw_all := lw_g (lw_at lw_m7 117 rfl) rfl
theorem q1639 : (Jvm.Cond.methodLink "DishLiftModel" (256 : Nat) ({ cls := "DishLiftModel", name := "size10", desc := "(I)I" } : Jvm.MethodName)) ∈ lw_all := lw_g (lw_at lw_m7 118 rfl) rfl
theorem q1640 : (Jvm.Cond.privateMethod ({ cls := "DishLiftModel", name := "size10", desc := "(I)I" } : Jvm.MethodName)) ∈ lw_tbl := lw_at lw_m7 119 rfl
theorem q1641 : (Jvm.Cond.instanceMethod ({ cls := "DishLiftModel", name := "size10", desc := "(I)I" } : Jvm.MethodName)) ∈ lw_all := lw_g (lw_at lw_m7 120 rfl) rfl
theorem q1642 : (Jvm.Cond.code ({ cls := "DishLiftModel", name := "size10", desc := "(I)I" } : Jvm.MethodName) prog_16_method_78_code (2 : Nat) (Option.some Jvm.ClassFile.FieldType.int)) ∈ lw_all := lw_g (lw_at lw_m7 121 rfl) rfl
theorem q1643 : (Jvm.Cond.methodLink "DishLiftModel" (259 : Nat) ({ cls := "DishLiftModel", name := "markOf", desc := "(I)I" } : Jvm.MethodName)) ∈ lw_all := lw_g (lw_at lw_m7 122 rfl) rfl
theorem q1644 : (Jvm.Cond.privateMethod ({ cls := "DishLiftModel", name := "markOf", desc := "(I)I" } : Jvm.MethodName)) ∈ lw_tbl := lw_at lw_m7 123 rfl
theorem q1645 : (Jvm.Cond.instanceMethod ({ cls := "DishLiftModel", name := "markOf", desc := "(I)I" } : Jvm.MethodName)) ∈ lw_all := lw_g (lw_at lw_m7 124 rfl) rfl
theorem q1646 : (Jvm.Cond.code ({ cls := "DishLiftModel", name := "markOf", desc := "(I)I" } : Jvm.MethodName) prog_16_method_84_code (2 : Nat) (Option.some Jvm.ClassFile.FieldType.int)) ∈ lw_all := lw_g (lw_at lw_m7 125 rfl) rfl
theorem q1647 : (Jvm.Cond.methodLink "DishLiftModel" (271 : Nat) ({ cls := "DishLiftModel", name := "mark21", desc := "(I)I" } : Jvm.MethodName)) ∈ lw_all := lw_g (lw_at lw_m7 126 rfl) rfl
theorem q1648 : (Jvm.Cond.privateMethod ({ cls := "DishLiftModel", name := "mark21", desc := "(I)I" } : Jvm.MethodName)) ∈ lw_tbl := lw_at lw_m7 127 rfl
theorem q1649 : (Jvm.Cond.instanceMethod ({ cls := "DishLiftModel", name := "mark21", desc := "(I)I" } : Jvm.MethodName)) ∈ lw_all := lw_g (lw_at lw_m7 128 rfl) rfl
theorem q1650 : (Jvm.Cond.code ({ cls := "DishLiftModel", name := "mark21", desc := "(I)I" } : Jvm.MethodName) prog_16_method_83_code (2 : Nat) (Option.some Jvm.ClassFile.FieldType.int)) ∈ lw_all := lw_g (lw_at lw_m7 129 rfl) rfl
theorem q1651 : (Jvm.Cond.methodLink "DishLiftModel" (268 : Nat) ({ cls := "DishLiftModel", name := "mark20", desc := "(I)I" } : Jvm.MethodName)) ∈ lw_all := lw_g (lw_at lw_m7 130 rfl) rfl
theorem q1652 : (Jvm.Cond.privateMethod ({ cls := "DishLiftModel", name := "mark20", desc := "(I)I" } : Jvm.MethodName)) ∈ lw_tbl := lw_at lw_m7 131 rfl
theorem q1653 : (Jvm.Cond.instanceMethod ({ cls := "DishLiftModel", name := "mark20", desc := "(I)I" } : Jvm.MethodName)) ∈ lw_all := lw_g (lw_at lw_m7 132 rfl) rfl
theorem q1654 : (Jvm.Cond.code ({ cls := "DishLiftModel", name := "mark20", desc := "(I)I" } : Jvm.MethodName) prog_16_method_82_code (2 : Nat) (Option.some Jvm.ClassFile.FieldType.int)) ∈ lw_all := lw_g (lw_at lw_m7 133 rfl) rfl
theorem q1655 : (Jvm.Cond.methodLink "DishLiftModel" (265 : Nat) ({ cls := "DishLiftModel", name := "size13", desc := "(I)I" } : Jvm.MethodName)) ∈ lw_all := lw_g (lw_at lw_m7 134 rfl) rfl
theorem q1656 : (Jvm.Cond.privateMethod ({ cls := "DishLiftModel", name := "size13", desc := "(I)I" } : Jvm.MethodName)) ∈ lw_tbl := lw_at lw_m7 135 rfl
theorem q1657 : (Jvm.Cond.instanceMethod ({ cls := "DishLiftModel", name := "size13", desc := "(I)I" } : Jvm.MethodName)) ∈ lw_all := lw_g (lw_at lw_m7 136 rfl) rfl
theorem q1658 : (Jvm.Cond.code ({ cls := "DishLiftModel", name := "size13", desc := "(I)I" } : Jvm.MethodName) prog_16_method_80_code (2 : Nat) (Option.some Jvm.ClassFile.FieldType.int)) ∈ lw_all := lw_g (lw_at lw_m7 137 rfl) rfl
theorem q1659 : (Jvm.Cond.methodLink "DishLiftModel" (277 : Nat) ({ cls := "DishLiftModel", name := "mark23", desc := "(I)I" } : Jvm.MethodName)) ∈ lw_all := lw_g (lw_at lw_m7 138 rfl) rfl
theorem q1660 : (Jvm.Cond.privateMethod ({ cls := "DishLiftModel", name := "mark23", desc := "(I)I" } : Jvm.MethodName)) ∈ lw_tbl := lw_at lw_m7 139 rfl
theorem q1661 : (Jvm.Cond.instanceMethod ({ cls := "DishLiftModel", name := "mark23", desc := "(I)I" } : Jvm.MethodName)) ∈ lw_all := lw_g (lw_at lw_m7 140 rfl) rfl
theorem q1662 : (Jvm.Cond.code ({ cls := "DishLiftModel", name := "mark23", desc := "(I)I" } : Jvm.MethodName) prog_16_method_85_code (3 : Nat) (Option.some Jvm.ClassFile.FieldType.int)) ∈ lw_all := lw_g (lw_at lw_m7 141 rfl) rfl
theorem q1664 : (Jvm.Cond.instanceMethod ({ cls := "DishLiftModel", name := "trace", desc := "(I)I" } : Jvm.MethodName)) ∈ lw_all := lw_g (lw_at lw_m7 143 rfl) rfl
theorem q1665 : (Jvm.Cond.selects "DishLiftModel" ({ cls := "DishLiftModel", name := "trace", desc := "(I)I" } : Jvm.MethodName) ({ cls := "DishLiftModel", name := "trace", desc := "(I)I" } : Jvm.MethodName)) ∈ lw_all := lw_g (lw_at lw_m7 144 rfl) rfl
theorem q1666 : (Jvm.Cond.code ({ cls := "DishLiftModel", name := "trace", desc := "(I)I" } : Jvm.MethodName) prog_16_method_87_code (2 : Nat) (Option.some Jvm.ClassFile.FieldType.int)) ∈ lw_all := lw_g (lw_at lw_m7 145 rfl) rfl
theorem q1668 : (Jvm.Cond.instanceMethod ({ cls := "DishLiftModel", name := "count", desc := "(I)I" } : Jvm.MethodName)) ∈ lw_all := lw_g (lw_at lw_m7 147 rfl) rfl
theorem q1669 : (Jvm.Cond.selects "DishLiftModel" ({ cls := "DishLiftModel", name := "count", desc := "(I)I" } : Jvm.MethodName) ({ cls := "DishLiftModel", name := "count", desc := "(I)I" } : Jvm.MethodName)) ∈ lw_all := lw_g (lw_at lw_m7 148 rfl) rfl
theorem q1670 : (Jvm.Cond.code ({ cls := "DishLiftModel", name := "count", desc := "(I)I" } : Jvm.MethodName) prog_16_method_90_code (2 : Nat) (Option.some Jvm.ClassFile.FieldType.int)) ∈ lw_all := lw_g (lw_at lw_m7 149 rfl) rfl
theorem q1671 : (Jvm.Cond.methodLink "DishLiftModel" (280 : Nat) ({ cls := "DishLiftModel", name := "rowsThere", desc := "()I" } : Jvm.MethodName)) ∈ lw_all := lw_g (lw_at lw_m7 150 rfl) rfl
theorem q1672 : (Jvm.Cond.privateMethod ({ cls := "DishLiftModel", name := "rowsThere", desc := "()I" } : Jvm.MethodName)) ∈ lw_tbl := lw_at lw_m7 151 rfl
theorem q1673 : (Jvm.Cond.instanceMethod ({ cls := "DishLiftModel", name := "rowsThere", desc := "()I" } : Jvm.MethodName)) ∈ lw_all := lw_g (lw_at lw_m7 152 rfl) rfl
theorem q1674 : (Jvm.Cond.code ({ cls := "DishLiftModel", name := "rowsThere", desc := "()I" } : Jvm.MethodName) prog_16_method_88_code (3 : Nat) (Option.some Jvm.ClassFile.FieldType.int)) ∈ lw_all := lw_g (lw_at lw_m7 153 rfl) rfl
theorem q1675 : (Jvm.Cond.methodLink "DishLiftModel" (283 : Nat) ({ cls := "DishLiftModel", name := "waiting", desc := "()I" } : Jvm.MethodName)) ∈ lw_all := lw_g (lw_at lw_m7 154 rfl) rfl
theorem q1676 : (Jvm.Cond.privateMethod ({ cls := "DishLiftModel", name := "waiting", desc := "()I" } : Jvm.MethodName)) ∈ lw_tbl := lw_at lw_m7 155 rfl
theorem q1677 : (Jvm.Cond.instanceMethod ({ cls := "DishLiftModel", name := "waiting", desc := "()I" } : Jvm.MethodName)) ∈ lw_all := lw_g (lw_at lw_m7 156 rfl) rfl
theorem q1678 : (Jvm.Cond.code ({ cls := "DishLiftModel", name := "waiting", desc := "()I" } : Jvm.MethodName) prog_16_method_89_code (3 : Nat) (Option.some Jvm.ClassFile.FieldType.int)) ∈ lw_all := lw_g (lw_at lw_m7 157 rfl) rfl
theorem q1680 : (Jvm.Cond.instanceMethod ({ cls := "DishLiftModel", name := "status", desc := "()I" } : Jvm.MethodName)) ∈ lw_all := lw_g (lw_at lw_m7 159 rfl) rfl
theorem q1681 : (Jvm.Cond.selects "DishLiftModel" ({ cls := "DishLiftModel", name := "status", desc := "()I" } : Jvm.MethodName) ({ cls := "DishLiftModel", name := "status", desc := "()I" } : Jvm.MethodName)) ∈ lw_all := lw_g (lw_at lw_m7 160 rfl) rfl
theorem q1682 : (Jvm.Cond.code ({ cls := "DishLiftModel", name := "status", desc := "()I" } : Jvm.MethodName) prog_16_method_91_code (1 : Nat) (Option.some Jvm.ClassFile.FieldType.int)) ∈ lw_all := lw_g (lw_at lw_m7 161 rfl) rfl
theorem q1711 : (Jvm.Cond.castable "DishLiftModel" "java/lang/Object") ∈ lw_tbl := lw_at lw_m7 190 rfl
theorem in_X9 : ∀ w ∈ wsX90, w ∈ lw_all := lw_in wsX90 [1267, 1269, 1271, 1273, 1275, 1277, 1279, 1281, 1283, 1285, 1287, 1289, 1291, 1293, 1295, 1297, 1299, 1301, 1303] (by decide +kernel) (by decide +kernel)

